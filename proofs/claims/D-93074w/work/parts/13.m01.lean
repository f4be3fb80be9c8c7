/-! the reference: walks -/
set_option maxRecDepth 100000
def f_X9_addCase (x1 : Int32) (x2 : Int32) (x3 : Int32) (I : II) : Option II := oix (I 27 8) 90 fun i9 => oix ((up2 I 32 i9 x1) 27 8) 90 fun i19 => oix ((up2 (up2 I 32 i9 x1) 33 i19 x2) 27 8) 90 fun i29 => some (up2 (up2 (up2 (up2 I 32 i9 x1) 33 i19 x2) 34 i29 x3) 27 8 (((up2 (up2 (up2 I 32 i9 x1) 33 i19 x2) 34 i29 x3) 27 8) + (nI 1)))
abbrev rm_X9_addCase : Room := { frames := 0, cells := 0, slots := 0, locals := 0 }
theorem mv_X9_addCase : MV yX9_addCase cX9_addCase 4 none 3 := ⟨q1995, qs45, q106, q1996, by decide +kernel⟩
set_option maxHeartbeats 4000000 in
theorem ct_X9_addCase {G : WG} {l : Launch} {sh : SH} (hS : StM sh) {I : II} {x1 : Int32} {x2 : Int32} {x3 : Int32} {I9 : II} (hk : f_X9_addCase x1 x2 x3 I = some I9) : CT G l yX9_addCase (ws_ yX9_addCase cX9_addCase 4 none) rm_X9_addCase [.ref (wad G 27), .int x1, .int x2, .int x3] (sh, I) (.returned none) (sh, I9) := by
  refine CT.ofJ "NineDemandsModel" rfl (by decide) (Nat.le_of_ble_eq_true rfl) ?_
  intro p e s m args below meth c C
  unfold f_X9_addCase at hk
  refine j_lv (lv' := [some (.ref (wad G 27)), some (.int x1), some (.int x2), some (.int x3)]) rfl ?_
  refine j_aload_n (pc := 0) C dX9_addCase_0 rfl rfl ?_
  refine j_getR (pc := 1) C fd_10_5 q2005 (stM_o hS) (stM_r5 hS) dX9_addCase_1 ?_
  refine j_aload_n (pc := 4) C dX9_addCase_4 rfl rfl ?_
  refine j_getI (pc := 5) C fd_10_8 q2008 (stM_o hS) dX9_addCase_5 ?_
  refine j_iload_n (pc := 8) C dX9_addCase_8 rfl rfl ?_
  obtain ⟨i9, e9, h1, hk⟩ := oix_ex hk
  refine j_iast (pc := 9) C (stM_a32 hS) h1 e9 dX9_addCase_9 ?_
  refine j_aload_n (pc := 10) C dX9_addCase_10 rfl rfl ?_
  refine j_getR (pc := 11) C fd_10_6 q2006 (stM_o hS) (stM_r6 hS) dX9_addCase_11 ?_
  refine j_aload_n (pc := 14) C dX9_addCase_14 rfl rfl ?_
  refine j_getI (pc := 15) C fd_10_8 q2008 (stM_o hS) dX9_addCase_15 ?_
  refine j_iload_n (pc := 18) C dX9_addCase_18 rfl rfl ?_
  obtain ⟨i19, e19, h2, hk⟩ := oix_ex hk
  refine j_iast (pc := 19) C (stM_a33 hS) h2 e19 dX9_addCase_19 ?_
  refine j_aload_n (pc := 20) C dX9_addCase_20 rfl rfl ?_
  refine j_getR (pc := 21) C fd_10_7 q2007 (stM_o hS) (stM_r7 hS) dX9_addCase_21 ?_
  refine j_aload_n (pc := 24) C dX9_addCase_24 rfl rfl ?_
  refine j_getI (pc := 25) C fd_10_8 q2008 (stM_o hS) dX9_addCase_25 ?_
  refine j_iload_n (pc := 28) C dX9_addCase_28 rfl rfl ?_
  obtain ⟨i29, e29, h3, hk⟩ := oix_ex hk
  refine j_iast (pc := 29) C (stM_a34 hS) h3 e29 dX9_addCase_29 ?_
  refine j_aload_n (pc := 30) C dX9_addCase_30 rfl rfl ?_
  refine j_dup (pc := 31) C dX9_addCase_31 rfl ?_
  refine j_getI (pc := 32) C fd_10_8 q2008 (stM_o hS) dX9_addCase_32 ?_
  refine j_iconst (pc := 35) (v := nI 1) C dX9_addCase_35 (by decide) ?_
  refine j_iadd (pc := 36) C dX9_addCase_36 ?_
  refine j_putI (pc := 37) C fd_10_8 (C.2.2.2.2.1 _ q2008) (stM_o hS) rfl rfl dX9_addCase_37 ?_
  exact j_vretW (pc := 40) C dX9_addCase_40 (Nat.le_of_ble_eq_true rfl) (Nat.le_of_ble_eq_true rfl) hk
def f_X9_size (x0 : Int32) : Option Int32 := if (nI 4) ≤ x0 then some (nI 3) else some (nI 2)
abbrev rm_X9_size : Room := { frames := 0, cells := 0, slots := 0, locals := 0 }
theorem ms_X9_size : MS yX9_size cX9_size 1 (some .int) 1 := ⟨q1988, q106, q1989, by decide +kernel⟩
set_option maxHeartbeats 4000000 in
theorem ct_X9_size {G : WG} {l : Launch} {sh : SH} {I : II} {x0 : Int32} {r : Int32} (hk : f_X9_size x0 = some r) : CT G l yX9_size (ws_ yX9_size cX9_size 1 (some .int)) rm_X9_size [.int x0] (sh, I) (.returned (some (.int r))) (sh, I) := by
  refine CT.ofJ "NineDemandsModel" rfl (by decide) (Nat.le_of_ble_eq_true rfl) ?_
  intro p e s m args below meth c C
  unfold f_X9_size at hk
  refine j_lv (lv' := [some (.int x0)]) rfl ?_
  refine j_iload_n (pc := 0) C dX9_size_0 rfl rfl ?_
  refine j_iconst (pc := 1) (v := nI 4) C dX9_size_1 (by decide) ?_
  refine j_icmp_ge (pc := 2) 9 C dX9_size_2 (by decide) (fun h1 => ?_) (fun h1 => ?_)
  · have hk := it_t h1 hk
    refine j_iconst (pc := 9) (v := nI 3) C dX9_size_9 (by decide) ?_
    exact j_iretR (pc := 10) C dX9_size_10 (Nat.le_of_ble_eq_true rfl) (Nat.le_of_ble_eq_true rfl) hk
  · have hk := it_f h1 hk
    refine j_iconst (pc := 5) (v := nI 2) C dX9_size_5 (by decide) ?_
    refine j_goto (pc := 6) 10 C dX9_size_6 (by decide) ?_
    exact j_iretR (pc := 10) C dX9_size_10 (Nat.le_of_ble_eq_true rfl) (Nat.le_of_ble_eq_true rfl) hk
def f_X9_turned (x0 : Int32) (x1 : Int32) : Option Int32 := if (nI 4) ≤ x0 then some (((x0 - (nI 4)) ^^^ x1) + (nI 4)) else some (x0 ^^^ x1)
abbrev rm_X9_turned : Room := { frames := 0, cells := 0, slots := 0, locals := 0 }
theorem ms_X9_turned : MS yX9_turned cX9_turned 2 (some .int) 2 := ⟨q1991, q106, q1992, by decide +kernel⟩
set_option maxHeartbeats 4000000 in
theorem ct_X9_turned {G : WG} {l : Launch} {sh : SH} {I : II} {x0 : Int32} {x1 : Int32} {r : Int32} (hk : f_X9_turned x0 x1 = some r) : CT G l yX9_turned (ws_ yX9_turned cX9_turned 2 (some .int)) rm_X9_turned [.int x0, .int x1] (sh, I) (.returned (some (.int r))) (sh, I) := by
  refine CT.ofJ "NineDemandsModel" rfl (by decide) (Nat.le_of_ble_eq_true rfl) ?_
  intro p e s m args below meth c C
  unfold f_X9_turned at hk
  refine j_lv (lv' := [some (.int x0), some (.int x1)]) rfl ?_
  refine j_iload_n (pc := 0) C dX9_turned_0 rfl rfl ?_
  refine j_iconst (pc := 1) (v := nI 4) C dX9_turned_1 (by decide) ?_
  refine j_icmp_ge (pc := 2) 11 C dX9_turned_2 (by decide) (fun h1 => ?_) (fun h1 => ?_)
  · have hk := it_t h1 hk
    refine j_iload_n (pc := 11) C dX9_turned_11 rfl rfl ?_
    refine j_iconst (pc := 12) (v := nI 4) C dX9_turned_12 (by decide) ?_
    refine j_isub (pc := 13) C dX9_turned_13 ?_
    refine j_iload_n (pc := 14) C dX9_turned_14 rfl rfl ?_
    refine j_ixor (pc := 15) C dX9_turned_15 ?_
    refine j_iconst (pc := 16) (v := nI 4) C dX9_turned_16 (by decide) ?_
    refine j_iadd (pc := 17) C dX9_turned_17 ?_
    exact j_iretR (pc := 18) C dX9_turned_18 (Nat.le_of_ble_eq_true rfl) (Nat.le_of_ble_eq_true rfl) hk
  · have hk := it_f h1 hk
    refine j_iload_n (pc := 5) C dX9_turned_5 rfl rfl ?_
    refine j_iload_n (pc := 6) C dX9_turned_6 rfl rfl ?_
    refine j_ixor (pc := 7) C dX9_turned_7 ?_
    refine j_goto (pc := 8) 18 C dX9_turned_8 (by decide) ?_
    exact j_iretR (pc := 18) C dX9_turned_18 (Nat.le_of_ble_eq_true rfl) (Nat.le_of_ble_eq_true rfl) hk
def f_X9_wants (x0 : Int32) (x1 : Int32) : Option Int32 := (f_X9_size x0).bind fun r2 => if x1 < r2 then if (nI 4) ≤ x0 then some (((x0 - (nI 4)) >>> (x1 &&& 31)) &&& (nI 1)) else some ((x0 >>> (x1 &&& 31)) &&& (nI 1)) else some (nI 2)
abbrev rm_X9_wants : Room := { frames := 1, cells := 0, slots := 0, locals := 20 }
theorem ms_X9_wants : MS yX9_wants cX9_wants 2 (some .int) 2 := ⟨q1998, q106, q1999, by decide +kernel⟩
set_option maxHeartbeats 4000000 in
theorem ct_X9_wants {G : WG} {l : Launch} {sh : SH} {I : II} {x0 : Int32} {x1 : Int32} {r : Int32} (hk : f_X9_wants x0 x1 = some r) : CT G l yX9_wants (ws_ yX9_wants cX9_wants 2 (some .int)) rm_X9_wants [.int x0, .int x1] (sh, I) (.returned (some (.int r))) (sh, I) := by
  refine CT.ofJ "NineDemandsModel" rfl (by decide) (Nat.le_of_ble_eq_true rfl) ?_
  intro p e s m args below meth c C
  unfold f_X9_wants at hk
  refine j_lv (lv' := [some (.int x0), some (.int x1)]) rfl ?_
  refine j_iload_n (pc := 0) C dX9_wants_0 rfl rfl ?_
  refine j_iload_n (pc := 1) C dX9_wants_1 rfl rfl ?_
  obtain ⟨r2, h1, hk⟩ := ob_some hk
  refine j_callS (pc := 2) C (ct_X9_size h1) ms_X9_size q1987 dX9_wants_2 rfl rfl (Nat.le_of_ble_eq_true rfl) rfl ?_
  refine j_icmp_lt (pc := 5) 12 C dX9_wants_5 (by decide) (fun h2 => ?_) (fun h2 => ?_)
  · have hk := it_t h2 hk
    refine j_iload_n (pc := 12) C dX9_wants_12 rfl rfl ?_
    refine j_iconst (pc := 13) (v := nI 4) C dX9_wants_13 (by decide) ?_
    refine j_icmp_ge (pc := 14) 21 C dX9_wants_14 (by decide) (fun h3 => ?_) (fun h3 => ?_)
    · have hk := it_t h3 hk
      refine j_iload_n (pc := 21) C dX9_wants_21 rfl rfl ?_
      refine j_iconst (pc := 22) (v := nI 4) C dX9_wants_22 (by decide) ?_
      refine j_isub (pc := 23) C dX9_wants_23 ?_
      refine j_iload_n (pc := 24) C dX9_wants_24 rfl rfl ?_
      refine j_ishr (pc := 25) C dX9_wants_25 ?_
      refine j_iconst (pc := 26) (v := nI 1) C dX9_wants_26 (by decide) ?_
      refine j_iand (pc := 27) C dX9_wants_27 ?_
      exact j_iretR (pc := 28) C dX9_wants_28 (Nat.le_of_ble_eq_true rfl) (Nat.le_of_ble_eq_true rfl) hk
    · have hk := it_f h3 hk
      refine j_iload_n (pc := 17) C dX9_wants_17 rfl rfl ?_
      refine j_goto (pc := 18) 24 C dX9_wants_18 (by decide) ?_
      refine j_iload_n (pc := 24) C dX9_wants_24 rfl rfl ?_
      refine j_ishr (pc := 25) C dX9_wants_25 ?_
      refine j_iconst (pc := 26) (v := nI 1) C dX9_wants_26 (by decide) ?_
      refine j_iand (pc := 27) C dX9_wants_27 ?_
      exact j_iretR (pc := 28) C dX9_wants_28 (Nat.le_of_ble_eq_true rfl) (Nat.le_of_ble_eq_true rfl) hk
  · have hk := it_f h2 hk
    refine j_iconst (pc := 8) (v := nI 2) C dX9_wants_8 (by decide) ?_
    refine j_goto (pc := 9) 28 C dX9_wants_9 (by decide) ?_
    exact j_iretR (pc := 28) C dX9_wants_28 (Nat.le_of_ble_eq_true rfl) (Nat.le_of_ble_eq_true rfl) hk
def f_X9_addCases_L34 (F : Nat) (x2 : Int32) : Nat → Int32 → II → Option II
  | 0, _, _ => none
  | n34 + 1, x3, I => (f_X9_size x2).bind fun r36 => if r36 ≤ x3 then some I else (f_X9_turned x2 ((nI 1) <<< (x3 &&& 31))).bind fun r48 => (f_X9_addCase x2 r48 x3 I).bind fun I52 => (f_X9_addCases_L34 F x2 n34) (x3 + (nI 1)) I52
def f_X9_addCases_L79 (F : Nat) (k66 : Int32 → II → Option II) (x2 : Int32) (x3 : Int32) : Nat → Int32 → II → Option II
  | 0, _, _ => none
  | n79 + 1, x4, I => (f_X9_size x2).bind fun r82 => if r82 ≤ x4 then k66 (x3 + (nI 1)) I else (f_X9_wants x2 x3).bind fun r90 => (f_X9_wants x2 x4).bind fun r96 => if r90 = r96 then (f_X9_addCases_L79 F k66 x2 x3 n79) (x4 + (nI 1)) I else (f_X9_turned x2 (((nI 1) <<< (x3 &&& 31)) ||| ((nI 1) <<< (x4 &&& 31)))).bind fun r113 => (f_X9_addCase x2 r113 x3 I).bind fun I117 => (f_X9_addCases_L79 F k66 x2 x3 n79) (x4 + (nI 1)) I117
def f_X9_addCases_L66 (F : Nat) (x2 : Int32) : Nat → Int32 → II → Option II
  | 0, _, _ => none
  | n66 + 1, x3, I => (f_X9_size x2).bind fun r68 => if r68 ≤ x3 then some I else f_X9_addCases_L79 F (f_X9_addCases_L66 F x2 n66) x2 x3 F (x3 + (nI 1)) I
def f_X9_addCases (F : Nat) (x1 : Int32) (x2 : Int32) (I : II) : Option II := if x1 = nI 1 then f_X9_addCases_L34 F x2 F (nI 0) I else if x1 = nI 2 then f_X9_addCases_L66 F x2 F (nI 0) I else if x1 = nI 3 then (f_X9_size x2).bind fun r140 => (f_X9_turned x2 (((nI 1) <<< (r140 &&& 31)) - (nI 1))).bind fun r146 => (f_X9_addCase x2 r146 (nI 0) I).bind fun I150 => some I150 else if x1 = nI 4 then if (nI 4) ≤ x2 then some I else (f_X9_addCase x2 ((nI 4) + x2) (nI 2) I).bind fun I167 => (f_X9_addCase x2 ((nI 8) + x2) (nI 2) I167).bind fun I177 => some I177 else (f_X9_addCase x2 (-1) (nI 0) I).bind fun I187 => some I187
abbrev rm_X9_addCases : Room := { frames := 2, cells := 0, slots := 0, locals := 41 }
theorem mv_X9_addCases : MV yX9_addCases cX9_addCases 5 none 2 := ⟨q1985, qs44, q106, q1986, by decide +kernel⟩
set_option maxHeartbeats 4000000 in
theorem ct_X9_addCases {G : WG} {l : Launch} {sh : SH} (hS : StM sh) {I : II} {F : Nat} {x1 : Int32} {x2 : Int32} {I9 : II} (hk : f_X9_addCases F x1 x2 I = some I9) : CT G l yX9_addCases (ws_ yX9_addCases cX9_addCases 5 none) rm_X9_addCases [.ref (wad G 27), .int x1, .int x2] (sh, I) (.returned none) (sh, I9) := by
  refine CT.ofJ "NineDemandsModel" rfl (by decide) (Nat.le_of_ble_eq_true rfl) ?_
  intro p e s m args below meth c C
  unfold f_X9_addCases at hk
  refine j_lv (lv' := [some (.ref (wad G 27)), some (.int x1), some (.int x2), none, none]) rfl ?_
  refine j_iload_n (pc := 0) C dX9_addCases_0 rfl rfl ?_
  by_cases h1 : x1 = nI 1
  · have hk := it_t h1 hk
    refine j_tableIn (pc := 1) 32 1 C dX9_addCases_1 (sw_in h1 (by decide)) (by decide) (by decide) rfl (by decide) ?_
    refine j_iconst (pc := 32) (v := nI 0) C dX9_addCases_32 (by decide) ?_
    refine j_istore_n (pc := 33) C dX9_addCases_33 rfl (Nat.le_of_ble_eq_true rfl) rfl ?_
    have L34 : ∀ (x2 : Int32) (n34 : Nat) (x3 : Int32) (I : II), f_X9_addCases_L34 F x2 n34 x3 I = some I9 → J G p l e rm_X9_addCases s m args below meth c 5 (.returned none) (sh, I9) (rm_X9_addCases).cells (rm_X9_addCases).slots (sh, I) 0 0 34 [some (.ref (wad G 27)), none, some (.int x2), some (.int x3), none] [] := by
      intro x2 n34
      induction n34 with
      | zero => intro x3 I hk; rw [f_X9_addCases_L34] at hk; cases hk
      | succ n34 ih34 =>
        intro x3 I hk
        rw [f_X9_addCases_L34] at hk
        generalize f_X9_addCases_L34 F x2 n34 = k34 at ih34 hk
        refine j_iload_n (pc := 34) C dX9_addCases_34 rfl rfl ?_
        refine j_iload_n (pc := 35) C dX9_addCases_35 rfl rfl ?_
        obtain ⟨r36, h2, hk⟩ := ob_some hk
        refine j_callS (pc := 36) C (ct_X9_size h2) ms_X9_size q1987 dX9_addCases_36 rfl rfl (Nat.le_of_ble_eq_true rfl) rfl ?_
        refine j_icmp_ge (pc := 39) 61 C dX9_addCases_39 (by decide) (fun h3 => ?_) (fun h3 => ?_)
        · have hk := it_t h3 hk
          refine j_goto (pc := 61) 190 C dX9_addCases_61 (by decide) ?_
          exact j_vretW (pc := 190) C dX9_addCases_190 (Nat.le_of_ble_eq_true rfl) (Nat.le_of_ble_eq_true rfl) hk
        · have hk := it_f h3 hk
          refine j_aload_n (pc := 42) C dX9_addCases_42 rfl rfl ?_
          refine j_iload_n (pc := 43) C dX9_addCases_43 rfl rfl ?_
          refine j_iload_n (pc := 44) C dX9_addCases_44 rfl rfl ?_
          refine j_iconst (pc := 45) (v := nI 1) C dX9_addCases_45 (by decide) ?_
          refine j_iload_n (pc := 46) C dX9_addCases_46 rfl rfl ?_
          refine j_ishl (pc := 47) C dX9_addCases_47 ?_
          obtain ⟨r48, h4, hk⟩ := ob_some hk
          refine j_callS (pc := 48) C (ct_X9_turned h4) ms_X9_turned q1990 dX9_addCases_48 rfl rfl (Nat.le_of_ble_eq_true rfl) rfl ?_
          refine j_iload_n (pc := 51) C dX9_addCases_51 rfl rfl ?_
          obtain ⟨I52, h5, hk⟩ := ob_some hk
          refine j_callV (pc := 52) C (ct_X9_addCase hS h5) mv_X9_addCase (stM_o hS) rfl rfl q1993 dX9_addCases_52 rfl rfl (Nat.le_of_ble_eq_true rfl) rfl ?_
          refine j_iinc (pc := 55) (nI 1) C dX9_addCases_55 rfl (by decide) (Nat.le_of_ble_eq_true rfl) rfl ?_
          refine j_goto (pc := 58) 34 C dX9_addCases_58 (by decide) ?_
          exact j_mask [true, false, true, true, false] (ih34 _ _ hk)
    exact j_mask [true, false, true, true, false] (L34 _ _ _ _ hk)
  have hk := it_f h1 hk
  by_cases h6 : x1 = nI 2
  · have hk := it_t h6 hk
    refine j_tableIn (pc := 1) 64 2 C dX9_addCases_1 (sw_in h6 (by decide)) (by decide) (by decide) rfl (by decide) ?_
    refine j_iconst (pc := 64) (v := nI 0) C dX9_addCases_64 (by decide) ?_
    refine j_istore_n (pc := 65) C dX9_addCases_65 rfl (Nat.le_of_ble_eq_true rfl) rfl ?_
    have L66 : ∀ (x2 : Int32) (n66 : Nat) (x3 : Int32) (I : II), f_X9_addCases_L66 F x2 n66 x3 I = some I9 → J G p l e rm_X9_addCases s m args below meth c 5 (.returned none) (sh, I9) (rm_X9_addCases).cells (rm_X9_addCases).slots (sh, I) 0 0 66 [some (.ref (wad G 27)), none, some (.int x2), some (.int x3), none] [] := by
      intro x2 n66
      induction n66 with
      | zero => intro x3 I hk; rw [f_X9_addCases_L66] at hk; cases hk
      | succ n66 ih66 =>
        intro x3 I hk
        rw [f_X9_addCases_L66] at hk
        generalize f_X9_addCases_L66 F x2 n66 = k66 at ih66 hk
        refine j_iload_n (pc := 66) C dX9_addCases_66 rfl rfl ?_
        refine j_iload_n (pc := 67) C dX9_addCases_67 rfl rfl ?_
        obtain ⟨r68, h7, hk⟩ := ob_some hk
        refine j_callS (pc := 68) C (ct_X9_size h7) ms_X9_size q1987 dX9_addCases_68 rfl rfl (Nat.le_of_ble_eq_true rfl) rfl ?_
        refine j_icmp_ge (pc := 71) 132 C dX9_addCases_71 (by decide) (fun h8 => ?_) (fun h8 => ?_)
        · have hk := it_t h8 hk
          refine j_goto (pc := 132) 190 C dX9_addCases_132 (by decide) ?_
          exact j_vretW (pc := 190) C dX9_addCases_190 (Nat.le_of_ble_eq_true rfl) (Nat.le_of_ble_eq_true rfl) hk
        · have hk := it_f h8 hk
          refine j_iload_n (pc := 74) C dX9_addCases_74 rfl rfl ?_
          refine j_iconst (pc := 75) (v := nI 1) C dX9_addCases_75 (by decide) ?_
          refine j_iadd (pc := 76) C dX9_addCases_76 ?_
          refine j_istore (pc := 77) C dX9_addCases_77 (Nat.le_of_ble_eq_true rfl) rfl ?_
          have L79 : ∀ (x3 : Int32) (n79 : Nat) (x4 : Int32) (I : II), f_X9_addCases_L79 F k66 x2 x3 n79 x4 I = some I9 → J G p l e rm_X9_addCases s m args below meth c 5 (.returned none) (sh, I9) (rm_X9_addCases).cells (rm_X9_addCases).slots (sh, I) 0 0 79 [some (.ref (wad G 27)), none, some (.int x2), some (.int x3), some (.int x4)] [] := by
            intro x3 n79
            induction n79 with
            | zero => intro x4 I hk; rw [f_X9_addCases_L79] at hk; cases hk
            | succ n79 ih79 =>
              intro x4 I hk
              rw [f_X9_addCases_L79] at hk
              generalize f_X9_addCases_L79 F k66 x2 x3 n79 = k79 at ih79 hk
              refine j_iload (pc := 79) C dX9_addCases_79 rfl ?_
              refine j_iload_n (pc := 81) C dX9_addCases_81 rfl rfl ?_
              obtain ⟨r82, h9, hk⟩ := ob_some hk
              refine j_callS (pc := 82) C (ct_X9_size h9) ms_X9_size q1987 dX9_addCases_82 rfl rfl (Nat.le_of_ble_eq_true rfl) rfl ?_
              refine j_icmp_ge (pc := 85) 126 C dX9_addCases_85 (by decide) (fun h10 => ?_) (fun h10 => ?_)
              · have hk := it_t h10 hk
                refine j_iinc (pc := 126) (nI 1) C dX9_addCases_126 rfl (by decide) (Nat.le_of_ble_eq_true rfl) rfl ?_
                refine j_goto (pc := 129) 66 C dX9_addCases_129 (by decide) ?_
                exact j_mask [true, false, true, true, false] (ih66 _ _ hk)
              · have hk := it_f h10 hk
                refine j_iload_n (pc := 88) C dX9_addCases_88 rfl rfl ?_
                refine j_iload_n (pc := 89) C dX9_addCases_89 rfl rfl ?_
                obtain ⟨r90, h11, hk⟩ := ob_some hk
                refine j_callS (pc := 90) C (ct_X9_wants h11) ms_X9_wants q1997 dX9_addCases_90 rfl rfl (Nat.le_of_ble_eq_true rfl) rfl ?_
                refine j_iload_n (pc := 93) C dX9_addCases_93 rfl rfl ?_
                refine j_iload (pc := 94) C dX9_addCases_94 rfl ?_
                obtain ⟨r96, h12, hk⟩ := ob_some hk
                refine j_callS (pc := 96) C (ct_X9_wants h12) ms_X9_wants q1997 dX9_addCases_96 rfl rfl (Nat.le_of_ble_eq_true rfl) rfl ?_
                refine j_icmp_eq (pc := 99) 120 C dX9_addCases_99 (by decide) (fun h13 => ?_) (fun h13 => ?_)
                · have hk := it_t h13 hk
                  refine j_iinc (pc := 120) (nI 1) C dX9_addCases_120 rfl (by decide) (Nat.le_of_ble_eq_true rfl) rfl ?_
                  refine j_goto (pc := 123) 79 C dX9_addCases_123 (by decide) ?_
                  exact j_mask [true, false, true, true, true] (ih79 _ _ hk)
                · have hk := it_f h13 hk
                  refine j_aload_n (pc := 102) C dX9_addCases_102 rfl rfl ?_
                  refine j_iload_n (pc := 103) C dX9_addCases_103 rfl rfl ?_
                  refine j_iload_n (pc := 104) C dX9_addCases_104 rfl rfl ?_
                  refine j_iconst (pc := 105) (v := nI 1) C dX9_addCases_105 (by decide) ?_
                  refine j_iload_n (pc := 106) C dX9_addCases_106 rfl rfl ?_
                  refine j_ishl (pc := 107) C dX9_addCases_107 ?_
                  refine j_iconst (pc := 108) (v := nI 1) C dX9_addCases_108 (by decide) ?_
                  refine j_iload (pc := 109) C dX9_addCases_109 rfl ?_
                  refine j_ishl (pc := 111) C dX9_addCases_111 ?_
                  refine j_ior (pc := 112) C dX9_addCases_112 ?_
                  obtain ⟨r113, h14, hk⟩ := ob_some hk
                  refine j_callS (pc := 113) C (ct_X9_turned h14) ms_X9_turned q1990 dX9_addCases_113 rfl rfl (Nat.le_of_ble_eq_true rfl) rfl ?_
                  refine j_iload_n (pc := 116) C dX9_addCases_116 rfl rfl ?_
                  obtain ⟨I117, h15, hk⟩ := ob_some hk
                  refine j_callV (pc := 117) C (ct_X9_addCase hS h15) mv_X9_addCase (stM_o hS) rfl rfl q1993 dX9_addCases_117 rfl rfl (Nat.le_of_ble_eq_true rfl) rfl ?_
                  refine j_iinc (pc := 120) (nI 1) C dX9_addCases_120 rfl (by decide) (Nat.le_of_ble_eq_true rfl) rfl ?_
                  refine j_goto (pc := 123) 79 C dX9_addCases_123 (by decide) ?_
                  exact j_mask [true, false, true, true, true] (ih79 _ _ hk)
          exact j_mask [true, false, true, true, true] (L79 _ _ _ _ hk)
    exact j_mask [true, false, true, true, false] (L66 _ _ _ _ hk)
  have hk := it_f h6 hk
  by_cases h16 : x1 = nI 3
  · have hk := it_t h16 hk
    refine j_tableIn (pc := 1) 135 3 C dX9_addCases_1 (sw_in h16 (by decide)) (by decide) (by decide) rfl (by decide) ?_
    refine j_aload_n (pc := 135) C dX9_addCases_135 rfl rfl ?_
    refine j_iload_n (pc := 136) C dX9_addCases_136 rfl rfl ?_
    refine j_iload_n (pc := 137) C dX9_addCases_137 rfl rfl ?_
    refine j_iconst (pc := 138) (v := nI 1) C dX9_addCases_138 (by decide) ?_
    refine j_iload_n (pc := 139) C dX9_addCases_139 rfl rfl ?_
    obtain ⟨r140, h17, hk⟩ := ob_some hk
    refine j_callS (pc := 140) C (ct_X9_size h17) ms_X9_size q1987 dX9_addCases_140 rfl rfl (Nat.le_of_ble_eq_true rfl) rfl ?_
    refine j_ishl (pc := 143) C dX9_addCases_143 ?_
    refine j_iconst (pc := 144) (v := nI 1) C dX9_addCases_144 (by decide) ?_
    refine j_isub (pc := 145) C dX9_addCases_145 ?_
    obtain ⟨r146, h18, hk⟩ := ob_some hk
    refine j_callS (pc := 146) C (ct_X9_turned h18) ms_X9_turned q1990 dX9_addCases_146 rfl rfl (Nat.le_of_ble_eq_true rfl) rfl ?_
    refine j_iconst (pc := 149) (v := nI 0) C dX9_addCases_149 (by decide) ?_
    obtain ⟨I150, h19, hk⟩ := ob_some hk
    refine j_callV (pc := 150) C (ct_X9_addCase hS h19) mv_X9_addCase (stM_o hS) rfl rfl q1993 dX9_addCases_150 rfl rfl (Nat.le_of_ble_eq_true rfl) rfl ?_
    refine j_goto (pc := 153) 190 C dX9_addCases_153 (by decide) ?_
    exact j_vretW (pc := 190) C dX9_addCases_190 (Nat.le_of_ble_eq_true rfl) (Nat.le_of_ble_eq_true rfl) hk
  have hk := it_f h16 hk
  by_cases h20 : x1 = nI 4
  · have hk := it_t h20 hk
    refine j_tableIn (pc := 1) 156 4 C dX9_addCases_1 (sw_in h20 (by decide)) (by decide) (by decide) rfl (by decide) ?_
    refine j_iload_n (pc := 156) C dX9_addCases_156 rfl rfl ?_
    refine j_iconst (pc := 157) (v := nI 4) C dX9_addCases_157 (by decide) ?_
    refine j_icmp_ge (pc := 158) 190 C dX9_addCases_158 (by decide) (fun h21 => ?_) (fun h21 => ?_)
    · have hk := it_t h21 hk
      exact j_vretW (pc := 190) C dX9_addCases_190 (Nat.le_of_ble_eq_true rfl) (Nat.le_of_ble_eq_true rfl) hk
    · have hk := it_f h21 hk
      refine j_aload_n (pc := 161) C dX9_addCases_161 rfl rfl ?_
      refine j_iload_n (pc := 162) C dX9_addCases_162 rfl rfl ?_
      refine j_iconst (pc := 163) (v := nI 4) C dX9_addCases_163 (by decide) ?_
      refine j_iload_n (pc := 164) C dX9_addCases_164 rfl rfl ?_
      refine j_iadd (pc := 165) C dX9_addCases_165 ?_
      refine j_iconst (pc := 166) (v := nI 2) C dX9_addCases_166 (by decide) ?_
      obtain ⟨I167, h22, hk⟩ := ob_some hk
      refine j_callV (pc := 167) C (ct_X9_addCase hS h22) mv_X9_addCase (stM_o hS) rfl rfl q1993 dX9_addCases_167 rfl rfl (Nat.le_of_ble_eq_true rfl) rfl ?_
      refine j_aload_n (pc := 170) C dX9_addCases_170 rfl rfl ?_
      refine j_iload_n (pc := 171) C dX9_addCases_171 rfl rfl ?_
      refine j_bipush (pc := 172) (v := nI 8) C dX9_addCases_172 (by decide) ?_
      refine j_iload_n (pc := 174) C dX9_addCases_174 rfl rfl ?_
      refine j_iadd (pc := 175) C dX9_addCases_175 ?_
      refine j_iconst (pc := 176) (v := nI 2) C dX9_addCases_176 (by decide) ?_
      obtain ⟨I177, h23, hk⟩ := ob_some hk
      refine j_callV (pc := 177) C (ct_X9_addCase hS h23) mv_X9_addCase (stM_o hS) rfl rfl q1993 dX9_addCases_177 rfl rfl (Nat.le_of_ble_eq_true rfl) rfl ?_
      refine j_goto (pc := 180) 190 C dX9_addCases_180 (by decide) ?_
      exact j_vretW (pc := 190) C dX9_addCases_190 (Nat.le_of_ble_eq_true rfl) (Nat.le_of_ble_eq_true rfl) hk
  have hk := it_f h20 hk
  refine j_tableOut (pc := 1) 183 C dX9_addCases_1 (sw_out (lo := 1) (hi := 4) (by decide) (fun j a1 a2 => by
    have a3 : j = 1 ∨ j = 2 ∨ j = 3 ∨ j = 4 := by omega
    rcases a3 with rfl | rfl | rfl | rfl
    · exact h1
    · exact h6
    · exact h16
    · exact h20)) (by decide) ?_
  refine j_aload_n (pc := 183) C dX9_addCases_183 rfl rfl ?_
  refine j_iload_n (pc := 184) C dX9_addCases_184 rfl rfl ?_
  refine j_iconst (pc := 185) (v := (-1)) C dX9_addCases_185 (by decide) ?_
  refine j_iconst (pc := 186) (v := nI 0) C dX9_addCases_186 (by decide) ?_
  obtain ⟨I187, h24, hk⟩ := ob_some hk
  refine j_callV (pc := 187) C (ct_X9_addCase hS h24) mv_X9_addCase (stM_o hS) rfl rfl q1993 dX9_addCases_187 rfl rfl (Nat.le_of_ble_eq_true rfl) rfl ?_
  exact j_vretW (pc := 190) C dX9_addCases_190 (Nat.le_of_ble_eq_true rfl) (Nat.le_of_ble_eq_true rfl) hk
def f_X9_finding (x1 : Int32) (I : II) : Option (Int32 × II) := oix ((-1000000) - x1) 6 fun i9 => oix ((-1000000) - x1) 6 fun i12 => some (x1, up2 I 30 i12 ((I 30 i9) + (nI 1)))
abbrev rm_X9_finding : Room := { frames := 0, cells := 0, slots := 0, locals := 0 }
theorem mv_X9_finding : MV yX9_finding cX9_finding 2 (some .int) 1 := ⟨q2113, qs46, q106, q2114, by decide +kernel⟩
set_option maxHeartbeats 4000000 in
theorem ct_X9_finding {G : WG} {l : Launch} {sh : SH} (hS : StM sh) {I : II} {x1 : Int32} {r : Int32} {I9 : II} (hk : f_X9_finding x1 I = some (r, I9)) : CT G l yX9_finding (ws_ yX9_finding cX9_finding 2 (some .int)) rm_X9_finding [.ref (wad G 27), .int x1] (sh, I) (.returned (some (.int r))) (sh, I9) := by
  refine CT.ofJ "NineDemandsModel" rfl (by decide) (Nat.le_of_ble_eq_true rfl) ?_
  intro p e s m args below meth c C
  unfold f_X9_finding at hk
  refine j_lv (lv' := [some (.ref (wad G 27)), some (.int x1)]) rfl ?_
  refine j_aload_n (pc := 0) C dX9_finding_0 rfl rfl ?_
  refine j_getR (pc := 1) C fd_10_3 q2003 (stM_o hS) (stM_r3 hS) dX9_finding_1 ?_
  refine j_ldc (pc := 4) (v := (-1000000)) C q2115 dX9_finding_4 ?_
  refine j_iload_n (pc := 6) C dX9_finding_6 rfl rfl ?_
  refine j_isub (pc := 7) C dX9_finding_7 ?_
  refine j_dup2 (pc := 8) C dX9_finding_8 rfl rfl ?_
  obtain ⟨i9, e9, h1, hk⟩ := oix_ex hk
  refine j_iald (pc := 9) C (stM_a30 hS) h1 e9 dX9_finding_9 ?_
  refine j_iconst (pc := 10) (v := nI 1) C dX9_finding_10 (by decide) ?_
  refine j_iadd (pc := 11) C dX9_finding_11 ?_
  obtain ⟨i12, e12, h2, hk⟩ := oix_ex hk
  refine j_iast (pc := 12) C (stM_a30 hS) h2 e12 dX9_finding_12 ?_
  refine j_iload_n (pc := 13) C dX9_finding_13 rfl rfl ?_
  exact j_iretW (pc := 14) C dX9_finding_14 (Nat.le_of_ble_eq_true rfl) (Nat.le_of_ble_eq_true rfl) hk
def f_X9_within (x0 : Int32) (x1 : Int32) (x2 : Int32) : Option Int32 := if x0 < x1 then some (nI 0) else if x2 < x0 then some (nI 0) else some (nI 1)
abbrev rm_X9_within : Room := { frames := 0, cells := 0, slots := 0, locals := 0 }
theorem ms_X9_within : MS yX9_within cX9_within 3 (some .boolean) 3 := ⟨q2108, q106, q2109, by decide +kernel⟩
set_option maxHeartbeats 4000000 in
theorem ct_X9_within {G : WG} {l : Launch} {sh : SH} {I : II} {x0 : Int32} {x1 : Int32} {x2 : Int32} {r : Int32} (hk : f_X9_within x0 x1 x2 = some r) : CT G l yX9_within (ws_ yX9_within cX9_within 3 (some .boolean)) rm_X9_within [.int x0, .int x1, .int x2] (sh, I) (.returned (some (.int r))) (sh, I) := by
  refine CT.ofJ "NineDemandsModel" rfl (by decide) (Nat.le_of_ble_eq_true rfl) ?_
  intro p e s m args below meth c C
  unfold f_X9_within at hk
  refine j_lv (lv' := [some (.int x0), some (.int x1), some (.int x2)]) rfl ?_
  refine j_iload_n (pc := 0) C dX9_within_0 rfl rfl ?_
  refine j_iload_n (pc := 1) C dX9_within_1 rfl rfl ?_
  refine j_icmp_lt (pc := 2) 14 C dX9_within_2 (by decide) (fun h1 => ?_) (fun h1 => ?_)
  · have hk := it_t h1 hk
    refine j_iconst (pc := 14) (v := nI 0) C dX9_within_14 (by decide) ?_
    exact j_zretR (pc := 15) C dX9_within_15 (Nat.le_of_ble_eq_true rfl) (Nat.le_of_ble_eq_true rfl) rfl hk
  · have hk := it_f h1 hk
    refine j_iload_n (pc := 5) C dX9_within_5 rfl rfl ?_
    refine j_iload_n (pc := 6) C dX9_within_6 rfl rfl ?_
    refine j_icmp_gt (pc := 7) 14 C dX9_within_7 (by decide) (fun h2 => ?_) (fun h2 => ?_)
    · have hk := it_t h2 hk
      refine j_iconst (pc := 14) (v := nI 0) C dX9_within_14 (by decide) ?_
      exact j_zretR (pc := 15) C dX9_within_15 (Nat.le_of_ble_eq_true rfl) (Nat.le_of_ble_eq_true rfl) rfl hk
    · have hk := it_f h2 hk
      refine j_iconst (pc := 10) (v := nI 1) C dX9_within_10 (by decide) ?_
      refine j_goto (pc := 11) 15 C dX9_within_11 (by decide) ?_
      exact j_zretR (pc := 15) C dX9_within_15 (Nat.le_of_ble_eq_true rfl) (Nat.le_of_ble_eq_true rfl) rfl hk
def f_X9_isHall (x0 : Int32) : Option Int32 := (f_X9_within x0 (nI 0) (nI 11)).bind fun r4 => og (r4 = 0 ∨ r4 = 1) (some r4)
abbrev rm_X9_isHall : Room := { frames := 1, cells := 0, slots := 0, locals := 22 }
theorem ms_X9_isHall : MS yX9_isHall cX9_isHall 1 (some .boolean) 1 := ⟨q2105, q106, q2106, by decide +kernel⟩
set_option maxHeartbeats 4000000 in
theorem ct_X9_isHall {G : WG} {l : Launch} {sh : SH} {I : II} {x0 : Int32} {r : Int32} (hk : f_X9_isHall x0 = some r) : CT G l yX9_isHall (ws_ yX9_isHall cX9_isHall 1 (some .boolean)) rm_X9_isHall [.int x0] (sh, I) (.returned (some (.int r))) (sh, I) := by
  refine CT.ofJ "NineDemandsModel" rfl (by decide) (Nat.le_of_ble_eq_true rfl) ?_
  intro p e s m args below meth c C
  unfold f_X9_isHall at hk
  refine j_lv (lv' := [some (.int x0)]) rfl ?_
  refine j_iload_n (pc := 0) C dX9_isHall_0 rfl rfl ?_
  refine j_iconst (pc := 1) (v := nI 0) C dX9_isHall_1 (by decide) ?_
  refine j_bipush (pc := 2) (v := nI 11) C dX9_isHall_2 (by decide) ?_
  obtain ⟨r4, h1, hk⟩ := ob_some hk
  refine j_callS (pc := 4) C (ct_X9_within h1) ms_X9_within q2107 dX9_isHall_4 rfl rfl (Nat.le_of_ble_eq_true rfl) rfl ?_
  obtain ⟨h2, hk⟩ := og_some hk
  exact j_zretR (pc := 7) C dX9_isHall_7 (Nat.le_of_ble_eq_true rfl) (Nat.le_of_ble_eq_true rfl) (isB.nar h2) hk
def f_X9_wanting_L4 (F : Nat) (x0 : Int32) (x1 : Int32) : Nat → Int32 → Int32 → Option Int32
  | 0, _, _ => none
  | n4 + 1, x2, x3 => (f_X9_size x0).bind fun r6 => if r6 ≤ x3 then some x2 else (f_X9_wants x0 x3).bind fun r15 => if r15 = x1 then (f_X9_wanting_L4 F x0 x1 n4) (x2 + (nI 1)) (x3 + (nI 1)) else (f_X9_wanting_L4 F x0 x1 n4) (x2 + (nI 0)) (x3 + (nI 1))
def f_X9_wanting (F : Nat) (x0 : Int32) (x1 : Int32) : Option Int32 := f_X9_wanting_L4 F x0 x1 F (nI 0) (nI 0)
abbrev rm_X9_wanting : Room := { frames := 2, cells := 0, slots := 0, locals := 41 }
theorem ms_X9_wanting : MS yX9_wanting cX9_wanting 4 (some .int) 2 := ⟨q2117, q106, q2118, by decide +kernel⟩
set_option maxHeartbeats 4000000 in
theorem ct_X9_wanting {G : WG} {l : Launch} {sh : SH} {I : II} {F : Nat} {x0 : Int32} {x1 : Int32} {r : Int32} (hk : f_X9_wanting F x0 x1 = some r) : CT G l yX9_wanting (ws_ yX9_wanting cX9_wanting 4 (some .int)) rm_X9_wanting [.int x0, .int x1] (sh, I) (.returned (some (.int r))) (sh, I) := by
  refine CT.ofJ "NineDemandsModel" rfl (by decide) (Nat.le_of_ble_eq_true rfl) ?_
  intro p e s m args below meth c C
  unfold f_X9_wanting at hk
  refine j_lv (lv' := [some (.int x0), some (.int x1), none, none]) rfl ?_
  refine j_iconst (pc := 0) (v := nI 0) C dX9_wanting_0 (by decide) ?_
  refine j_istore_n (pc := 1) C dX9_wanting_1 rfl (Nat.le_of_ble_eq_true rfl) rfl ?_
  refine j_iconst (pc := 2) (v := nI 0) C dX9_wanting_2 (by decide) ?_
  refine j_istore_n (pc := 3) C dX9_wanting_3 rfl (Nat.le_of_ble_eq_true rfl) rfl ?_
  have L4 : ∀ (x0 : Int32) (x1 : Int32) (n4 : Nat) (x2 : Int32) (x3 : Int32), f_X9_wanting_L4 F x0 x1 n4 x2 x3 = some r → J G p l e rm_X9_wanting s m args below meth c 4 (.returned (some (.int r))) (sh, I) (rm_X9_wanting).cells (rm_X9_wanting).slots (sh, I) 0 0 4 [some (.int x0), some (.int x1), some (.int x2), some (.int x3)] [] := by
    intro x0 x1 n4
    induction n4 with
    | zero => intro x2 x3 hk; rw [f_X9_wanting_L4] at hk; cases hk
    | succ n4 ih4 =>
      intro x2 x3 hk
      rw [f_X9_wanting_L4] at hk
      generalize f_X9_wanting_L4 F x0 x1 n4 = k4 at ih4 hk
      refine j_iload_n (pc := 4) C dX9_wanting_4 rfl rfl ?_
      refine j_iload_n (pc := 5) C dX9_wanting_5 rfl rfl ?_
      obtain ⟨r6, h1, hk⟩ := ob_some hk
      refine j_callS (pc := 6) C (ct_X9_size h1) ms_X9_size q1987 dX9_wanting_6 rfl rfl (Nat.le_of_ble_eq_true rfl) rfl ?_
      refine j_icmp_ge (pc := 9) 35 C dX9_wanting_9 (by decide) (fun h2 => ?_) (fun h2 => ?_)
      · have hk := it_t h2 hk
        refine j_iload_n (pc := 35) C dX9_wanting_35 rfl rfl ?_
        exact j_iretR (pc := 36) C dX9_wanting_36 (Nat.le_of_ble_eq_true rfl) (Nat.le_of_ble_eq_true rfl) hk
      · have hk := it_f h2 hk
        refine j_iload_n (pc := 12) C dX9_wanting_12 rfl rfl ?_
        refine j_iload_n (pc := 13) C dX9_wanting_13 rfl rfl ?_
        refine j_iload_n (pc := 14) C dX9_wanting_14 rfl rfl ?_
        obtain ⟨r15, h3, hk⟩ := ob_some hk
        refine j_callS (pc := 15) C (ct_X9_wants h3) ms_X9_wants q1997 dX9_wanting_15 rfl rfl (Nat.le_of_ble_eq_true rfl) rfl ?_
        refine j_iload_n (pc := 18) C dX9_wanting_18 rfl rfl ?_
        refine j_icmp_ne (pc := 19) 26 C dX9_wanting_19 (by decide) (fun h4 => ?_) (fun h4 => ?_)
        · have hk := it_f h4 hk
          refine j_iconst (pc := 26) (v := nI 0) C dX9_wanting_26 (by decide) ?_
          refine j_iadd (pc := 27) C dX9_wanting_27 ?_
          refine j_istore_n (pc := 28) C dX9_wanting_28 rfl (Nat.le_of_ble_eq_true rfl) rfl ?_
          refine j_iinc (pc := 29) (nI 1) C dX9_wanting_29 rfl (by decide) (Nat.le_of_ble_eq_true rfl) rfl ?_
          refine j_goto (pc := 32) 4 C dX9_wanting_32 (by decide) ?_
          exact j_mask [true, true, true, true] (ih4 _ _ hk)
        · have hk := it_t h4 hk
          refine j_iconst (pc := 22) (v := nI 1) C dX9_wanting_22 (by decide) ?_
          refine j_goto (pc := 23) 27 C dX9_wanting_23 (by decide) ?_
          refine j_iadd (pc := 27) C dX9_wanting_27 ?_
          refine j_istore_n (pc := 28) C dX9_wanting_28 rfl (Nat.le_of_ble_eq_true rfl) rfl ?_
          refine j_iinc (pc := 29) (nI 1) C dX9_wanting_29 rfl (by decide) (Nat.le_of_ble_eq_true rfl) rfl ?_
          refine j_goto (pc := 32) 4 C dX9_wanting_32 (by decide) ?_
          exact j_mask [true, true, true, true] (ih4 _ _ hk)
  exact j_mask [true, true, true, true] (L4 _ _ _ _ _ hk)
def f_X9_hall_J27 (F : Nat) (I : II) : Option (Int32 × II) := bd2 (f_X9_finding (-1000001) I) fun r30 I30 => some (r30, I30)
def f_X9_hall_J34 (F : Nat) (x1 : Int32) (x2 : Int32) (I : II) : Option (Int32 × II) := if x2 = 0 then (f_X9_size x1).bind fun r39 => some (r39, I) else if (nI 3) ≤ x2 then (f_X9_wants x1 (x2 - (nI 10))).bind fun r65 => some (r65, I) else (f_X9_wanting F x1 (x2 - (nI 1))).bind fun r54 => some (r54, I)
def f_X9_hall (F : Nat) (x1 : Int32) (x2 : Int32) (I : II) : Option (Int32 × II) := (f_X9_isHall x1).bind fun r1 => if r1 = 0 then f_X9_hall_J27 F I else (f_X9_within x2 (nI 0) (nI 2)).bind fun r10 => if r10 = 0 then (f_X9_within x2 (nI 10) (nI 12)).bind fun r21 => if r21 = 0 then f_X9_hall_J27 F I else f_X9_hall_J34 F x1 x2 I else f_X9_hall_J34 F x1 x2 I
abbrev rm_X9_hall : Room := { frames := 3, cells := 0, slots := 0, locals := 64 }
theorem mv_X9_hall : MV yX9_hall cX9_hall 3 (some .int) 2 := ⟨q2101, q2102, q106, q2103, by decide +kernel⟩
set_option maxHeartbeats 4000000 in
theorem ct_X9_hall {G : WG} {l : Launch} {sh : SH} (hS : StM sh) {I : II} {F : Nat} {x1 : Int32} {x2 : Int32} {r : Int32} {I9 : II} (hk : f_X9_hall F x1 x2 I = some (r, I9)) : CT G l yX9_hall (ws_ yX9_hall cX9_hall 3 (some .int)) rm_X9_hall [.ref (wad G 27), .int x1, .int x2] (sh, I) (.returned (some (.int r))) (sh, I9) := by
  refine CT.ofJ "NineDemandsModel" rfl (by decide) (Nat.le_of_ble_eq_true rfl) ?_
  intro p e s m args below meth c C
  unfold f_X9_hall at hk
  refine j_lv (lv' := [some (.ref (wad G 27)), some (.int x1), some (.int x2)]) rfl ?_
  refine j_iload_n (pc := 0) C dX9_hall_0 rfl rfl ?_
  obtain ⟨r1, h1, hk⟩ := ob_some hk
  refine j_callS (pc := 1) C (ct_X9_isHall h1) ms_X9_isHall q2104 dX9_hall_1 rfl rfl (Nat.le_of_ble_eq_true rfl) rfl ?_
  have Jn27 : ∀ (I : II), f_X9_hall_J27 F I = some (r, I9) → J G p l e rm_X9_hall s m args below meth c 3 (.returned (some (.int r))) (sh, I9) (rm_X9_hall).cells (rm_X9_hall).slots (sh, I) 0 0 27 [some (.ref (wad G 27)), none, none] [] := by
    intro I hk
    unfold f_X9_hall_J27 at hk
    refine j_aload_n (pc := 27) C dX9_hall_27 rfl rfl ?_
    refine j_ldc (pc := 28) (v := (-1000001)) C q2110 dX9_hall_28 ?_
    obtain ⟨r30, I30, h2, hk⟩ := bd2_some hk
    refine j_callV (pc := 30) C (ct_X9_finding hS h2) mv_X9_finding (stM_o hS) rfl rfl q2111 dX9_hall_30 rfl rfl (Nat.le_of_ble_eq_true rfl) rfl ?_
    exact j_iretW (pc := 33) C dX9_hall_33 (Nat.le_of_ble_eq_true rfl) (Nat.le_of_ble_eq_true rfl) hk
  refine j_if_eq (pc := 4) 27 C dX9_hall_4 (by decide) (fun h3 => ?_) (fun h3 => ?_)
  · have hk := it_t h3 hk
    exact j_mask [true, false, false] (Jn27 _ hk)
  · have hk := it_f h3 hk
    refine j_iload_n (pc := 7) C dX9_hall_7 rfl rfl ?_
    refine j_iconst (pc := 8) (v := nI 0) C dX9_hall_8 (by decide) ?_
    refine j_iconst (pc := 9) (v := nI 2) C dX9_hall_9 (by decide) ?_
    obtain ⟨r10, h4, hk⟩ := ob_some hk
    refine j_callS (pc := 10) C (ct_X9_within h4) ms_X9_within q2107 dX9_hall_10 rfl rfl (Nat.le_of_ble_eq_true rfl) rfl ?_
    have Jn34 : ∀ (x1 : Int32) (x2 : Int32) (I : II), f_X9_hall_J34 F x1 x2 I = some (r, I9) → J G p l e rm_X9_hall s m args below meth c 3 (.returned (some (.int r))) (sh, I9) (rm_X9_hall).cells (rm_X9_hall).slots (sh, I) 0 0 34 [none, some (.int x1), some (.int x2)] [] := by
      intro x1 x2 I hk
      unfold f_X9_hall_J34 at hk
      refine j_iload_n (pc := 34) C dX9_hall_34 rfl rfl ?_
      refine j_if_ne (pc := 35) 45 C dX9_hall_35 (by decide) (fun h5 => ?_) (fun h5 => ?_)
      · have hk := it_f h5 hk
        refine j_iload_n (pc := 45) C dX9_hall_45 rfl rfl ?_
        refine j_iconst (pc := 46) (v := nI 3) C dX9_hall_46 (by decide) ?_
        refine j_icmp_ge (pc := 47) 60 C dX9_hall_47 (by decide) (fun h6 => ?_) (fun h6 => ?_)
        · have hk := it_t h6 hk
          refine j_iload_n (pc := 60) C dX9_hall_60 rfl rfl ?_
          refine j_iload_n (pc := 61) C dX9_hall_61 rfl rfl ?_
          refine j_bipush (pc := 62) (v := nI 10) C dX9_hall_62 (by decide) ?_
          refine j_isub (pc := 64) C dX9_hall_64 ?_
          obtain ⟨r65, h7, hk⟩ := ob_some hk
          refine j_callS (pc := 65) C (ct_X9_wants h7) ms_X9_wants q1997 dX9_hall_65 rfl rfl (Nat.le_of_ble_eq_true rfl) rfl ?_
          exact j_iretW (pc := 68) C dX9_hall_68 (Nat.le_of_ble_eq_true rfl) (Nat.le_of_ble_eq_true rfl) hk
        · have hk := it_f h6 hk
          refine j_iload_n (pc := 50) C dX9_hall_50 rfl rfl ?_
          refine j_iload_n (pc := 51) C dX9_hall_51 rfl rfl ?_
          refine j_iconst (pc := 52) (v := nI 1) C dX9_hall_52 (by decide) ?_
          refine j_isub (pc := 53) C dX9_hall_53 ?_
          obtain ⟨r54, h8, hk⟩ := ob_some hk
          refine j_callS (pc := 54) C (ct_X9_wanting h8) ms_X9_wanting q2116 dX9_hall_54 rfl rfl (Nat.le_of_ble_eq_true rfl) rfl ?_
          refine j_goto (pc := 57) 68 C dX9_hall_57 (by decide) ?_
          exact j_iretW (pc := 68) C dX9_hall_68 (Nat.le_of_ble_eq_true rfl) (Nat.le_of_ble_eq_true rfl) hk
      · have hk := it_t h5 hk
        refine j_iload_n (pc := 38) C dX9_hall_38 rfl rfl ?_
        obtain ⟨r39, h9, hk⟩ := ob_some hk
        refine j_callS (pc := 39) C (ct_X9_size h9) ms_X9_size q1987 dX9_hall_39 rfl rfl (Nat.le_of_ble_eq_true rfl) rfl ?_
        refine j_goto (pc := 42) 68 C dX9_hall_42 (by decide) ?_
        exact j_iretW (pc := 68) C dX9_hall_68 (Nat.le_of_ble_eq_true rfl) (Nat.le_of_ble_eq_true rfl) hk
    refine j_if_ne (pc := 13) 34 C dX9_hall_13 (by decide) (fun h10 => ?_) (fun h10 => ?_)
    · have hk := it_f h10 hk
      exact j_mask [false, true, true] (Jn34 _ _ _ hk)
    · have hk := it_t h10 hk
      refine j_iload_n (pc := 16) C dX9_hall_16 rfl rfl ?_
      refine j_bipush (pc := 17) (v := nI 10) C dX9_hall_17 (by decide) ?_
      refine j_bipush (pc := 19) (v := nI 12) C dX9_hall_19 (by decide) ?_
      obtain ⟨r21, h11, hk⟩ := ob_some hk
      refine j_callS (pc := 21) C (ct_X9_within h11) ms_X9_within q2107 dX9_hall_21 rfl rfl (Nat.le_of_ble_eq_true rfl) rfl ?_
      refine j_if_ne (pc := 24) 34 C dX9_hall_24 (by decide) (fun h12 => ?_) (fun h12 => ?_)
      · have hk := it_f h12 hk
        exact j_mask [false, true, true] (Jn34 _ _ _ hk)
      · have hk := it_t h12 hk
        exact j_mask [true, false, false] (Jn27 _ hk)
def f_X9_moved_J16 (I : II) : Option (Int32 × II) := bd2 (f_X9_finding (-1000001) I) fun r19 I19 => some (r19, I19)
def f_X9_moved (x1 : Int32) (x2 : Int32) (I : II) : Option (Int32 × II) := (f_X9_isHall x1).bind fun r1 => if r1 = 0 then f_X9_moved_J16 I else (f_X9_within x2 (nI 0) (nI 2)).bind fun r10 => if r10 = 0 then f_X9_moved_J16 I else (f_X9_size x1).bind fun r25 => if x2 < r25 then (f_X9_turned x1 ((nI 1) <<< (x2 &&& 31))).bind fun r44 => some (r44, I) else bd2 (f_X9_finding (-1000002) I) fun r34 I34 => some (r34, I34)
abbrev rm_X9_moved : Room := { frames := 2, cells := 0, slots := 0, locals := 42 }
theorem mv_X9_moved : MV yX9_moved cX9_moved 3 (some .int) 2 := ⟨q2120, q2121, q106, q2122, by decide +kernel⟩
set_option maxHeartbeats 4000000 in
theorem ct_X9_moved {G : WG} {l : Launch} {sh : SH} (hS : StM sh) {I : II} {x1 : Int32} {x2 : Int32} {r : Int32} {I9 : II} (hk : f_X9_moved x1 x2 I = some (r, I9)) : CT G l yX9_moved (ws_ yX9_moved cX9_moved 3 (some .int)) rm_X9_moved [.ref (wad G 27), .int x1, .int x2] (sh, I) (.returned (some (.int r))) (sh, I9) := by
  refine CT.ofJ "NineDemandsModel" rfl (by decide) (Nat.le_of_ble_eq_true rfl) ?_
  intro p e s m args below meth c C
  unfold f_X9_moved at hk
  refine j_lv (lv' := [some (.ref (wad G 27)), some (.int x1), some (.int x2)]) rfl ?_
  refine j_iload_n (pc := 0) C dX9_moved_0 rfl rfl ?_
  obtain ⟨r1, h1, hk⟩ := ob_some hk
  refine j_callS (pc := 1) C (ct_X9_isHall h1) ms_X9_isHall q2104 dX9_moved_1 rfl rfl (Nat.le_of_ble_eq_true rfl) rfl ?_
  have Jn16 : ∀ (I : II), f_X9_moved_J16 I = some (r, I9) → J G p l e rm_X9_moved s m args below meth c 3 (.returned (some (.int r))) (sh, I9) (rm_X9_moved).cells (rm_X9_moved).slots (sh, I) 0 0 16 [some (.ref (wad G 27)), none, none] [] := by
    intro I hk
    unfold f_X9_moved_J16 at hk
    refine j_aload_n (pc := 16) C dX9_moved_16 rfl rfl ?_
    refine j_ldc (pc := 17) (v := (-1000001)) C q2110 dX9_moved_17 ?_
    obtain ⟨r19, I19, h2, hk⟩ := bd2_some hk
    refine j_callV (pc := 19) C (ct_X9_finding hS h2) mv_X9_finding (stM_o hS) rfl rfl q2111 dX9_moved_19 rfl rfl (Nat.le_of_ble_eq_true rfl) rfl ?_
    exact j_iretW (pc := 22) C dX9_moved_22 (Nat.le_of_ble_eq_true rfl) (Nat.le_of_ble_eq_true rfl) hk
  refine j_if_eq (pc := 4) 16 C dX9_moved_4 (by decide) (fun h3 => ?_) (fun h3 => ?_)
  · have hk := it_t h3 hk
    exact j_mask [true, false, false] (Jn16 _ hk)
  · have hk := it_f h3 hk
    refine j_iload_n (pc := 7) C dX9_moved_7 rfl rfl ?_
    refine j_iconst (pc := 8) (v := nI 0) C dX9_moved_8 (by decide) ?_
    refine j_iconst (pc := 9) (v := nI 2) C dX9_moved_9 (by decide) ?_
    obtain ⟨r10, h4, hk⟩ := ob_some hk
    refine j_callS (pc := 10) C (ct_X9_within h4) ms_X9_within q2107 dX9_moved_10 rfl rfl (Nat.le_of_ble_eq_true rfl) rfl ?_
    refine j_if_ne (pc := 13) 23 C dX9_moved_13 (by decide) (fun h5 => ?_) (fun h5 => ?_)
    · have hk := it_f h5 hk
      refine j_iload_n (pc := 23) C dX9_moved_23 rfl rfl ?_
      refine j_iload_n (pc := 24) C dX9_moved_24 rfl rfl ?_
      obtain ⟨r25, h6, hk⟩ := ob_some hk
      refine j_callS (pc := 25) C (ct_X9_size h6) ms_X9_size q1987 dX9_moved_25 rfl rfl (Nat.le_of_ble_eq_true rfl) rfl ?_
      refine j_icmp_lt (pc := 28) 40 C dX9_moved_28 (by decide) (fun h7 => ?_) (fun h7 => ?_)
      · have hk := it_t h7 hk
        refine j_iload_n (pc := 40) C dX9_moved_40 rfl rfl ?_
        refine j_iconst (pc := 41) (v := nI 1) C dX9_moved_41 (by decide) ?_
        refine j_iload_n (pc := 42) C dX9_moved_42 rfl rfl ?_
        refine j_ishl (pc := 43) C dX9_moved_43 ?_
        obtain ⟨r44, h8, hk⟩ := ob_some hk
        refine j_callS (pc := 44) C (ct_X9_turned h8) ms_X9_turned q1990 dX9_moved_44 rfl rfl (Nat.le_of_ble_eq_true rfl) rfl ?_
        exact j_iretW (pc := 47) C dX9_moved_47 (Nat.le_of_ble_eq_true rfl) (Nat.le_of_ble_eq_true rfl) hk
      · have hk := it_f h7 hk
        refine j_aload_n (pc := 31) C dX9_moved_31 rfl rfl ?_
        refine j_ldc (pc := 32) (v := (-1000002)) C q2123 dX9_moved_32 ?_
        obtain ⟨r34, I34, h9, hk⟩ := bd2_some hk
        refine j_callV (pc := 34) C (ct_X9_finding hS h9) mv_X9_finding (stM_o hS) rfl rfl q2111 dX9_moved_34 rfl rfl (Nat.le_of_ble_eq_true rfl) rfl ?_
        refine j_goto (pc := 37) 47 C dX9_moved_37 (by decide) ?_
        exact j_iretW (pc := 47) C dX9_moved_47 (Nat.le_of_ble_eq_true rfl) (Nat.le_of_ble_eq_true rfl) hk
    · have hk := it_t h5 hk
      exact j_mask [true, false, false] (Jn16 _ hk)
def f_X9_isChoice (x0 : Int32) : Option Int32 := (f_X9_within x0 (nI 1) (nI 3)).bind fun r3 => og (r3 = 0 ∨ r3 = 1) (some r3)
abbrev rm_X9_isChoice : Room := { frames := 1, cells := 0, slots := 0, locals := 22 }
theorem ms_X9_isChoice : MS yX9_isChoice cX9_isChoice 1 (some .boolean) 1 := ⟨q2129, q106, q2130, by decide +kernel⟩
set_option maxHeartbeats 4000000 in
theorem ct_X9_isChoice {G : WG} {l : Launch} {sh : SH} {I : II} {x0 : Int32} {r : Int32} (hk : f_X9_isChoice x0 = some r) : CT G l yX9_isChoice (ws_ yX9_isChoice cX9_isChoice 1 (some .boolean)) rm_X9_isChoice [.int x0] (sh, I) (.returned (some (.int r))) (sh, I) := by
  refine CT.ofJ "NineDemandsModel" rfl (by decide) (Nat.le_of_ble_eq_true rfl) ?_
  intro p e s m args below meth c C
  unfold f_X9_isChoice at hk
  refine j_lv (lv' := [some (.int x0)]) rfl ?_
  refine j_iload_n (pc := 0) C dX9_isChoice_0 rfl rfl ?_
  refine j_iconst (pc := 1) (v := nI 1) C dX9_isChoice_1 (by decide) ?_
  refine j_iconst (pc := 2) (v := nI 3) C dX9_isChoice_2 (by decide) ?_
  obtain ⟨r3, h1, hk⟩ := ob_some hk
  refine j_callS (pc := 3) C (ct_X9_within h1) ms_X9_within q2107 dX9_isChoice_3 rfl rfl (Nat.le_of_ble_eq_true rfl) rfl ?_
  obtain ⟨h2, hk⟩ := og_some hk
  exact j_zretR (pc := 6) C dX9_isChoice_6 (Nat.le_of_ble_eq_true rfl) (Nat.le_of_ble_eq_true rfl) (isB.nar h2) hk
def f_X9_choose_J14 (I : II) : Option (Int32 × II) := bd2 (f_X9_finding (-1000001) I) fun r17 I17 => some (r17, I17)
def f_X9_choose (x1 : Int32) (x2 : Int32) (I : II) : Option (Int32 × II) := (f_X9_isHall x1).bind fun r1 => if r1 = 0 then f_X9_choose_J14 I else (f_X9_isChoice x2).bind fun r8 => if r8 = 0 then f_X9_choose_J14 I else oix ((nI 10) + x1) 366 fun i29 => oix ((nI 10) + x1) 366 fun i40 => some ((I 28 i29), up2 I 28 i40 x2)
abbrev rm_X9_choose : Room := { frames := 2, cells := 0, slots := 0, locals := 42 }
theorem mv_X9_choose : MV yX9_choose cX9_choose 4 (some .int) 2 := ⟨q2125, q2126, q106, q2127, by decide +kernel⟩
set_option maxHeartbeats 4000000 in
theorem ct_X9_choose {G : WG} {l : Launch} {sh : SH} (hS : StM sh) {I : II} {x1 : Int32} {x2 : Int32} {r : Int32} {I9 : II} (hk : f_X9_choose x1 x2 I = some (r, I9)) : CT G l yX9_choose (ws_ yX9_choose cX9_choose 4 (some .int)) rm_X9_choose [.ref (wad G 27), .int x1, .int x2] (sh, I) (.returned (some (.int r))) (sh, I9) := by
  refine CT.ofJ "NineDemandsModel" rfl (by decide) (Nat.le_of_ble_eq_true rfl) ?_
  intro p e s m args below meth c C
  unfold f_X9_choose at hk
  refine j_lv (lv' := [some (.ref (wad G 27)), some (.int x1), some (.int x2), none]) rfl ?_
  refine j_iload_n (pc := 0) C dX9_choose_0 rfl rfl ?_
  obtain ⟨r1, h1, hk⟩ := ob_some hk
  refine j_callS (pc := 1) C (ct_X9_isHall h1) ms_X9_isHall q2104 dX9_choose_1 rfl rfl (Nat.le_of_ble_eq_true rfl) rfl ?_
  have Jn14 : ∀ (I : II), f_X9_choose_J14 I = some (r, I9) → J G p l e rm_X9_choose s m args below meth c 4 (.returned (some (.int r))) (sh, I9) (rm_X9_choose).cells (rm_X9_choose).slots (sh, I) 0 0 14 [some (.ref (wad G 27)), none, none, none] [] := by
    intro I hk
    unfold f_X9_choose_J14 at hk
    refine j_aload_n (pc := 14) C dX9_choose_14 rfl rfl ?_
    refine j_ldc (pc := 15) (v := (-1000001)) C q2110 dX9_choose_15 ?_
    obtain ⟨r17, I17, h2, hk⟩ := bd2_some hk
    refine j_callV (pc := 17) C (ct_X9_finding hS h2) mv_X9_finding (stM_o hS) rfl rfl q2111 dX9_choose_17 rfl rfl (Nat.le_of_ble_eq_true rfl) rfl ?_
    exact j_iretW (pc := 20) C dX9_choose_20 (Nat.le_of_ble_eq_true rfl) (Nat.le_of_ble_eq_true rfl) hk
  refine j_if_eq (pc := 4) 14 C dX9_choose_4 (by decide) (fun h3 => ?_) (fun h3 => ?_)
  · have hk := it_t h3 hk
    exact j_mask [true, false, false, false] (Jn14 _ hk)
  · have hk := it_f h3 hk
    refine j_iload_n (pc := 7) C dX9_choose_7 rfl rfl ?_
    obtain ⟨r8, h4, hk⟩ := ob_some hk
    refine j_callS (pc := 8) C (ct_X9_isChoice h4) ms_X9_isChoice q2128 dX9_choose_8 rfl rfl (Nat.le_of_ble_eq_true rfl) rfl ?_
    refine j_if_ne (pc := 11) 21 C dX9_choose_11 (by decide) (fun h5 => ?_) (fun h5 => ?_)
    · have hk := it_f h5 hk
      refine j_aload_n (pc := 21) C dX9_choose_21 rfl rfl ?_
      refine j_getR (pc := 22) C fd_10_0 q2000 (stM_o hS) (stM_r0 hS) dX9_choose_22 ?_
      refine j_bipush (pc := 25) (v := nI 10) C dX9_choose_25 (by decide) ?_
      refine j_iload_n (pc := 27) C dX9_choose_27 rfl rfl ?_
      refine j_iadd (pc := 28) C dX9_choose_28 ?_
      obtain ⟨i29, e29, h6, hk⟩ := oix_ex hk
      refine j_iald (pc := 29) C (stM_a28 hS) h6 e29 dX9_choose_29 ?_
      refine j_istore_n (pc := 30) C dX9_choose_30 rfl (Nat.le_of_ble_eq_true rfl) rfl ?_
      refine j_aload_n (pc := 31) C dX9_choose_31 rfl rfl ?_
      refine j_getR (pc := 32) C fd_10_0 q2000 (stM_o hS) (stM_r0 hS) dX9_choose_32 ?_
      refine j_bipush (pc := 35) (v := nI 10) C dX9_choose_35 (by decide) ?_
      refine j_iload_n (pc := 37) C dX9_choose_37 rfl rfl ?_
      refine j_iadd (pc := 38) C dX9_choose_38 ?_
      refine j_iload_n (pc := 39) C dX9_choose_39 rfl rfl ?_
      obtain ⟨i40, e40, h7, hk⟩ := oix_ex hk
      refine j_iast (pc := 40) C (stM_a28 hS) h7 e40 dX9_choose_40 ?_
      refine j_iload_n (pc := 41) C dX9_choose_41 rfl rfl ?_
      exact j_iretW (pc := 42) C dX9_choose_42 (Nat.le_of_ble_eq_true rfl) (Nat.le_of_ble_eq_true rfl) hk
    · have hk := it_t h5 hk
      exact j_mask [true, false, false, false] (Jn14 _ hk)
def f_X9_chosen (x1 : Int32) (I : II) : Option (Int32 × II) := (f_X9_isHall x1).bind fun r1 => if r1 = 0 then bd2 (f_X9_finding (-1000001) I) fun r22 I22 => some (r22, I22) else oix ((nI 10) + x1) 366 fun i15 => some ((I 28 i15), I)
abbrev rm_X9_chosen : Room := { frames := 2, cells := 0, slots := 0, locals := 42 }
theorem mv_X9_chosen : MV yX9_chosen cX9_chosen 2 (some .int) 1 := ⟨q2132, q2133, q106, q2134, by decide +kernel⟩
set_option maxHeartbeats 4000000 in
theorem ct_X9_chosen {G : WG} {l : Launch} {sh : SH} (hS : StM sh) {I : II} {x1 : Int32} {r : Int32} {I9 : II} (hk : f_X9_chosen x1 I = some (r, I9)) : CT G l yX9_chosen (ws_ yX9_chosen cX9_chosen 2 (some .int)) rm_X9_chosen [.ref (wad G 27), .int x1] (sh, I) (.returned (some (.int r))) (sh, I9) := by
  refine CT.ofJ "NineDemandsModel" rfl (by decide) (Nat.le_of_ble_eq_true rfl) ?_
  intro p e s m args below meth c C
  unfold f_X9_chosen at hk
  refine j_lv (lv' := [some (.ref (wad G 27)), some (.int x1)]) rfl ?_
  refine j_iload_n (pc := 0) C dX9_chosen_0 rfl rfl ?_
  obtain ⟨r1, h1, hk⟩ := ob_some hk
  refine j_callS (pc := 1) C (ct_X9_isHall h1) ms_X9_isHall q2104 dX9_chosen_1 rfl rfl (Nat.le_of_ble_eq_true rfl) rfl ?_
  refine j_if_eq (pc := 4) 19 C dX9_chosen_4 (by decide) (fun h2 => ?_) (fun h2 => ?_)
  · have hk := it_t h2 hk
    refine j_aload_n (pc := 19) C dX9_chosen_19 rfl rfl ?_
    refine j_ldc (pc := 20) (v := (-1000001)) C q2110 dX9_chosen_20 ?_
    obtain ⟨r22, I22, h3, hk⟩ := bd2_some hk
    refine j_callV (pc := 22) C (ct_X9_finding hS h3) mv_X9_finding (stM_o hS) rfl rfl q2111 dX9_chosen_22 rfl rfl (Nat.le_of_ble_eq_true rfl) rfl ?_
    exact j_iretW (pc := 25) C dX9_chosen_25 (Nat.le_of_ble_eq_true rfl) (Nat.le_of_ble_eq_true rfl) hk
  · have hk := it_f h2 hk
    refine j_aload_n (pc := 7) C dX9_chosen_7 rfl rfl ?_
    refine j_getR (pc := 8) C fd_10_0 q2000 (stM_o hS) (stM_r0 hS) dX9_chosen_8 ?_
    refine j_bipush (pc := 11) (v := nI 10) C dX9_chosen_11 (by decide) ?_
    refine j_iload_n (pc := 13) C dX9_chosen_13 rfl rfl ?_
    refine j_iadd (pc := 14) C dX9_chosen_14 ?_
    obtain ⟨i15, e15, h4, hk⟩ := oix_ex hk
    refine j_iald (pc := 15) C (stM_a28 hS) h4 e15 dX9_chosen_15 ?_
    refine j_goto (pc := 16) 25 C dX9_chosen_16 (by decide) ?_
    exact j_iretW (pc := 25) C dX9_chosen_25 (Nat.le_of_ble_eq_true rfl) (Nat.le_of_ble_eq_true rfl) hk
def f_X9_isSheet (x0 : Int32) : Option Int32 := (f_X9_within x0 (nI 0) (nI 3)).bind fun r3 => og (r3 = 0 ∨ r3 = 1) (some r3)
abbrev rm_X9_isSheet : Room := { frames := 1, cells := 0, slots := 0, locals := 22 }
theorem ms_X9_isSheet : MS yX9_isSheet cX9_isSheet 1 (some .boolean) 1 := ⟨q2140, q106, q2141, by decide +kernel⟩
set_option maxHeartbeats 4000000 in
theorem ct_X9_isSheet {G : WG} {l : Launch} {sh : SH} {I : II} {x0 : Int32} {r : Int32} (hk : f_X9_isSheet x0 = some r) : CT G l yX9_isSheet (ws_ yX9_isSheet cX9_isSheet 1 (some .boolean)) rm_X9_isSheet [.int x0] (sh, I) (.returned (some (.int r))) (sh, I) := by
  refine CT.ofJ "NineDemandsModel" rfl (by decide) (Nat.le_of_ble_eq_true rfl) ?_
  intro p e s m args below meth c C
  unfold f_X9_isSheet at hk
  refine j_lv (lv' := [some (.int x0)]) rfl ?_
  refine j_iload_n (pc := 0) C dX9_isSheet_0 rfl rfl ?_
  refine j_iconst (pc := 1) (v := nI 0) C dX9_isSheet_1 (by decide) ?_
  refine j_iconst (pc := 2) (v := nI 3) C dX9_isSheet_2 (by decide) ?_
  obtain ⟨r3, h1, hk⟩ := ob_some hk
  refine j_callS (pc := 3) C (ct_X9_within h1) ms_X9_within q2107 dX9_isSheet_3 rfl rfl (Nat.le_of_ble_eq_true rfl) rfl ?_
  obtain ⟨h2, hk⟩ := og_some hk
  exact j_zretR (pc := 6) C dX9_isSheet_6 (Nat.le_of_ble_eq_true rfl) (Nat.le_of_ble_eq_true rfl) (isB.nar h2) hk
def f_X9_block_L81 (F : Nat) (x1 : Int32) (x2 : Int32) : Nat → Int32 → II → Option (Int32 × II)
  | 0, _, _ => none
  | n81 + 1, x3, I => if x2 ≤ x3 then some (x2, I) else oix (((nI 40) * x1) + x3) 160 fun i104 => oix ((nI 10) + x3) 366 fun i105 => (f_X9_block_L81 F x1 x2 n81) (x3 + (nI 1)) (up2 I 28 i105 (I 46 i104))
def f_X9_block_L44 (F : Nat) (x1 : Int32) (x2 : Int32) : Nat → Int32 → II → Option (Int32 × II)
  | 0, _, _ => none
  | n44 + 1, x3, I => if x2 ≤ x3 then f_X9_block_L81 F x1 x2 F (nI 0) I else oix (((nI 40) * x1) + x3) 160 fun i59 => (f_X9_isChoice (I 46 i59)).bind fun r60 => if r60 = 0 then bd2 (f_X9_finding (-1000005) I) fun r69 I69 => some (r69, I69) else (f_X9_block_L44 F x1 x2 n44) (x3 + (nI 1)) I
def f_X9_block (F : Nat) (x1 : Int32) (I : II) : Option (Int32 × II) := (f_X9_isSheet x1).bind fun r1 => if r1 = 0 then bd2 (f_X9_finding (-1000001) I) fun r10 I10 => some (r10, I10) else oix x1 4 fun i19 => if (I 44 i19) = 0 then bd2 (f_X9_finding (-1000002) I) fun r26 I26 => some (r26, I26) else oix x1 4 fun i37 => f_X9_block_L44 F x1 (if (I 45 i37) < (nI 12) then (I 45 i37) else (nI 12)) F (nI 0) I
abbrev rm_X9_block : Room := { frames := 2, cells := 0, slots := 0, locals := 42 }
theorem mv_X9_block : MV yX9_block cX9_block 4 (some .int) 1 := ⟨q2136, q2137, q106, q2138, by decide +kernel⟩
set_option maxHeartbeats 4000000 in
theorem ct_X9_block {G : WG} {l : Launch} {sh : SH} (hS : StM sh) {I : II} {F : Nat} {x1 : Int32} {r : Int32} {I9 : II} (hk : f_X9_block F x1 I = some (r, I9)) : CT G l yX9_block (ws_ yX9_block cX9_block 4 (some .int)) rm_X9_block [.ref (wad G 27), .int x1] (sh, I) (.returned (some (.int r))) (sh, I9) := by
  refine CT.ofJ "NineDemandsModel" rfl (by decide) (Nat.le_of_ble_eq_true rfl) ?_
  intro p e s m args below meth c C
  unfold f_X9_block at hk
  refine j_lv (lv' := [some (.ref (wad G 27)), some (.int x1), none, none]) rfl ?_
  refine j_iload_n (pc := 0) C dX9_block_0 rfl rfl ?_
  obtain ⟨r1, h1, hk⟩ := ob_some hk
  refine j_callS (pc := 1) C (ct_X9_isSheet h1) ms_X9_isSheet q2139 dX9_block_1 rfl rfl (Nat.le_of_ble_eq_true rfl) rfl ?_
  refine j_if_ne (pc := 4) 14 C dX9_block_4 (by decide) (fun h2 => ?_) (fun h2 => ?_)
  · have hk := it_f h2 hk
    refine j_aload_n (pc := 14) C dX9_block_14 rfl rfl ?_
    refine j_getR (pc := 15) C fd_10_29 q2029 (stM_o hS) (stM_r29 hS) dX9_block_15 ?_
    refine j_iload_n (pc := 18) C dX9_block_18 rfl rfl ?_
    obtain ⟨i19, e19, h3, hk⟩ := oix_ex hk
    refine j_iald (pc := 19) C (stM_a44 hS) h3 e19 dX9_block_19 ?_
    refine j_if_ne (pc := 20) 30 C dX9_block_20 (by decide) (fun h4 => ?_) (fun h4 => ?_)
    · have hk := it_f h4 hk
      refine j_bipush (pc := 30) (v := nI 12) C dX9_block_30 (by decide) ?_
      refine j_aload_n (pc := 32) C dX9_block_32 rfl rfl ?_
      refine j_getR (pc := 33) C fd_10_30 q2030 (stM_o hS) (stM_r30 hS) dX9_block_33 ?_
      refine j_iload_n (pc := 36) C dX9_block_36 rfl rfl ?_
      obtain ⟨i37, e37, h5, hk⟩ := oix_ex hk
      refine j_iald (pc := 37) C (stM_a45 hS) h5 e37 dX9_block_37 ?_
      refine j_mmin (pc := 38) C q2142 q481 q107 q482 dX9_block_38 (Nat.le_of_ble_eq_true rfl) (Nat.le_of_ble_eq_true rfl) (Nat.le_of_ble_eq_true rfl) (Nat.le_of_ble_eq_true rfl) ?_
      refine j_istore_n (pc := 41) C dX9_block_41 rfl (Nat.le_of_ble_eq_true rfl) rfl ?_
      refine j_iconst (pc := 42) (v := nI 0) C dX9_block_42 (by decide) ?_
      refine j_istore_n (pc := 43) C dX9_block_43 rfl (Nat.le_of_ble_eq_true rfl) rfl ?_
      have L44 : ∀ (x1 : Int32) (x2 : Int32) (n44 : Nat) (x3 : Int32) (I : II), f_X9_block_L44 F x1 x2 n44 x3 I = some (r, I9) → J G p l e rm_X9_block s m args below meth c 4 (.returned (some (.int r))) (sh, I9) (rm_X9_block).cells (rm_X9_block).slots (sh, I) 0 0 44 [some (.ref (wad G 27)), some (.int x1), some (.int x2), some (.int x3)] [] := by
        intro x1 x2 n44
        induction n44 with
        | zero => intro x3 I hk; rw [f_X9_block_L44] at hk; cases hk
        | succ n44 ih44 =>
          intro x3 I hk
          rw [f_X9_block_L44] at hk
          generalize f_X9_block_L44 F x1 x2 n44 = k44 at ih44 hk
          refine j_iload_n (pc := 44) C dX9_block_44 rfl rfl ?_
          refine j_iload_n (pc := 45) C dX9_block_45 rfl rfl ?_
          refine j_icmp_ge (pc := 46) 79 C dX9_block_46 (by decide) (fun h6 => ?_) (fun h6 => ?_)
          · have hk := it_t h6 hk
            refine j_iconst (pc := 79) (v := nI 0) C dX9_block_79 (by decide) ?_
            refine j_istore_n (pc := 80) C dX9_block_80 rfl (Nat.le_of_ble_eq_true rfl) rfl ?_
            have L81 : ∀ (x1 : Int32) (x2 : Int32) (n81 : Nat) (x3 : Int32) (I : II), f_X9_block_L81 F x1 x2 n81 x3 I = some (r, I9) → J G p l e rm_X9_block s m args below meth c 4 (.returned (some (.int r))) (sh, I9) (rm_X9_block).cells (rm_X9_block).slots (sh, I) 0 0 81 [some (.ref (wad G 27)), some (.int x1), some (.int x2), some (.int x3)] [] := by
              intro x1 x2 n81
              induction n81 with
              | zero => intro x3 I hk; rw [f_X9_block_L81] at hk; cases hk
              | succ n81 ih81 =>
                intro x3 I hk
                rw [f_X9_block_L81] at hk
                generalize f_X9_block_L81 F x1 x2 n81 = k81 at ih81 hk
                refine j_iload_n (pc := 81) C dX9_block_81 rfl rfl ?_
                refine j_iload_n (pc := 82) C dX9_block_82 rfl rfl ?_
                refine j_icmp_ge (pc := 83) 112 C dX9_block_83 (by decide) (fun h7 => ?_) (fun h7 => ?_)
                · have hk := it_t h7 hk
                  refine j_iload_n (pc := 112) C dX9_block_112 rfl rfl ?_
                  exact j_iretW (pc := 113) C dX9_block_113 (Nat.le_of_ble_eq_true rfl) (Nat.le_of_ble_eq_true rfl) hk
                · have hk := it_f h7 hk
                  refine j_aload_n (pc := 86) C dX9_block_86 rfl rfl ?_
                  refine j_getR (pc := 87) C fd_10_0 q2000 (stM_o hS) (stM_r0 hS) dX9_block_87 ?_
                  refine j_bipush (pc := 90) (v := nI 10) C dX9_block_90 (by decide) ?_
                  refine j_iload_n (pc := 92) C dX9_block_92 rfl rfl ?_
                  refine j_iadd (pc := 93) C dX9_block_93 ?_
                  refine j_aload_n (pc := 94) C dX9_block_94 rfl rfl ?_
                  refine j_getR (pc := 95) C fd_10_31 q2031 (stM_o hS) (stM_r31 hS) dX9_block_95 ?_
                  refine j_bipush (pc := 98) (v := nI 40) C dX9_block_98 (by decide) ?_
                  refine j_iload_n (pc := 100) C dX9_block_100 rfl rfl ?_
                  refine j_imul (pc := 101) C dX9_block_101 ?_
                  refine j_iload_n (pc := 102) C dX9_block_102 rfl rfl ?_
                  refine j_iadd (pc := 103) C dX9_block_103 ?_
                  obtain ⟨i104, e104, h8, hk⟩ := oix_ex hk
                  refine j_iald (pc := 104) C (stM_a46 hS) h8 e104 dX9_block_104 ?_
                  obtain ⟨i105, e105, h9, hk⟩ := oix_ex hk
                  refine j_iast (pc := 105) C (stM_a28 hS) h9 e105 dX9_block_105 ?_
                  refine j_iinc (pc := 106) (nI 1) C dX9_block_106 rfl (by decide) (Nat.le_of_ble_eq_true rfl) rfl ?_
                  refine j_goto (pc := 109) 81 C dX9_block_109 (by decide) ?_
                  exact j_mask [true, true, true, true] (ih81 _ _ hk)
            exact j_mask [true, true, true, true] (L81 _ _ _ _ _ hk)
          · have hk := it_f h6 hk
            refine j_aload_n (pc := 49) C dX9_block_49 rfl rfl ?_
            refine j_getR (pc := 50) C fd_10_31 q2031 (stM_o hS) (stM_r31 hS) dX9_block_50 ?_
            refine j_bipush (pc := 53) (v := nI 40) C dX9_block_53 (by decide) ?_
            refine j_iload_n (pc := 55) C dX9_block_55 rfl rfl ?_
            refine j_imul (pc := 56) C dX9_block_56 ?_
            refine j_iload_n (pc := 57) C dX9_block_57 rfl rfl ?_
            refine j_iadd (pc := 58) C dX9_block_58 ?_
            obtain ⟨i59, e59, h10, hk⟩ := oix_ex hk
            refine j_iald (pc := 59) C (stM_a46 hS) h10 e59 dX9_block_59 ?_
            obtain ⟨r60, h11, hk⟩ := ob_some hk
            refine j_callS (pc := 60) C (ct_X9_isChoice h11) ms_X9_isChoice q2128 dX9_block_60 rfl rfl (Nat.le_of_ble_eq_true rfl) rfl ?_
            refine j_if_ne (pc := 63) 73 C dX9_block_63 (by decide) (fun h12 => ?_) (fun h12 => ?_)
            · have hk := it_f h12 hk
              refine j_iinc (pc := 73) (nI 1) C dX9_block_73 rfl (by decide) (Nat.le_of_ble_eq_true rfl) rfl ?_
              refine j_goto (pc := 76) 44 C dX9_block_76 (by decide) ?_
              exact j_mask [true, true, true, true] (ih44 _ _ hk)
            · have hk := it_t h12 hk
              refine j_aload_n (pc := 66) C dX9_block_66 rfl rfl ?_
              refine j_ldc (pc := 67) (v := (-1000005)) C q2143 dX9_block_67 ?_
              obtain ⟨r69, I69, h13, hk⟩ := bd2_some hk
              refine j_callV (pc := 69) C (ct_X9_finding hS h13) mv_X9_finding (stM_o hS) rfl rfl q2111 dX9_block_69 rfl rfl (Nat.le_of_ble_eq_true rfl) rfl ?_
              exact j_iretW (pc := 72) C dX9_block_72 (Nat.le_of_ble_eq_true rfl) (Nat.le_of_ble_eq_true rfl) hk
      exact j_mask [true, true, true, true] (L44 _ _ _ _ _ hk)
    · have hk := it_t h4 hk
      refine j_aload_n (pc := 23) C dX9_block_23 rfl rfl ?_
      refine j_ldc (pc := 24) (v := (-1000002)) C q2123 dX9_block_24 ?_
      obtain ⟨r26, I26, h14, hk⟩ := bd2_some hk
      refine j_callV (pc := 26) C (ct_X9_finding hS h14) mv_X9_finding (stM_o hS) rfl rfl q2111 dX9_block_26 rfl rfl (Nat.le_of_ble_eq_true rfl) rfl ?_
      exact j_iretW (pc := 29) C dX9_block_29 (Nat.le_of_ble_eq_true rfl) (Nat.le_of_ble_eq_true rfl) hk
  · have hk := it_t h2 hk
    refine j_aload_n (pc := 7) C dX9_block_7 rfl rfl ?_
    refine j_ldc (pc := 8) (v := (-1000001)) C q2110 dX9_block_8 ?_
    obtain ⟨r10, I10, h15, hk⟩ := bd2_some hk
    refine j_callV (pc := 10) C (ct_X9_finding hS h15) mv_X9_finding (stM_o hS) rfl rfl q2111 dX9_block_10 rfl rfl (Nat.le_of_ble_eq_true rfl) rfl ?_
    exact j_iretW (pc := 13) C dX9_block_13 (Nat.le_of_ble_eq_true rfl) (Nat.le_of_ble_eq_true rfl) hk
def f_X9_formed_J31 (F : Nat) (x0 : Int32) (x1 : Int32) (x2 : Int32) (x3 : Int32) (s0 : Int32) : Option Int32 := if x0 = nI 0 then some (x0 + (nI 1)) else if x0 = nI 1 then some (x0 + (nI 1)) else if x0 = nI 2 then some (x0 + (nI 1)) else if x0 = nI 3 then (f_X9_wants x1 (x0 - (nI 3))).bind fun r101 => some ((nI 1) + r101) else if x0 = nI 4 then (f_X9_wants x1 (x0 - (nI 3))).bind fun r101 => some ((nI 1) + r101) else if x0 = nI 5 then if s0 = 0 then some (nI 3) else some s0 else if x0 = nI 6 then if s0 = 0 then some (x0 - (nI 5)) else some s0 else if x0 = nI 7 then if s0 = 0 then some (x0 - (nI 5)) else some s0 else if x0 = nI 8 then if s0 = 0 then (f_X9_wants x1 (nI 0)).bind fun r140 => some ((nI 1) + r140) else some s0 else if x0 = nI 9 then if x2 = 0 then some (nI 2) else if x3 = 0 then some (nI 1) else some (nI 3) else if x0 = nI 10 then if x3 ≤ 0 then some (nI 1) else some (nI 2) else if x2 ≤ 0 then some (nI 2) else some (nI 1)
def f_X9_formed (F : Nat) (x0 : Int32) (x1 : Int32) : Option Int32 := (f_X9_wanting F x1 (nI 0)).bind fun r2 => (f_X9_wanting F x1 (nI 1)).bind fun r8 => if r2 ≤ r8 then if r8 ≤ r2 then f_X9_formed_J31 F x0 x1 r2 r8 (nI 0) else f_X9_formed_J31 F x0 x1 r2 r8 (nI 2) else f_X9_formed_J31 F x0 x1 r2 r8 (nI 1)
abbrev rm_X9_formed : Room := { frames := 3, cells := 0, slots := 0, locals := 64 }
theorem ms_X9_formed : MS yX9_formed cX9_formed 5 (some .int) 2 := ⟨q2149, q106, q2150, by decide +kernel⟩
set_option maxHeartbeats 4000000 in
theorem ct_X9_formed {G : WG} {l : Launch} {sh : SH} {I : II} {F : Nat} {x0 : Int32} {x1 : Int32} {r : Int32} (hk : f_X9_formed F x0 x1 = some r) : CT G l yX9_formed (ws_ yX9_formed cX9_formed 5 (some .int)) rm_X9_formed [.int x0, .int x1] (sh, I) (.returned (some (.int r))) (sh, I) := by
  refine CT.ofJ "NineDemandsModel" rfl (by decide) (Nat.le_of_ble_eq_true rfl) ?_
  intro p e s m args below meth c C
  unfold f_X9_formed at hk
  refine j_lv (lv' := [some (.int x0), some (.int x1), none, none, none]) rfl ?_
  refine j_iload_n (pc := 0) C dX9_formed_0 rfl rfl ?_
  refine j_iconst (pc := 1) (v := nI 0) C dX9_formed_1 (by decide) ?_
  obtain ⟨r2, h1, hk⟩ := ob_some hk
  refine j_callS (pc := 2) C (ct_X9_wanting h1) ms_X9_wanting q2116 dX9_formed_2 rfl rfl (Nat.le_of_ble_eq_true rfl) rfl ?_
  refine j_istore_n (pc := 5) C dX9_formed_5 rfl (Nat.le_of_ble_eq_true rfl) rfl ?_
  refine j_iload_n (pc := 6) C dX9_formed_6 rfl rfl ?_
  refine j_iconst (pc := 7) (v := nI 1) C dX9_formed_7 (by decide) ?_
  obtain ⟨r8, h2, hk⟩ := ob_some hk
  refine j_callS (pc := 8) C (ct_X9_wanting h2) ms_X9_wanting q2116 dX9_formed_8 rfl rfl (Nat.le_of_ble_eq_true rfl) rfl ?_
  refine j_istore_n (pc := 11) C dX9_formed_11 rfl (Nat.le_of_ble_eq_true rfl) rfl ?_
  refine j_iload_n (pc := 12) C dX9_formed_12 rfl rfl ?_
  refine j_iload_n (pc := 13) C dX9_formed_13 rfl rfl ?_
  have Jn31 : ∀ (x0 : Int32) (x1 : Int32) (x2 : Int32) (x3 : Int32) (s0 : Int32), f_X9_formed_J31 F x0 x1 x2 x3 s0 = some r → J G p l e rm_X9_formed s m args below meth c 5 (.returned (some (.int r))) (sh, I) (rm_X9_formed).cells (rm_X9_formed).slots (sh, I) 0 0 31 [some (.int x0), some (.int x1), some (.int x2), some (.int x3), none] [.int s0] := by
    intro x0 x1 x2 x3 s0 hk
    unfold f_X9_formed_J31 at hk
    refine j_istore (pc := 31) C dX9_formed_31 (Nat.le_of_ble_eq_true rfl) rfl ?_
    refine j_iload_n (pc := 33) C dX9_formed_33 rfl rfl ?_
    by_cases h3 : x0 = nI 0
    · have hk := it_t h3 hk
      refine j_tableIn (pc := 34) 92 0 C dX9_formed_34 (sw_in h3 (by decide)) (by decide) (by decide) rfl (by decide) ?_
      refine j_iload_n (pc := 92) C dX9_formed_92 rfl rfl ?_
      refine j_iconst (pc := 93) (v := nI 1) C dX9_formed_93 (by decide) ?_
      refine j_iadd (pc := 94) C dX9_formed_94 ?_
      exact j_iretR (pc := 95) C dX9_formed_95 (Nat.le_of_ble_eq_true rfl) (Nat.le_of_ble_eq_true rfl) hk
    have hk := it_f h3 hk
    by_cases h4 : x0 = nI 1
    · have hk := it_t h4 hk
      refine j_tableIn (pc := 34) 92 1 C dX9_formed_34 (sw_in h4 (by decide)) (by decide) (by decide) rfl (by decide) ?_
      refine j_iload_n (pc := 92) C dX9_formed_92 rfl rfl ?_
      refine j_iconst (pc := 93) (v := nI 1) C dX9_formed_93 (by decide) ?_
      refine j_iadd (pc := 94) C dX9_formed_94 ?_
      exact j_iretR (pc := 95) C dX9_formed_95 (Nat.le_of_ble_eq_true rfl) (Nat.le_of_ble_eq_true rfl) hk
    have hk := it_f h4 hk
    by_cases h5 : x0 = nI 2
    · have hk := it_t h5 hk
      refine j_tableIn (pc := 34) 92 2 C dX9_formed_34 (sw_in h5 (by decide)) (by decide) (by decide) rfl (by decide) ?_
      refine j_iload_n (pc := 92) C dX9_formed_92 rfl rfl ?_
      refine j_iconst (pc := 93) (v := nI 1) C dX9_formed_93 (by decide) ?_
      refine j_iadd (pc := 94) C dX9_formed_94 ?_
      exact j_iretR (pc := 95) C dX9_formed_95 (Nat.le_of_ble_eq_true rfl) (Nat.le_of_ble_eq_true rfl) hk
    have hk := it_f h5 hk
    by_cases h6 : x0 = nI 3
    · have hk := it_t h6 hk
      refine j_tableIn (pc := 34) 96 3 C dX9_formed_34 (sw_in h6 (by decide)) (by decide) (by decide) rfl (by decide) ?_
      refine j_iconst (pc := 96) (v := nI 1) C dX9_formed_96 (by decide) ?_
      refine j_iload_n (pc := 97) C dX9_formed_97 rfl rfl ?_
      refine j_iload_n (pc := 98) C dX9_formed_98 rfl rfl ?_
      refine j_iconst (pc := 99) (v := nI 3) C dX9_formed_99 (by decide) ?_
      refine j_isub (pc := 100) C dX9_formed_100 ?_
      obtain ⟨r101, h7, hk⟩ := ob_some hk
      refine j_callS (pc := 101) C (ct_X9_wants h7) ms_X9_wants q1997 dX9_formed_101 rfl rfl (Nat.le_of_ble_eq_true rfl) rfl ?_
      refine j_iadd (pc := 104) C dX9_formed_104 ?_
      exact j_iretR (pc := 105) C dX9_formed_105 (Nat.le_of_ble_eq_true rfl) (Nat.le_of_ble_eq_true rfl) hk
    have hk := it_f h6 hk
    by_cases h8 : x0 = nI 4
    · have hk := it_t h8 hk
      refine j_tableIn (pc := 34) 96 4 C dX9_formed_34 (sw_in h8 (by decide)) (by decide) (by decide) rfl (by decide) ?_
      refine j_iconst (pc := 96) (v := nI 1) C dX9_formed_96 (by decide) ?_
      refine j_iload_n (pc := 97) C dX9_formed_97 rfl rfl ?_
      refine j_iload_n (pc := 98) C dX9_formed_98 rfl rfl ?_
      refine j_iconst (pc := 99) (v := nI 3) C dX9_formed_99 (by decide) ?_
      refine j_isub (pc := 100) C dX9_formed_100 ?_
      obtain ⟨r101, h9, hk⟩ := ob_some hk
      refine j_callS (pc := 101) C (ct_X9_wants h9) ms_X9_wants q1997 dX9_formed_101 rfl rfl (Nat.le_of_ble_eq_true rfl) rfl ?_
      refine j_iadd (pc := 104) C dX9_formed_104 ?_
      exact j_iretR (pc := 105) C dX9_formed_105 (Nat.le_of_ble_eq_true rfl) (Nat.le_of_ble_eq_true rfl) hk
    have hk := it_f h8 hk
    by_cases h10 : x0 = nI 5
    · have hk := it_t h10 hk
      refine j_tableIn (pc := 34) 106 5 C dX9_formed_34 (sw_in h10 (by decide)) (by decide) (by decide) rfl (by decide) ?_
      refine j_iload (pc := 106) C dX9_formed_106 rfl ?_
      refine j_if_ne (pc := 108) 115 C dX9_formed_108 (by decide) (fun h11 => ?_) (fun h11 => ?_)
      · have hk := it_f h11 hk
        refine j_iload (pc := 115) C dX9_formed_115 rfl ?_
        exact j_iretR (pc := 117) C dX9_formed_117 (Nat.le_of_ble_eq_true rfl) (Nat.le_of_ble_eq_true rfl) hk
      · have hk := it_t h11 hk
        refine j_iconst (pc := 111) (v := nI 3) C dX9_formed_111 (by decide) ?_
        refine j_goto (pc := 112) 117 C dX9_formed_112 (by decide) ?_
        exact j_iretR (pc := 117) C dX9_formed_117 (Nat.le_of_ble_eq_true rfl) (Nat.le_of_ble_eq_true rfl) hk
    have hk := it_f h10 hk
    by_cases h12 : x0 = nI 6
    · have hk := it_t h12 hk
      refine j_tableIn (pc := 34) 118 6 C dX9_formed_34 (sw_in h12 (by decide)) (by decide) (by decide) rfl (by decide) ?_
      refine j_iload (pc := 118) C dX9_formed_118 rfl ?_
      refine j_if_ne (pc := 120) 129 C dX9_formed_120 (by decide) (fun h13 => ?_) (fun h13 => ?_)
      · have hk := it_f h13 hk
        refine j_iload (pc := 129) C dX9_formed_129 rfl ?_
        exact j_iretR (pc := 131) C dX9_formed_131 (Nat.le_of_ble_eq_true rfl) (Nat.le_of_ble_eq_true rfl) hk
      · have hk := it_t h13 hk
        refine j_iload_n (pc := 123) C dX9_formed_123 rfl rfl ?_
        refine j_iconst (pc := 124) (v := nI 5) C dX9_formed_124 (by decide) ?_
        refine j_isub (pc := 125) C dX9_formed_125 ?_
        refine j_goto (pc := 126) 131 C dX9_formed_126 (by decide) ?_
        exact j_iretR (pc := 131) C dX9_formed_131 (Nat.le_of_ble_eq_true rfl) (Nat.le_of_ble_eq_true rfl) hk
    have hk := it_f h12 hk
    by_cases h14 : x0 = nI 7
    · have hk := it_t h14 hk
      refine j_tableIn (pc := 34) 118 7 C dX9_formed_34 (sw_in h14 (by decide)) (by decide) (by decide) rfl (by decide) ?_
      refine j_iload (pc := 118) C dX9_formed_118 rfl ?_
      refine j_if_ne (pc := 120) 129 C dX9_formed_120 (by decide) (fun h15 => ?_) (fun h15 => ?_)
      · have hk := it_f h15 hk
        refine j_iload (pc := 129) C dX9_formed_129 rfl ?_
        exact j_iretR (pc := 131) C dX9_formed_131 (Nat.le_of_ble_eq_true rfl) (Nat.le_of_ble_eq_true rfl) hk
      · have hk := it_t h15 hk
        refine j_iload_n (pc := 123) C dX9_formed_123 rfl rfl ?_
        refine j_iconst (pc := 124) (v := nI 5) C dX9_formed_124 (by decide) ?_
        refine j_isub (pc := 125) C dX9_formed_125 ?_
        refine j_goto (pc := 126) 131 C dX9_formed_126 (by decide) ?_
        exact j_iretR (pc := 131) C dX9_formed_131 (Nat.le_of_ble_eq_true rfl) (Nat.le_of_ble_eq_true rfl) hk
    have hk := it_f h14 hk
    by_cases h16 : x0 = nI 8
    · have hk := it_t h16 hk
      refine j_tableIn (pc := 34) 132 8 C dX9_formed_34 (sw_in h16 (by decide)) (by decide) (by decide) rfl (by decide) ?_
      refine j_iload (pc := 132) C dX9_formed_132 rfl ?_
      refine j_if_ne (pc := 134) 147 C dX9_formed_134 (by decide) (fun h17 => ?_) (fun h17 => ?_)
      · have hk := it_f h17 hk
        refine j_iload (pc := 147) C dX9_formed_147 rfl ?_
        exact j_iretR (pc := 149) C dX9_formed_149 (Nat.le_of_ble_eq_true rfl) (Nat.le_of_ble_eq_true rfl) hk
      · have hk := it_t h17 hk
        refine j_iconst (pc := 137) (v := nI 1) C dX9_formed_137 (by decide) ?_
        refine j_iload_n (pc := 138) C dX9_formed_138 rfl rfl ?_
        refine j_iconst (pc := 139) (v := nI 0) C dX9_formed_139 (by decide) ?_
        obtain ⟨r140, h18, hk⟩ := ob_some hk
        refine j_callS (pc := 140) C (ct_X9_wants h18) ms_X9_wants q1997 dX9_formed_140 rfl rfl (Nat.le_of_ble_eq_true rfl) rfl ?_
        refine j_iadd (pc := 143) C dX9_formed_143 ?_
        refine j_goto (pc := 144) 149 C dX9_formed_144 (by decide) ?_
        exact j_iretR (pc := 149) C dX9_formed_149 (Nat.le_of_ble_eq_true rfl) (Nat.le_of_ble_eq_true rfl) hk
    have hk := it_f h16 hk
    by_cases h19 : x0 = nI 9
    · have hk := it_t h19 hk
      refine j_tableIn (pc := 34) 150 9 C dX9_formed_34 (sw_in h19 (by decide)) (by decide) (by decide) rfl (by decide) ?_
      refine j_iload_n (pc := 150) C dX9_formed_150 rfl rfl ?_
      refine j_if_ne (pc := 151) 158 C dX9_formed_151 (by decide) (fun h20 => ?_) (fun h20 => ?_)
      · have hk := it_f h20 hk
        refine j_iload_n (pc := 158) C dX9_formed_158 rfl rfl ?_
        refine j_if_ne (pc := 159) 166 C dX9_formed_159 (by decide) (fun h21 => ?_) (fun h21 => ?_)
        · have hk := it_f h21 hk
          refine j_iconst (pc := 166) (v := nI 3) C dX9_formed_166 (by decide) ?_
          exact j_iretR (pc := 167) C dX9_formed_167 (Nat.le_of_ble_eq_true rfl) (Nat.le_of_ble_eq_true rfl) hk
        · have hk := it_t h21 hk
          refine j_iconst (pc := 162) (v := nI 1) C dX9_formed_162 (by decide) ?_
          refine j_goto (pc := 163) 167 C dX9_formed_163 (by decide) ?_
          exact j_iretR (pc := 167) C dX9_formed_167 (Nat.le_of_ble_eq_true rfl) (Nat.le_of_ble_eq_true rfl) hk
      · have hk := it_t h20 hk
        refine j_iconst (pc := 154) (v := nI 2) C dX9_formed_154 (by decide) ?_
        refine j_goto (pc := 155) 167 C dX9_formed_155 (by decide) ?_
        exact j_iretR (pc := 167) C dX9_formed_167 (Nat.le_of_ble_eq_true rfl) (Nat.le_of_ble_eq_true rfl) hk
    have hk := it_f h19 hk
    by_cases h22 : x0 = nI 10
    · have hk := it_t h22 hk
      refine j_tableIn (pc := 34) 168 10 C dX9_formed_34 (sw_in h22 (by decide)) (by decide) (by decide) rfl (by decide) ?_
      refine j_iload_n (pc := 168) C dX9_formed_168 rfl rfl ?_
      refine j_if_le (pc := 169) 176 C dX9_formed_169 (by decide) (fun h23 => ?_) (fun h23 => ?_)
      · have hk := it_t h23 hk
        refine j_iconst (pc := 176) (v := nI 1) C dX9_formed_176 (by decide) ?_
        exact j_iretR (pc := 177) C dX9_formed_177 (Nat.le_of_ble_eq_true rfl) (Nat.le_of_ble_eq_true rfl) hk
      · have hk := it_f h23 hk
        refine j_iconst (pc := 172) (v := nI 2) C dX9_formed_172 (by decide) ?_
        refine j_goto (pc := 173) 177 C dX9_formed_173 (by decide) ?_
        exact j_iretR (pc := 177) C dX9_formed_177 (Nat.le_of_ble_eq_true rfl) (Nat.le_of_ble_eq_true rfl) hk
    have hk := it_f h22 hk
    refine j_tableOut (pc := 34) 178 C dX9_formed_34 (sw_out (lo := 0) (hi := 10) (by decide) (fun j a1 a2 => by
      have a3 : j = 0 ∨ j = 1 ∨ j = 2 ∨ j = 3 ∨ j = 4 ∨ j = 5 ∨ j = 6 ∨ j = 7 ∨ j = 8 ∨ j = 9 ∨ j = 10 := by omega
      rcases a3 with rfl | rfl | rfl | rfl | rfl | rfl | rfl | rfl | rfl | rfl | rfl
      · exact h3
      · exact h4
      · exact h5
      · exact h6
      · exact h8
      · exact h10
      · exact h12
      · exact h14
      · exact h16
      · exact h19
      · exact h22)) (by decide) ?_
    refine j_iload_n (pc := 178) C dX9_formed_178 rfl rfl ?_
    refine j_if_le (pc := 179) 186 C dX9_formed_179 (by decide) (fun h24 => ?_) (fun h24 => ?_)
    · have hk := it_t h24 hk
      refine j_iconst (pc := 186) (v := nI 2) C dX9_formed_186 (by decide) ?_
      exact j_iretR (pc := 187) C dX9_formed_187 (Nat.le_of_ble_eq_true rfl) (Nat.le_of_ble_eq_true rfl) hk
    · have hk := it_f h24 hk
      refine j_iconst (pc := 182) (v := nI 1) C dX9_formed_182 (by decide) ?_
      refine j_goto (pc := 183) 187 C dX9_formed_183 (by decide) ?_
      exact j_iretR (pc := 187) C dX9_formed_187 (Nat.le_of_ble_eq_true rfl) (Nat.le_of_ble_eq_true rfl) hk
  refine j_icmp_le (pc := 14) 21 C dX9_formed_14 (by decide) (fun h25 => ?_) (fun h25 => ?_)
  · have hk := it_t h25 hk
    refine j_iload_n (pc := 21) C dX9_formed_21 rfl rfl ?_
    refine j_iload_n (pc := 22) C dX9_formed_22 rfl rfl ?_
    refine j_icmp_le (pc := 23) 30 C dX9_formed_23 (by decide) (fun h26 => ?_) (fun h26 => ?_)
    · have hk := it_t h26 hk
      refine j_iconst (pc := 30) (v := nI 0) C dX9_formed_30 (by decide) ?_
      exact j_mask [true, true, true, true, false] (Jn31 _ _ _ _ _ hk)
    · have hk := it_f h26 hk
      refine j_iconst (pc := 26) (v := nI 2) C dX9_formed_26 (by decide) ?_
      refine j_goto (pc := 27) 31 C dX9_formed_27 (by decide) ?_
      exact j_mask [true, true, true, true, false] (Jn31 _ _ _ _ _ hk)
  · have hk := it_f h25 hk
    refine j_iconst (pc := 17) (v := nI 1) C dX9_formed_17 (by decide) ?_
    refine j_goto (pc := 18) 31 C dX9_formed_18 (by decide) ?_
    exact j_mask [true, true, true, true, false] (Jn31 _ _ _ _ _ hk)
def f_X9_form_J50 (F : Nat) (k21 : Int32 → Int32 → II → Option (Int32 × II)) (x1 : Int32) (x3 : Int32) (s0 : Int32) (s1 : Int32) (I : II) : Option (Int32 × II) := (f_X9_formed F x1 x3).bind fun r62 => oix ((nI 10) + x3) 366 fun i65 => k21 (s0 + s1) (x3 + (nI 1)) (up2 I 28 i65 r62)
def f_X9_form_L21 (F : Nat) (x1 : Int32) : Nat → Int32 → Int32 → II → Option (Int32 × II)
  | 0, _, _, _ => none
  | n21 + 1, x2, x3, I => if (nI 12) ≤ x3 then some (x2, I) else oix ((nI 10) + x3) 366 fun i36 => (f_X9_formed F x1 x3).bind fun r39 => if (I 28 i36) = r39 then f_X9_form_J50 F (f_X9_form_L21 F x1 n21) x1 x3 x2 (nI 0) I else f_X9_form_J50 F (f_X9_form_L21 F x1 n21) x1 x3 x2 (nI 1) I
def f_X9_form (F : Nat) (x1 : Int32) (I : II) : Option (Int32 × II) := (f_X9_within x1 (nI 0) (nI 11)).bind fun r4 => if r4 = 0 then bd2 (f_X9_finding (-1000001) I) fun r13 I13 => some (r13, I13) else f_X9_form_L21 F x1 F (nI 0) (nI 0) I
abbrev rm_X9_form : Room := { frames := 4, cells := 0, slots := 0, locals := 88 }
theorem mv_X9_form : MV yX9_form cX9_form 4 (some .int) 1 := ⟨q2145, q2146, q106, q2147, by decide +kernel⟩
set_option maxHeartbeats 4000000 in
theorem ct_X9_form {G : WG} {l : Launch} {sh : SH} (hS : StM sh) {I : II} {F : Nat} {x1 : Int32} {r : Int32} {I9 : II} (hk : f_X9_form F x1 I = some (r, I9)) : CT G l yX9_form (ws_ yX9_form cX9_form 4 (some .int)) rm_X9_form [.ref (wad G 27), .int x1] (sh, I) (.returned (some (.int r))) (sh, I9) := by
  refine CT.ofJ "NineDemandsModel" rfl (by decide) (Nat.le_of_ble_eq_true rfl) ?_
  intro p e s m args below meth c C
  unfold f_X9_form at hk
  refine j_lv (lv' := [some (.ref (wad G 27)), some (.int x1), none, none]) rfl ?_
  refine j_iload_n (pc := 0) C dX9_form_0 rfl rfl ?_
  refine j_iconst (pc := 1) (v := nI 0) C dX9_form_1 (by decide) ?_
  refine j_bipush (pc := 2) (v := nI 11) C dX9_form_2 (by decide) ?_
  obtain ⟨r4, h1, hk⟩ := ob_some hk
  refine j_callS (pc := 4) C (ct_X9_within h1) ms_X9_within q2107 dX9_form_4 rfl rfl (Nat.le_of_ble_eq_true rfl) rfl ?_
  refine j_if_ne (pc := 7) 17 C dX9_form_7 (by decide) (fun h2 => ?_) (fun h2 => ?_)
  · have hk := it_f h2 hk
    refine j_iconst (pc := 17) (v := nI 0) C dX9_form_17 (by decide) ?_
    refine j_istore_n (pc := 18) C dX9_form_18 rfl (Nat.le_of_ble_eq_true rfl) rfl ?_
    refine j_iconst (pc := 19) (v := nI 0) C dX9_form_19 (by decide) ?_
    refine j_istore_n (pc := 20) C dX9_form_20 rfl (Nat.le_of_ble_eq_true rfl) rfl ?_
    have L21 : ∀ (x1 : Int32) (n21 : Nat) (x2 : Int32) (x3 : Int32) (I : II), f_X9_form_L21 F x1 n21 x2 x3 I = some (r, I9) → J G p l e rm_X9_form s m args below meth c 4 (.returned (some (.int r))) (sh, I9) (rm_X9_form).cells (rm_X9_form).slots (sh, I) 0 0 21 [some (.ref (wad G 27)), some (.int x1), some (.int x2), some (.int x3)] [] := by
      intro x1 n21
      induction n21 with
      | zero => intro x2 x3 I hk; rw [f_X9_form_L21] at hk; cases hk
      | succ n21 ih21 =>
        intro x2 x3 I hk
        rw [f_X9_form_L21] at hk
        generalize f_X9_form_L21 F x1 n21 = k21 at ih21 hk
        refine j_iload_n (pc := 21) C dX9_form_21 rfl rfl ?_
        refine j_bipush (pc := 22) (v := nI 12) C dX9_form_22 (by decide) ?_
        refine j_icmp_ge (pc := 24) 72 C dX9_form_24 (by decide) (fun h3 => ?_) (fun h3 => ?_)
        · have hk := it_t h3 hk
          refine j_iload_n (pc := 72) C dX9_form_72 rfl rfl ?_
          exact j_iretW (pc := 73) C dX9_form_73 (Nat.le_of_ble_eq_true rfl) (Nat.le_of_ble_eq_true rfl) hk
        · have hk := it_f h3 hk
          refine j_iload_n (pc := 27) C dX9_form_27 rfl rfl ?_
          refine j_aload_n (pc := 28) C dX9_form_28 rfl rfl ?_
          refine j_getR (pc := 29) C fd_10_0 q2000 (stM_o hS) (stM_r0 hS) dX9_form_29 ?_
          refine j_bipush (pc := 32) (v := nI 10) C dX9_form_32 (by decide) ?_
          refine j_iload_n (pc := 34) C dX9_form_34 rfl rfl ?_
          refine j_iadd (pc := 35) C dX9_form_35 ?_
          obtain ⟨i36, e36, h4, hk⟩ := oix_ex hk
          refine j_iald (pc := 36) C (stM_a28 hS) h4 e36 dX9_form_36 ?_
          refine j_iload_n (pc := 37) C dX9_form_37 rfl rfl ?_
          refine j_iload_n (pc := 38) C dX9_form_38 rfl rfl ?_
          obtain ⟨r39, h5, hk⟩ := ob_some hk
          refine j_callS (pc := 39) C (ct_X9_formed h5) ms_X9_formed q2148 dX9_form_39 rfl rfl (Nat.le_of_ble_eq_true rfl) rfl ?_
          have Jn50 : ∀ (x3 : Int32) (s0 : Int32) (s1 : Int32) (I : II), f_X9_form_J50 F k21 x1 x3 s0 s1 I = some (r, I9) → J G p l e rm_X9_form s m args below meth c 4 (.returned (some (.int r))) (sh, I9) (rm_X9_form).cells (rm_X9_form).slots (sh, I) 0 0 50 [some (.ref (wad G 27)), some (.int x1), none, some (.int x3)] [.int s1, .int s0] := by
            intro x3 s0 s1 I hk
            unfold f_X9_form_J50 at hk
            refine j_iadd (pc := 50) C dX9_form_50 ?_
            refine j_istore_n (pc := 51) C dX9_form_51 rfl (Nat.le_of_ble_eq_true rfl) rfl ?_
            refine j_aload_n (pc := 52) C dX9_form_52 rfl rfl ?_
            refine j_getR (pc := 53) C fd_10_0 q2000 (stM_o hS) (stM_r0 hS) dX9_form_53 ?_
            refine j_bipush (pc := 56) (v := nI 10) C dX9_form_56 (by decide) ?_
            refine j_iload_n (pc := 58) C dX9_form_58 rfl rfl ?_
            refine j_iadd (pc := 59) C dX9_form_59 ?_
            refine j_iload_n (pc := 60) C dX9_form_60 rfl rfl ?_
            refine j_iload_n (pc := 61) C dX9_form_61 rfl rfl ?_
            obtain ⟨r62, h6, hk⟩ := ob_some hk
            refine j_callS (pc := 62) C (ct_X9_formed h6) ms_X9_formed q2148 dX9_form_62 rfl rfl (Nat.le_of_ble_eq_true rfl) rfl ?_
            obtain ⟨i65, e65, h7, hk⟩ := oix_ex hk
            refine j_iast (pc := 65) C (stM_a28 hS) h7 e65 dX9_form_65 ?_
            refine j_iinc (pc := 66) (nI 1) C dX9_form_66 rfl (by decide) (Nat.le_of_ble_eq_true rfl) rfl ?_
            refine j_goto (pc := 69) 21 C dX9_form_69 (by decide) ?_
            exact j_mask [true, true, true, true] (ih21 _ _ _ hk)
          refine j_icmp_eq (pc := 42) 49 C dX9_form_42 (by decide) (fun h8 => ?_) (fun h8 => ?_)
          · have hk := it_t h8 hk
            refine j_iconst (pc := 49) (v := nI 0) C dX9_form_49 (by decide) ?_
            exact j_mask [true, true, false, true] (Jn50 _ _ _ _ hk)
          · have hk := it_f h8 hk
            refine j_iconst (pc := 45) (v := nI 1) C dX9_form_45 (by decide) ?_
            refine j_goto (pc := 46) 50 C dX9_form_46 (by decide) ?_
            exact j_mask [true, true, false, true] (Jn50 _ _ _ _ hk)
    exact j_mask [true, true, true, true] (L21 _ _ _ _ _ hk)
  · have hk := it_t h2 hk
    refine j_aload_n (pc := 10) C dX9_form_10 rfl rfl ?_
    refine j_ldc (pc := 11) (v := (-1000001)) C q2110 dX9_form_11 ?_
    obtain ⟨r13, I13, h9, hk⟩ := bd2_some hk
    refine j_callV (pc := 13) C (ct_X9_finding hS h9) mv_X9_finding (stM_o hS) rfl rfl q2111 dX9_form_13 rfl rfl (Nat.le_of_ble_eq_true rfl) rfl ?_
    exact j_iretW (pc := 16) C dX9_form_16 (Nat.le_of_ble_eq_true rfl) (Nat.le_of_ble_eq_true rfl) hk
def f_X9_feed_L40 (F : Nat) (x1 : Int64) (x3 : Int32) : Nat → Int32 → II → Option (Int32 × II)
  | 0, _, _ => none
  | n40 + 1, x4, I => if x3 ≤ x4 then oix (nI 1) 366 fun i93 => some ((I 28 i93), I) else oix (nI 1) 366 fun i57 => oix ((nI 40) + (I 28 i57)) 366 fun i71 => oix (nI 1) 366 fun i78 => oix (nI 1) 366 fun i81 => (f_X9_feed_L40 F x1 x3 n40) (x4 + (nI 1)) (up2 (up2 I 28 i71 (Int64.toInt32 ((x1 >>> (Int32.toInt64 ((nI 8) * x4) &&& 63)) &&& (255)))) 28 i81 (((up2 I 28 i71 (Int64.toInt32 ((x1 >>> (Int32.toInt64 ((nI 8) * x4) &&& 63)) &&& (255)))) 28 i78) + (nI 1)))
def f_X9_feed (F : Nat) (x1 : Int64) (x3 : Int32) (I : II) : Option (Int32 × II) := (f_X9_within x3 (nI 1) (nI 8)).bind fun r4 => if r4 = 0 then bd2 (f_X9_finding (-1000001) I) fun r13 I13 => some (r13, I13) else oix (nI 1) 366 fun i22 => if ((I 28 i22) + x3) ≤ (nI 50) then f_X9_feed_L40 F x1 x3 F (nI 0) I else bd2 (f_X9_finding (-1000004) I) fun r33 I33 => some (r33, I33)
abbrev rm_X9_feed : Room := { frames := 1, cells := 0, slots := 0, locals := 22 }
theorem mv_X9_feed : MV yX9_feed cX9_feed 5 (some .int) 2 := ⟨q2152, q2153, q106, q2154, by decide +kernel⟩
set_option maxHeartbeats 4000000 in
theorem ct_X9_feed {G : WG} {l : Launch} {sh : SH} (hS : StM sh) {I : II} {F : Nat} {x1 : Int64} {x3 : Int32} {r : Int32} {I9 : II} (hk : f_X9_feed F x1 x3 I = some (r, I9)) : CT G l yX9_feed (ws_ yX9_feed cX9_feed 5 (some .int)) rm_X9_feed [.ref (wad G 27), .long x1, .int x3] (sh, I) (.returned (some (.int r))) (sh, I9) := by
  refine CT.ofJ "NineDemandsModel" rfl (by decide) (Nat.le_of_ble_eq_true rfl) ?_
  intro p e s m args below meth c C
  unfold f_X9_feed at hk
  refine j_lv (lv' := [some (.ref (wad G 27)), some (.long x1), none, some (.int x3), none]) rfl ?_
  refine j_iload_n (pc := 0) C dX9_feed_0 rfl rfl ?_
  refine j_iconst (pc := 1) (v := nI 1) C dX9_feed_1 (by decide) ?_
  refine j_bipush (pc := 2) (v := nI 8) C dX9_feed_2 (by decide) ?_
  obtain ⟨r4, h1, hk⟩ := ob_some hk
  refine j_callS (pc := 4) C (ct_X9_within h1) ms_X9_within q2107 dX9_feed_4 rfl rfl (Nat.le_of_ble_eq_true rfl) rfl ?_
  refine j_if_ne (pc := 7) 17 C dX9_feed_7 (by decide) (fun h2 => ?_) (fun h2 => ?_)
  · have hk := it_f h2 hk
    refine j_aload_n (pc := 17) C dX9_feed_17 rfl rfl ?_
    refine j_getR (pc := 18) C fd_10_0 q2000 (stM_o hS) (stM_r0 hS) dX9_feed_18 ?_
    refine j_iconst (pc := 21) (v := nI 1) C dX9_feed_21 (by decide) ?_
    obtain ⟨i22, e22, h3, hk⟩ := oix_ex hk
    refine j_iald (pc := 22) C (stM_a28 hS) h3 e22 dX9_feed_22 ?_
    refine j_iload_n (pc := 23) C dX9_feed_23 rfl rfl ?_
    refine j_iadd (pc := 24) C dX9_feed_24 ?_
    refine j_bipush (pc := 25) (v := nI 50) C dX9_feed_25 (by decide) ?_
    refine j_icmp_le (pc := 27) 37 C dX9_feed_27 (by decide) (fun h4 => ?_) (fun h4 => ?_)
    · have hk := it_t h4 hk
      refine j_iconst (pc := 37) (v := nI 0) C dX9_feed_37 (by decide) ?_
      refine j_istore (pc := 38) C dX9_feed_38 (Nat.le_of_ble_eq_true rfl) rfl ?_
      have L40 : ∀ (x1 : Int64) (x3 : Int32) (n40 : Nat) (x4 : Int32) (I : II), f_X9_feed_L40 F x1 x3 n40 x4 I = some (r, I9) → J G p l e rm_X9_feed s m args below meth c 5 (.returned (some (.int r))) (sh, I9) (rm_X9_feed).cells (rm_X9_feed).slots (sh, I) 0 0 40 [some (.ref (wad G 27)), some (.long x1), none, some (.int x3), some (.int x4)] [] := by
        intro x1 x3 n40
        induction n40 with
        | zero => intro x4 I hk; rw [f_X9_feed_L40] at hk; cases hk
        | succ n40 ih40 =>
          intro x4 I hk
          rw [f_X9_feed_L40] at hk
          generalize f_X9_feed_L40 F x1 x3 n40 = k40 at ih40 hk
          refine j_iload (pc := 40) C dX9_feed_40 rfl ?_
          refine j_iload_n (pc := 42) C dX9_feed_42 rfl rfl ?_
          refine j_icmp_ge (pc := 43) 88 C dX9_feed_43 (by decide) (fun h5 => ?_) (fun h5 => ?_)
          · have hk := it_t h5 hk
            refine j_aload_n (pc := 88) C dX9_feed_88 rfl rfl ?_
            refine j_getR (pc := 89) C fd_10_0 q2000 (stM_o hS) (stM_r0 hS) dX9_feed_89 ?_
            refine j_iconst (pc := 92) (v := nI 1) C dX9_feed_92 (by decide) ?_
            obtain ⟨i93, e93, h6, hk⟩ := oix_ex hk
            refine j_iald (pc := 93) C (stM_a28 hS) h6 e93 dX9_feed_93 ?_
            exact j_iretW (pc := 94) C dX9_feed_94 (Nat.le_of_ble_eq_true rfl) (Nat.le_of_ble_eq_true rfl) hk
          · have hk := it_f h5 hk
            refine j_aload_n (pc := 46) C dX9_feed_46 rfl rfl ?_
            refine j_getR (pc := 47) C fd_10_0 q2000 (stM_o hS) (stM_r0 hS) dX9_feed_47 ?_
            refine j_bipush (pc := 50) (v := nI 40) C dX9_feed_50 (by decide) ?_
            refine j_aload_n (pc := 52) C dX9_feed_52 rfl rfl ?_
            refine j_getR (pc := 53) C fd_10_0 q2000 (stM_o hS) (stM_r0 hS) dX9_feed_53 ?_
            refine j_iconst (pc := 56) (v := nI 1) C dX9_feed_56 (by decide) ?_
            obtain ⟨i57, e57, h7, hk⟩ := oix_ex hk
            refine j_iald (pc := 57) C (stM_a28 hS) h7 e57 dX9_feed_57 ?_
            refine j_iadd (pc := 58) C dX9_feed_58 ?_
            refine j_lload_n (pc := 59) C dX9_feed_59 rfl rfl ?_
            refine j_bipush (pc := 60) (v := nI 8) C dX9_feed_60 (by decide) ?_
            refine j_iload (pc := 62) C dX9_feed_62 rfl ?_
            refine j_imul (pc := 64) C dX9_feed_64 ?_
            refine j_lshr (pc := 65) C dX9_feed_65 ?_
            refine j_ldc2 (pc := 66) C q2156 dX9_feed_66 ?_
            refine j_land (pc := 69) C dX9_feed_69 ?_
            refine j_l2i (pc := 70) C dX9_feed_70 ?_
            obtain ⟨i71, e71, h8, hk⟩ := oix_ex hk
            refine j_iast (pc := 71) C (stM_a28 hS) h8 e71 dX9_feed_71 ?_
            refine j_aload_n (pc := 72) C dX9_feed_72 rfl rfl ?_
            refine j_getR (pc := 73) C fd_10_0 q2000 (stM_o hS) (stM_r0 hS) dX9_feed_73 ?_
            refine j_iconst (pc := 76) (v := nI 1) C dX9_feed_76 (by decide) ?_
            refine j_dup2 (pc := 77) C dX9_feed_77 rfl rfl ?_
            obtain ⟨i78, e78, h9, hk⟩ := oix_ex hk
            refine j_iald (pc := 78) C (stM_a28 hS) h9 e78 dX9_feed_78 ?_
            refine j_iconst (pc := 79) (v := nI 1) C dX9_feed_79 (by decide) ?_
            refine j_iadd (pc := 80) C dX9_feed_80 ?_
            obtain ⟨i81, e81, h10, hk⟩ := oix_ex hk
            refine j_iast (pc := 81) C (stM_a28 hS) h10 e81 dX9_feed_81 ?_
            refine j_iinc (pc := 82) (nI 1) C dX9_feed_82 rfl (by decide) (Nat.le_of_ble_eq_true rfl) rfl ?_
            refine j_goto (pc := 85) 40 C dX9_feed_85 (by decide) ?_
            exact j_mask [true, true, false, true, true] (ih40 _ _ hk)
      exact j_mask [true, true, false, true, true] (L40 _ _ _ _ _ hk)
    · have hk := it_f h4 hk
      refine j_aload_n (pc := 30) C dX9_feed_30 rfl rfl ?_
      refine j_ldc (pc := 31) (v := (-1000004)) C q2155 dX9_feed_31 ?_
      obtain ⟨r33, I33, h11, hk⟩ := bd2_some hk
      refine j_callV (pc := 33) C (ct_X9_finding hS h11) mv_X9_finding (stM_o hS) rfl rfl q2111 dX9_feed_33 rfl rfl (Nat.le_of_ble_eq_true rfl) rfl ?_
      exact j_iretW (pc := 36) C dX9_feed_36 (Nat.le_of_ble_eq_true rfl) (Nat.le_of_ble_eq_true rfl) hk
  · have hk := it_t h2 hk
    refine j_aload_n (pc := 10) C dX9_feed_10 rfl rfl ?_
    refine j_ldc (pc := 11) (v := (-1000001)) C q2110 dX9_feed_11 ?_
    obtain ⟨r13, I13, h12, hk⟩ := bd2_some hk
    refine j_callV (pc := 13) C (ct_X9_finding hS h12) mv_X9_finding (stM_o hS) rfl rfl q2111 dX9_feed_13 rfl rfl (Nat.le_of_ble_eq_true rfl) rfl ?_
    exact j_iretW (pc := 16) C dX9_feed_16 (Nat.le_of_ble_eq_true rfl) (Nat.le_of_ble_eq_true rfl) hk
