/-! the reference: walks -/
set_option maxRecDepth 100000
def f_X9_hallOf (x1 : Int32) (x2 : Int32) (I : II) : Option Int32 := (f_X9_kindOf x1 I).bind fun r10 => oix r10 7 fun i13 => oix ((I 31 i13) + x2) 90 fun i16 => some (I 32 i16)
abbrev rm_X9_hallOf : Room := { frames := 1, cells := 0, slots := 0, locals := 21 }
theorem mv_X9_hallOf : MV yX9_hallOf cX9_hallOf 3 (some .int) 2 := ⟨q2252, qs64, q106, q2253, by decide +kernel⟩
set_option maxHeartbeats 4000000 in
theorem ct_X9_hallOf {G : WG} {l : Launch} {sh : SH} (hS : StM sh) {I : II} {x1 : Int32} {x2 : Int32} {r : Int32} (hk : f_X9_hallOf x1 x2 I = some r) : CT G l yX9_hallOf (ws_ yX9_hallOf cX9_hallOf 3 (some .int)) rm_X9_hallOf [.ref (wad G 27), .int x1, .int x2] (sh, I) (.returned (some (.int r))) (sh, I) := by
  refine CT.ofJ "NineDemandsModel" rfl (by decide) (Nat.le_of_ble_eq_true rfl) ?_
  intro p e s m args below meth c C
  unfold f_X9_hallOf at hk
  refine j_lv (lv' := [some (.ref (wad G 27)), some (.int x1), some (.int x2)]) rfl ?_
  refine j_aload_n (pc := 0) C dX9_hallOf_0 rfl rfl ?_
  refine j_getR (pc := 1) C fd_10_5 q2005 (stM_o hS) (stM_r5 hS) dX9_hallOf_1 ?_
  refine j_aload_n (pc := 4) C dX9_hallOf_4 rfl rfl ?_
  refine j_getR (pc := 5) C fd_10_4 q2004 (stM_o hS) (stM_r4 hS) dX9_hallOf_5 ?_
  refine j_aload_n (pc := 8) C dX9_hallOf_8 rfl rfl ?_
  refine j_iload_n (pc := 9) C dX9_hallOf_9 rfl rfl ?_
  obtain ⟨r10, h1, hk⟩ := ob_some hk
  refine j_callV (pc := 10) C (ct_X9_kindOf hS h1) mv_X9_kindOf (stM_o hS) rfl rfl q2231 dX9_hallOf_10 rfl rfl (Nat.le_of_ble_eq_true rfl) rfl ?_
  obtain ⟨i13, e13, h2, hk⟩ := oix_ex hk
  refine j_iald (pc := 13) C (stM_a31 hS) h2 e13 dX9_hallOf_13 ?_
  refine j_iload_n (pc := 14) C dX9_hallOf_14 rfl rfl ?_
  refine j_iadd (pc := 15) C dX9_hallOf_15 ?_
  obtain ⟨i16, e16, h3, hk⟩ := oix_ex hk
  refine j_iald (pc := 16) C (stM_a32 hS) h3 e16 dX9_hallOf_16 ?_
  exact j_iretR (pc := 17) C dX9_hallOf_17 (Nat.le_of_ble_eq_true rfl) (Nat.le_of_ble_eq_true rfl) hk
def f_X9_hasOther (x1 : Int32) (I : II) : Option Int32 := (f_X9_kindOf x1 I).bind fun r2 => if r2 = 0 then some (nI 0) else (f_X9_kindOf x1 I).bind fun r10 => if r10 = (nI 5) then some (nI 0) else some (nI 1)
abbrev rm_X9_hasOther : Room := { frames := 1, cells := 0, slots := 0, locals := 21 }
theorem mv_X9_hasOther : MV yX9_hasOther cX9_hasOther 2 (some .boolean) 1 := ⟨q2256, qs65, q106, q2257, by decide +kernel⟩
set_option maxHeartbeats 4000000 in
theorem ct_X9_hasOther {G : WG} {l : Launch} {sh : SH} (hS : StM sh) {I : II} {x1 : Int32} {r : Int32} (hk : f_X9_hasOther x1 I = some r) : CT G l yX9_hasOther (ws_ yX9_hasOther cX9_hasOther 2 (some .boolean)) rm_X9_hasOther [.ref (wad G 27), .int x1] (sh, I) (.returned (some (.int r))) (sh, I) := by
  refine CT.ofJ "NineDemandsModel" rfl (by decide) (Nat.le_of_ble_eq_true rfl) ?_
  intro p e s m args below meth c C
  unfold f_X9_hasOther at hk
  refine j_lv (lv' := [some (.ref (wad G 27)), some (.int x1)]) rfl ?_
  refine j_aload_n (pc := 0) C dX9_hasOther_0 rfl rfl ?_
  refine j_iload_n (pc := 1) C dX9_hasOther_1 rfl rfl ?_
  obtain ⟨r2, h1, hk⟩ := ob_some hk
  refine j_callV (pc := 2) C (ct_X9_kindOf hS h1) mv_X9_kindOf (stM_o hS) rfl rfl q2231 dX9_hasOther_2 rfl rfl (Nat.le_of_ble_eq_true rfl) rfl ?_
  refine j_if_eq (pc := 5) 21 C dX9_hasOther_5 (by decide) (fun h2 => ?_) (fun h2 => ?_)
  · have hk := it_t h2 hk
    refine j_iconst (pc := 21) (v := nI 0) C dX9_hasOther_21 (by decide) ?_
    exact j_zretR (pc := 22) C dX9_hasOther_22 (Nat.le_of_ble_eq_true rfl) (Nat.le_of_ble_eq_true rfl) rfl hk
  · have hk := it_f h2 hk
    refine j_aload_n (pc := 8) C dX9_hasOther_8 rfl rfl ?_
    refine j_iload_n (pc := 9) C dX9_hasOther_9 rfl rfl ?_
    obtain ⟨r10, h3, hk⟩ := ob_some hk
    refine j_callV (pc := 10) C (ct_X9_kindOf hS h3) mv_X9_kindOf (stM_o hS) rfl rfl q2231 dX9_hasOther_10 rfl rfl (Nat.le_of_ble_eq_true rfl) rfl ?_
    refine j_iconst (pc := 13) (v := nI 5) C dX9_hasOther_13 (by decide) ?_
    refine j_icmp_eq (pc := 14) 21 C dX9_hasOther_14 (by decide) (fun h4 => ?_) (fun h4 => ?_)
    · have hk := it_t h4 hk
      refine j_iconst (pc := 21) (v := nI 0) C dX9_hasOther_21 (by decide) ?_
      exact j_zretR (pc := 22) C dX9_hasOther_22 (Nat.le_of_ble_eq_true rfl) (Nat.le_of_ble_eq_true rfl) rfl hk
    · have hk := it_f h4 hk
      refine j_iconst (pc := 17) (v := nI 1) C dX9_hasOther_17 (by decide) ?_
      refine j_goto (pc := 18) 22 C dX9_hasOther_18 (by decide) ?_
      exact j_zretR (pc := 22) C dX9_hasOther_22 (Nat.le_of_ble_eq_true rfl) (Nat.le_of_ble_eq_true rfl) rfl hk
def f_X9_isCase (x1 : Int32) (x2 : Int32) (I : II) : Option Int32 := (f_X9_isLaw x1 I).bind fun r2 => if r2 = 0 then some (nI 0) else (f_X9_casesOf x1 I).bind fun r12 => (f_X9_within x2 (nI 0) (r12 - (nI 1))).bind fun r17 => if r17 = 0 then some (nI 0) else some (nI 1)
abbrev rm_X9_isCase : Room := { frames := 2, cells := 0, slots := 0, locals := 43 }
theorem mv_X9_isCase : MV yX9_isCase cX9_isCase 3 (some .boolean) 2 := ⟨q2248, qs63, q106, q2249, by decide +kernel⟩
set_option maxHeartbeats 4000000 in
theorem ct_X9_isCase {G : WG} {l : Launch} {sh : SH} (hS : StM sh) {I : II} {x1 : Int32} {x2 : Int32} {r : Int32} (hk : f_X9_isCase x1 x2 I = some r) : CT G l yX9_isCase (ws_ yX9_isCase cX9_isCase 3 (some .boolean)) rm_X9_isCase [.ref (wad G 27), .int x1, .int x2] (sh, I) (.returned (some (.int r))) (sh, I) := by
  refine CT.ofJ "NineDemandsModel" rfl (by decide) (Nat.le_of_ble_eq_true rfl) ?_
  intro p e s m args below meth c C
  unfold f_X9_isCase at hk
  refine j_lv (lv' := [some (.ref (wad G 27)), some (.int x1), some (.int x2)]) rfl ?_
  refine j_aload_n (pc := 0) C dX9_isCase_0 rfl rfl ?_
  refine j_iload_n (pc := 1) C dX9_isCase_1 rfl rfl ?_
  obtain ⟨r2, h1, hk⟩ := ob_some hk
  refine j_callV (pc := 2) C (ct_X9_isLaw hS h1) mv_X9_isLaw (stM_o hS) rfl rfl q2223 dX9_isCase_2 rfl rfl (Nat.le_of_ble_eq_true rfl) rfl ?_
  refine j_if_eq (pc := 5) 27 C dX9_isCase_5 (by decide) (fun h2 => ?_) (fun h2 => ?_)
  · have hk := it_t h2 hk
    refine j_iconst (pc := 27) (v := nI 0) C dX9_isCase_27 (by decide) ?_
    exact j_zretR (pc := 28) C dX9_isCase_28 (Nat.le_of_ble_eq_true rfl) (Nat.le_of_ble_eq_true rfl) rfl hk
  · have hk := it_f h2 hk
    refine j_iload_n (pc := 8) C dX9_isCase_8 rfl rfl ?_
    refine j_iconst (pc := 9) (v := nI 0) C dX9_isCase_9 (by decide) ?_
    refine j_aload_n (pc := 10) C dX9_isCase_10 rfl rfl ?_
    refine j_iload_n (pc := 11) C dX9_isCase_11 rfl rfl ?_
    obtain ⟨r12, h3, hk⟩ := ob_some hk
    refine j_callV (pc := 12) C (ct_X9_casesOf hS h3) mv_X9_casesOf (stM_o hS) rfl rfl q2238 dX9_isCase_12 rfl rfl (Nat.le_of_ble_eq_true rfl) rfl ?_
    refine j_iconst (pc := 15) (v := nI 1) C dX9_isCase_15 (by decide) ?_
    refine j_isub (pc := 16) C dX9_isCase_16 ?_
    obtain ⟨r17, h4, hk⟩ := ob_some hk
    refine j_callS (pc := 17) C (ct_X9_within h4) ms_X9_within q2107 dX9_isCase_17 rfl rfl (Nat.le_of_ble_eq_true rfl) rfl ?_
    refine j_if_eq (pc := 20) 27 C dX9_isCase_20 (by decide) (fun h5 => ?_) (fun h5 => ?_)
    · have hk := it_t h5 hk
      refine j_iconst (pc := 27) (v := nI 0) C dX9_isCase_27 (by decide) ?_
      exact j_zretR (pc := 28) C dX9_isCase_28 (Nat.le_of_ble_eq_true rfl) (Nat.le_of_ble_eq_true rfl) rfl hk
    · have hk := it_f h5 hk
      refine j_iconst (pc := 23) (v := nI 1) C dX9_isCase_23 (by decide) ?_
      refine j_goto (pc := 24) 28 C dX9_isCase_24 (by decide) ?_
      exact j_zretR (pc := 28) C dX9_isCase_28 (Nat.le_of_ble_eq_true rfl) (Nat.le_of_ble_eq_true rfl) rfl hk
def f_X9_otherOf (x1 : Int32) (x2 : Int32) (I : II) : Option Int32 := (f_X9_kindOf x1 I).bind fun r10 => oix r10 7 fun i13 => oix ((I 31 i13) + x2) 90 fun i16 => some (I 33 i16)
abbrev rm_X9_otherOf : Room := { frames := 1, cells := 0, slots := 0, locals := 21 }
theorem mv_X9_otherOf : MV yX9_otherOf cX9_otherOf 3 (some .int) 2 := ⟨q2260, qs66, q106, q2261, by decide +kernel⟩
set_option maxHeartbeats 4000000 in
theorem ct_X9_otherOf {G : WG} {l : Launch} {sh : SH} (hS : StM sh) {I : II} {x1 : Int32} {x2 : Int32} {r : Int32} (hk : f_X9_otherOf x1 x2 I = some r) : CT G l yX9_otherOf (ws_ yX9_otherOf cX9_otherOf 3 (some .int)) rm_X9_otherOf [.ref (wad G 27), .int x1, .int x2] (sh, I) (.returned (some (.int r))) (sh, I) := by
  refine CT.ofJ "NineDemandsModel" rfl (by decide) (Nat.le_of_ble_eq_true rfl) ?_
  intro p e s m args below meth c C
  unfold f_X9_otherOf at hk
  refine j_lv (lv' := [some (.ref (wad G 27)), some (.int x1), some (.int x2)]) rfl ?_
  refine j_aload_n (pc := 0) C dX9_otherOf_0 rfl rfl ?_
  refine j_getR (pc := 1) C fd_10_6 q2006 (stM_o hS) (stM_r6 hS) dX9_otherOf_1 ?_
  refine j_aload_n (pc := 4) C dX9_otherOf_4 rfl rfl ?_
  refine j_getR (pc := 5) C fd_10_4 q2004 (stM_o hS) (stM_r4 hS) dX9_otherOf_5 ?_
  refine j_aload_n (pc := 8) C dX9_otherOf_8 rfl rfl ?_
  refine j_iload_n (pc := 9) C dX9_otherOf_9 rfl rfl ?_
  obtain ⟨r10, h1, hk⟩ := ob_some hk
  refine j_callV (pc := 10) C (ct_X9_kindOf hS h1) mv_X9_kindOf (stM_o hS) rfl rfl q2231 dX9_otherOf_10 rfl rfl (Nat.le_of_ble_eq_true rfl) rfl ?_
  obtain ⟨i13, e13, h2, hk⟩ := oix_ex hk
  refine j_iald (pc := 13) C (stM_a31 hS) h2 e13 dX9_otherOf_13 ?_
  refine j_iload_n (pc := 14) C dX9_otherOf_14 rfl rfl ?_
  refine j_iadd (pc := 15) C dX9_otherOf_15 ?_
  obtain ⟨i16, e16, h3, hk⟩ := oix_ex hk
  refine j_iald (pc := 16) C (stM_a33 hS) h3 e16 dX9_otherOf_16 ?_
  exact j_iretR (pc := 17) C dX9_otherOf_17 (Nat.le_of_ble_eq_true rfl) (Nat.le_of_ble_eq_true rfl) hk
def f_X9_part_J18 (I : II) : Option (Int32 × II) := bd2 (f_X9_finding (-1000001) I) fun r21 I21 => some (r21, I21)
def f_X9_part (x1 : Int32) (x2 : Int32) (x3 : Int32) (I : II) : Option (Int32 × II) := (f_X9_isCase x1 x2 I).bind fun r3 => if r3 = 0 then f_X9_part_J18 I else (f_X9_within x3 (nI 0) (nI 1)).bind fun r12 => if r12 = 0 then f_X9_part_J18 I else if x3 = 0 then (f_X9_hallOf x1 x2 I).bind fun r32 => some (r32, I) else (f_X9_hasOther x1 I).bind fun r38 => if r38 = 0 then bd2 (f_X9_finding (-1000002) I) fun r56 I56 => some (r56, I56) else (f_X9_otherOf x1 x2 I).bind fun r47 => some (r47, I)
abbrev rm_X9_part : Room := { frames := 3, cells := 0, slots := 0, locals := 65 }
theorem mv_X9_part : MV yX9_part cX9_part 4 (some .int) 3 := ⟨q2243, q2244, q106, q2245, by decide +kernel⟩
set_option maxHeartbeats 4000000 in
theorem ct_X9_part {G : WG} {l : Launch} {sh : SH} (hS : StM sh) {I : II} {x1 : Int32} {x2 : Int32} {x3 : Int32} {r : Int32} {I9 : II} (hk : f_X9_part x1 x2 x3 I = some (r, I9)) : CT G l yX9_part (ws_ yX9_part cX9_part 4 (some .int)) rm_X9_part [.ref (wad G 27), .int x1, .int x2, .int x3] (sh, I) (.returned (some (.int r))) (sh, I9) := by
  refine CT.ofJ "NineDemandsModel" rfl (by decide) (Nat.le_of_ble_eq_true rfl) ?_
  intro p e s m args below meth c C
  unfold f_X9_part at hk
  refine j_lv (lv' := [some (.ref (wad G 27)), some (.int x1), some (.int x2), some (.int x3)]) rfl ?_
  refine j_aload_n (pc := 0) C dX9_part_0 rfl rfl ?_
  refine j_iload_n (pc := 1) C dX9_part_1 rfl rfl ?_
  refine j_iload_n (pc := 2) C dX9_part_2 rfl rfl ?_
  obtain ⟨r3, h1, hk⟩ := ob_some hk
  refine j_callV (pc := 3) C (ct_X9_isCase hS h1) mv_X9_isCase (stM_o hS) rfl rfl q2246 dX9_part_3 rfl rfl (Nat.le_of_ble_eq_true rfl) rfl ?_
  have Jn18 : ∀ (I : II), f_X9_part_J18 I = some (r, I9) → J G p l e rm_X9_part s m args below meth c 4 (.returned (some (.int r))) (sh, I9) (rm_X9_part).cells (rm_X9_part).slots (sh, I) 0 0 18 [some (.ref (wad G 27)), none, none, none] [] := by
    intro I hk
    unfold f_X9_part_J18 at hk
    refine j_aload_n (pc := 18) C dX9_part_18 rfl rfl ?_
    refine j_ldc (pc := 19) (v := (-1000001)) C q2110 dX9_part_19 ?_
    obtain ⟨r21, I21, h2, hk⟩ := bd2_some hk
    refine j_callV (pc := 21) C (ct_X9_finding hS h2) mv_X9_finding (stM_o hS) rfl rfl q2111 dX9_part_21 rfl rfl (Nat.le_of_ble_eq_true rfl) rfl ?_
    exact j_iretW (pc := 24) C dX9_part_24 (Nat.le_of_ble_eq_true rfl) (Nat.le_of_ble_eq_true rfl) hk
  refine j_if_eq (pc := 6) 18 C dX9_part_6 (by decide) (fun h3 => ?_) (fun h3 => ?_)
  · have hk := it_t h3 hk
    exact j_mask [true, false, false, false] (Jn18 _ hk)
  · have hk := it_f h3 hk
    refine j_iload_n (pc := 9) C dX9_part_9 rfl rfl ?_
    refine j_iconst (pc := 10) (v := nI 0) C dX9_part_10 (by decide) ?_
    refine j_iconst (pc := 11) (v := nI 1) C dX9_part_11 (by decide) ?_
    obtain ⟨r12, h4, hk⟩ := ob_some hk
    refine j_callS (pc := 12) C (ct_X9_within h4) ms_X9_within q2107 dX9_part_12 rfl rfl (Nat.le_of_ble_eq_true rfl) rfl ?_
    refine j_if_ne (pc := 15) 25 C dX9_part_15 (by decide) (fun h5 => ?_) (fun h5 => ?_)
    · have hk := it_f h5 hk
      refine j_iload_n (pc := 25) C dX9_part_25 rfl rfl ?_
      refine j_if_ne (pc := 26) 36 C dX9_part_26 (by decide) (fun h6 => ?_) (fun h6 => ?_)
      · have hk := it_f h6 hk
        refine j_aload_n (pc := 36) C dX9_part_36 rfl rfl ?_
        refine j_iload_n (pc := 37) C dX9_part_37 rfl rfl ?_
        obtain ⟨r38, h7, hk⟩ := ob_some hk
        refine j_callV (pc := 38) C (ct_X9_hasOther hS h7) mv_X9_hasOther (stM_o hS) rfl rfl q2254 dX9_part_38 rfl rfl (Nat.le_of_ble_eq_true rfl) rfl ?_
        refine j_if_eq (pc := 41) 53 C dX9_part_41 (by decide) (fun h8 => ?_) (fun h8 => ?_)
        · have hk := it_t h8 hk
          refine j_aload_n (pc := 53) C dX9_part_53 rfl rfl ?_
          refine j_ldc (pc := 54) (v := (-1000002)) C q2123 dX9_part_54 ?_
          obtain ⟨r56, I56, h9, hk⟩ := bd2_some hk
          refine j_callV (pc := 56) C (ct_X9_finding hS h9) mv_X9_finding (stM_o hS) rfl rfl q2111 dX9_part_56 rfl rfl (Nat.le_of_ble_eq_true rfl) rfl ?_
          exact j_iretW (pc := 59) C dX9_part_59 (Nat.le_of_ble_eq_true rfl) (Nat.le_of_ble_eq_true rfl) hk
        · have hk := it_f h8 hk
          refine j_aload_n (pc := 44) C dX9_part_44 rfl rfl ?_
          refine j_iload_n (pc := 45) C dX9_part_45 rfl rfl ?_
          refine j_iload_n (pc := 46) C dX9_part_46 rfl rfl ?_
          obtain ⟨r47, h10, hk⟩ := ob_some hk
          refine j_callV (pc := 47) C (ct_X9_otherOf hS h10) mv_X9_otherOf (stM_o hS) rfl rfl q2258 dX9_part_47 rfl rfl (Nat.le_of_ble_eq_true rfl) rfl ?_
          refine j_goto (pc := 50) 59 C dX9_part_50 (by decide) ?_
          exact j_iretW (pc := 59) C dX9_part_59 (Nat.le_of_ble_eq_true rfl) (Nat.le_of_ble_eq_true rfl) hk
      · have hk := it_t h6 hk
        refine j_aload_n (pc := 29) C dX9_part_29 rfl rfl ?_
        refine j_iload_n (pc := 30) C dX9_part_30 rfl rfl ?_
        refine j_iload_n (pc := 31) C dX9_part_31 rfl rfl ?_
        obtain ⟨r32, h11, hk⟩ := ob_some hk
        refine j_callV (pc := 32) C (ct_X9_hallOf hS h11) mv_X9_hallOf (stM_o hS) rfl rfl q2250 dX9_part_32 rfl rfl (Nat.le_of_ble_eq_true rfl) rfl ?_
        exact j_iretW (pc := 35) C dX9_part_35 (Nat.le_of_ble_eq_true rfl) (Nat.le_of_ble_eq_true rfl) hk
    · have hk := it_t h5 hk
      exact j_mask [true, false, false, false] (Jn18 _ hk)
def f_X9_has (x0 : Int32) (x1 : Int32) : Option Int32 := if ((x0 >>> (x1 &&& 31)) &&& (nI 1)) = (nI 1) then some (nI 1) else some (nI 0)
abbrev rm_X9_has : Room := { frames := 0, cells := 0, slots := 0, locals := 0 }
theorem ms_X9_has : MS yX9_has cX9_has 2 (some .boolean) 2 := ⟨q2271, q106, q2272, by decide +kernel⟩
set_option maxHeartbeats 4000000 in
theorem ct_X9_has {G : WG} {l : Launch} {sh : SH} {I : II} {x0 : Int32} {x1 : Int32} {r : Int32} (hk : f_X9_has x0 x1 = some r) : CT G l yX9_has (ws_ yX9_has cX9_has 2 (some .boolean)) rm_X9_has [.int x0, .int x1] (sh, I) (.returned (some (.int r))) (sh, I) := by
  refine CT.ofJ "NineDemandsModel" rfl (by decide) (Nat.le_of_ble_eq_true rfl) ?_
  intro p e s m args below meth c C
  unfold f_X9_has at hk
  refine j_lv (lv' := [some (.int x0), some (.int x1)]) rfl ?_
  refine j_iload_n (pc := 0) C dX9_has_0 rfl rfl ?_
  refine j_iload_n (pc := 1) C dX9_has_1 rfl rfl ?_
  refine j_ishr (pc := 2) C dX9_has_2 ?_
  refine j_iconst (pc := 3) (v := nI 1) C dX9_has_3 (by decide) ?_
  refine j_iand (pc := 4) C dX9_has_4 ?_
  refine j_iconst (pc := 5) (v := nI 1) C dX9_has_5 (by decide) ?_
  refine j_icmp_ne (pc := 6) 13 C dX9_has_6 (by decide) (fun h1 => ?_) (fun h1 => ?_)
  · have hk := it_f h1 hk
    refine j_iconst (pc := 13) (v := nI 0) C dX9_has_13 (by decide) ?_
    exact j_zretR (pc := 14) C dX9_has_14 (Nat.le_of_ble_eq_true rfl) (Nat.le_of_ble_eq_true rfl) rfl hk
  · have hk := it_t h1 hk
    refine j_iconst (pc := 9) (v := nI 1) C dX9_has_9 (by decide) ?_
    refine j_goto (pc := 10) 14 C dX9_has_10 (by decide) ?_
    exact j_zretR (pc := 14) C dX9_has_14 (Nat.le_of_ble_eq_true rfl) (Nat.le_of_ble_eq_true rfl) rfl hk
def f_X9_goes (x1 : Int32) (x2 : Int32) (x3 : Int32) (x4 : Int32) (I : II) : Option Int32 := oix (((nI 110) + ((nI 32) * x1)) + x2) 366 fun i13 => (f_X9_hasOther x1 I).bind fun r18 => if r18 = 0 then (f_X9_has (I 28 i13) (x3 - (nI 1))).bind fun r45 => og (r45 = 0 ∨ r45 = 1) (some r45) else (f_X9_has (I 28 i13) ((((nI 3) * x3) + x4) - (nI 4))).bind fun r34 => og (r34 = 0 ∨ r34 = 1) (some r34)
abbrev rm_X9_goes : Room := { frames := 2, cells := 0, slots := 0, locals := 42 }
theorem mv_X9_goes : MV yX9_goes cX9_goes 6 (some .boolean) 4 := ⟨q2268, qs67, q106, q2269, by decide +kernel⟩
set_option maxHeartbeats 4000000 in
theorem ct_X9_goes {G : WG} {l : Launch} {sh : SH} (hS : StM sh) {I : II} {x1 : Int32} {x2 : Int32} {x3 : Int32} {x4 : Int32} {r : Int32} (hk : f_X9_goes x1 x2 x3 x4 I = some r) : CT G l yX9_goes (ws_ yX9_goes cX9_goes 6 (some .boolean)) rm_X9_goes [.ref (wad G 27), .int x1, .int x2, .int x3, .int x4] (sh, I) (.returned (some (.int r))) (sh, I) := by
  refine CT.ofJ "NineDemandsModel" rfl (by decide) (Nat.le_of_ble_eq_true rfl) ?_
  intro p e s m args below meth c C
  unfold f_X9_goes at hk
  refine j_lv (lv' := [some (.ref (wad G 27)), some (.int x1), some (.int x2), some (.int x3), some (.int x4), none]) rfl ?_
  refine j_aload_n (pc := 0) C dX9_goes_0 rfl rfl ?_
  refine j_getR (pc := 1) C fd_10_0 q2000 (stM_o hS) (stM_r0 hS) dX9_goes_1 ?_
  refine j_bipush (pc := 4) (v := nI 110) C dX9_goes_4 (by decide) ?_
  refine j_bipush (pc := 6) (v := nI 32) C dX9_goes_6 (by decide) ?_
  refine j_iload_n (pc := 8) C dX9_goes_8 rfl rfl ?_
  refine j_imul (pc := 9) C dX9_goes_9 ?_
  refine j_iadd (pc := 10) C dX9_goes_10 ?_
  refine j_iload_n (pc := 11) C dX9_goes_11 rfl rfl ?_
  refine j_iadd (pc := 12) C dX9_goes_12 ?_
  obtain ⟨i13, e13, h1, hk⟩ := oix_ex hk
  refine j_iald (pc := 13) C (stM_a28 hS) h1 e13 dX9_goes_13 ?_
  refine j_istore (pc := 14) C dX9_goes_14 (Nat.le_of_ble_eq_true rfl) rfl ?_
  refine j_aload_n (pc := 16) C dX9_goes_16 rfl rfl ?_
  refine j_iload_n (pc := 17) C dX9_goes_17 rfl rfl ?_
  obtain ⟨r18, h2, hk⟩ := ob_some hk
  refine j_callV (pc := 18) C (ct_X9_hasOther hS h2) mv_X9_hasOther (stM_o hS) rfl rfl q2254 dX9_goes_18 rfl rfl (Nat.le_of_ble_eq_true rfl) rfl ?_
  refine j_if_eq (pc := 21) 40 C dX9_goes_21 (by decide) (fun h3 => ?_) (fun h3 => ?_)
  · have hk := it_t h3 hk
    refine j_iload (pc := 40) C dX9_goes_40 rfl ?_
    refine j_iload_n (pc := 42) C dX9_goes_42 rfl rfl ?_
    refine j_iconst (pc := 43) (v := nI 1) C dX9_goes_43 (by decide) ?_
    refine j_isub (pc := 44) C dX9_goes_44 ?_
    obtain ⟨r45, h4, hk⟩ := ob_some hk
    refine j_callS (pc := 45) C (ct_X9_has h4) ms_X9_has q2270 dX9_goes_45 rfl rfl (Nat.le_of_ble_eq_true rfl) rfl ?_
    obtain ⟨h5, hk⟩ := og_some hk
    exact j_zretR (pc := 48) C dX9_goes_48 (Nat.le_of_ble_eq_true rfl) (Nat.le_of_ble_eq_true rfl) (isB.nar h5) hk
  · have hk := it_f h3 hk
    refine j_iload (pc := 24) C dX9_goes_24 rfl ?_
    refine j_iconst (pc := 26) (v := nI 3) C dX9_goes_26 (by decide) ?_
    refine j_iload_n (pc := 27) C dX9_goes_27 rfl rfl ?_
    refine j_imul (pc := 28) C dX9_goes_28 ?_
    refine j_iload (pc := 29) C dX9_goes_29 rfl ?_
    refine j_iadd (pc := 31) C dX9_goes_31 ?_
    refine j_iconst (pc := 32) (v := nI 4) C dX9_goes_32 (by decide) ?_
    refine j_isub (pc := 33) C dX9_goes_33 ?_
    obtain ⟨r34, h6, hk⟩ := ob_some hk
    refine j_callS (pc := 34) C (ct_X9_has h6) ms_X9_has q2270 dX9_goes_34 rfl rfl (Nat.le_of_ble_eq_true rfl) rfl ?_
    refine j_goto (pc := 37) 48 C dX9_goes_37 (by decide) ?_
    obtain ⟨h7, hk⟩ := og_some hk
    exact j_zretR (pc := 48) C dX9_goes_48 (Nat.le_of_ble_eq_true rfl) (Nat.le_of_ble_eq_true rfl) (isB.nar h7) hk
def f_X9_so_J32 (I : II) : Option (Int32 × II) := bd2 (f_X9_finding (-1000001) I) fun r35 I35 => some (r35, I35)
def f_X9_so_J39 (x1 : Int32) (x2 : Int32) (x3 : Int32) (x4 : Int32) (I : II) : Option (Int32 × II) := (f_X9_goes x1 x2 x3 x4 I).bind fun r45 => if r45 = 0 then some ((nI 0), I) else some ((nI 1), I)
def f_X9_so (x1 : Int32) (x2 : Int32) (x3 : Int32) (x4 : Int32) (I : II) : Option (Int32 × II) := (f_X9_isCase x1 x2 I).bind fun r3 => if r3 = 0 then f_X9_so_J32 I else (f_X9_isChoice x3).bind fun r10 => if r10 = 0 then f_X9_so_J32 I else (f_X9_hasOther x1 I).bind fun r18 => if r18 = 0 then f_X9_so_J39 x1 x2 x3 x4 I else (f_X9_isChoice x4).bind fun r26 => if r26 = 0 then f_X9_so_J32 I else f_X9_so_J39 x1 x2 x3 x4 I
abbrev rm_X9_so : Room := { frames := 3, cells := 0, slots := 0, locals := 67 }
theorem mv_X9_so : MV yX9_so cX9_so 5 (some .int) 4 := ⟨q2263, q2264, q106, q2265, by decide +kernel⟩
set_option maxHeartbeats 4000000 in
theorem ct_X9_so {G : WG} {l : Launch} {sh : SH} (hS : StM sh) {I : II} {x1 : Int32} {x2 : Int32} {x3 : Int32} {x4 : Int32} {r : Int32} {I9 : II} (hk : f_X9_so x1 x2 x3 x4 I = some (r, I9)) : CT G l yX9_so (ws_ yX9_so cX9_so 5 (some .int)) rm_X9_so [.ref (wad G 27), .int x1, .int x2, .int x3, .int x4] (sh, I) (.returned (some (.int r))) (sh, I9) := by
  refine CT.ofJ "NineDemandsModel" rfl (by decide) (Nat.le_of_ble_eq_true rfl) ?_
  intro p e s m args below meth c C
  unfold f_X9_so at hk
  refine j_lv (lv' := [some (.ref (wad G 27)), some (.int x1), some (.int x2), some (.int x3), some (.int x4)]) rfl ?_
  refine j_aload_n (pc := 0) C dX9_so_0 rfl rfl ?_
  refine j_iload_n (pc := 1) C dX9_so_1 rfl rfl ?_
  refine j_iload_n (pc := 2) C dX9_so_2 rfl rfl ?_
  obtain ⟨r3, h1, hk⟩ := ob_some hk
  refine j_callV (pc := 3) C (ct_X9_isCase hS h1) mv_X9_isCase (stM_o hS) rfl rfl q2246 dX9_so_3 rfl rfl (Nat.le_of_ble_eq_true rfl) rfl ?_
  have Jn32 : ∀ (I : II), f_X9_so_J32 I = some (r, I9) → J G p l e rm_X9_so s m args below meth c 5 (.returned (some (.int r))) (sh, I9) (rm_X9_so).cells (rm_X9_so).slots (sh, I) 0 0 32 [some (.ref (wad G 27)), none, none, none, none] [] := by
    intro I hk
    unfold f_X9_so_J32 at hk
    refine j_aload_n (pc := 32) C dX9_so_32 rfl rfl ?_
    refine j_ldc (pc := 33) (v := (-1000001)) C q2110 dX9_so_33 ?_
    obtain ⟨r35, I35, h2, hk⟩ := bd2_some hk
    refine j_callV (pc := 35) C (ct_X9_finding hS h2) mv_X9_finding (stM_o hS) rfl rfl q2111 dX9_so_35 rfl rfl (Nat.le_of_ble_eq_true rfl) rfl ?_
    exact j_iretW (pc := 38) C dX9_so_38 (Nat.le_of_ble_eq_true rfl) (Nat.le_of_ble_eq_true rfl) hk
  refine j_if_eq (pc := 6) 32 C dX9_so_6 (by decide) (fun h3 => ?_) (fun h3 => ?_)
  · have hk := it_t h3 hk
    exact j_mask [true, false, false, false, false] (Jn32 _ hk)
  · have hk := it_f h3 hk
    refine j_iload_n (pc := 9) C dX9_so_9 rfl rfl ?_
    obtain ⟨r10, h4, hk⟩ := ob_some hk
    refine j_callS (pc := 10) C (ct_X9_isChoice h4) ms_X9_isChoice q2128 dX9_so_10 rfl rfl (Nat.le_of_ble_eq_true rfl) rfl ?_
    refine j_if_eq (pc := 13) 32 C dX9_so_13 (by decide) (fun h5 => ?_) (fun h5 => ?_)
    · have hk := it_t h5 hk
      exact j_mask [true, false, false, false, false] (Jn32 _ hk)
    · have hk := it_f h5 hk
      refine j_aload_n (pc := 16) C dX9_so_16 rfl rfl ?_
      refine j_iload_n (pc := 17) C dX9_so_17 rfl rfl ?_
      obtain ⟨r18, h6, hk⟩ := ob_some hk
      refine j_callV (pc := 18) C (ct_X9_hasOther hS h6) mv_X9_hasOther (stM_o hS) rfl rfl q2254 dX9_so_18 rfl rfl (Nat.le_of_ble_eq_true rfl) rfl ?_
      have Jn39 : ∀ (x1 : Int32) (x2 : Int32) (x3 : Int32) (x4 : Int32) (I : II), f_X9_so_J39 x1 x2 x3 x4 I = some (r, I9) → J G p l e rm_X9_so s m args below meth c 5 (.returned (some (.int r))) (sh, I9) (rm_X9_so).cells (rm_X9_so).slots (sh, I) 0 0 39 [some (.ref (wad G 27)), some (.int x1), some (.int x2), some (.int x3), some (.int x4)] [] := by
        intro x1 x2 x3 x4 I hk
        unfold f_X9_so_J39 at hk
        refine j_aload_n (pc := 39) C dX9_so_39 rfl rfl ?_
        refine j_iload_n (pc := 40) C dX9_so_40 rfl rfl ?_
        refine j_iload_n (pc := 41) C dX9_so_41 rfl rfl ?_
        refine j_iload_n (pc := 42) C dX9_so_42 rfl rfl ?_
        refine j_iload (pc := 43) C dX9_so_43 rfl ?_
        obtain ⟨r45, h7, hk⟩ := ob_some hk
        refine j_callV (pc := 45) C (ct_X9_goes hS h7) mv_X9_goes (stM_o hS) rfl rfl q2266 dX9_so_45 rfl rfl (Nat.le_of_ble_eq_true rfl) rfl ?_
        refine j_if_eq (pc := 48) 55 C dX9_so_48 (by decide) (fun h8 => ?_) (fun h8 => ?_)
        · have hk := it_t h8 hk
          refine j_iconst (pc := 55) (v := nI 0) C dX9_so_55 (by decide) ?_
          exact j_iretW (pc := 56) C dX9_so_56 (Nat.le_of_ble_eq_true rfl) (Nat.le_of_ble_eq_true rfl) hk
        · have hk := it_f h8 hk
          refine j_iconst (pc := 51) (v := nI 1) C dX9_so_51 (by decide) ?_
          refine j_goto (pc := 52) 56 C dX9_so_52 (by decide) ?_
          exact j_iretW (pc := 56) C dX9_so_56 (Nat.le_of_ble_eq_true rfl) (Nat.le_of_ble_eq_true rfl) hk
      refine j_if_eq (pc := 21) 39 C dX9_so_21 (by decide) (fun h9 => ?_) (fun h9 => ?_)
      · have hk := it_t h9 hk
        exact j_mask [true, true, true, true, true] (Jn39 _ _ _ _ _ hk)
      · have hk := it_f h9 hk
        refine j_iload (pc := 24) C dX9_so_24 rfl ?_
        obtain ⟨r26, h10, hk⟩ := ob_some hk
        refine j_callS (pc := 26) C (ct_X9_isChoice h10) ms_X9_isChoice q2128 dX9_so_26 rfl rfl (Nat.le_of_ble_eq_true rfl) rfl ?_
        refine j_if_ne (pc := 29) 39 C dX9_so_29 (by decide) (fun h11 => ?_) (fun h11 => ?_)
        · have hk := it_f h11 hk
          exact j_mask [true, true, true, true, true] (Jn39 _ _ _ _ _ hk)
        · have hk := it_t h11 hk
          exact j_mask [true, false, false, false, false] (Jn32 _ hk)
def f_X9_broken_28_J52 (F : Nat) (I : II) (k3 : Int32 → Option Int32) (x1 : Int32) (x3 : Int32) (x4 : Int32) (s1 : Int32) (s2 : Int32) (s3 : Int32) (s4 : Int32) : Option Int32 := (f_X9_goes s1 s2 s3 s4 I).bind fun r52 => if r52 = 0 then some x4 else k3 (x4 + (nI 1))
def f_X9_broken_28_L3 (F : Nat) (I : II) (x1 : Int32) (x3 : Int32) : Nat → Int32 → Option Int32
  | 0, _ => none
  | n3 + 1, x4 => (f_X9_casesOf x1 I).bind fun r7 => if r7 ≤ x4 then some (-1) else (f_X9_otherOf x1 x4 I).bind fun r17 => (f_X9_hallOf x1 x4 I).bind fun r32 => oix (x3 + r32) 366 fun i36 => if 0 ≤ r17 then oix (x3 + r17) 366 fun i51 => f_X9_broken_28_J52 F I (f_X9_broken_28_L3 F I x1 x3 n3) x1 x3 x4 x1 x4 (I 28 i36) (I 28 i51) else f_X9_broken_28_J52 F I (f_X9_broken_28_L3 F I x1 x3 n3) x1 x3 x4 x1 x4 (I 28 i36) (nI 0)
def f_X9_broken_28 (F : Nat) (x1 : Int32) (x3 : Int32) (I : II) : Option Int32 := f_X9_broken_28_L3 F I x1 x3 F (nI 0)
abbrev rm_X9_broken_28 : Room := { frames := 3, cells := 0, slots := 0, locals := 67 }
theorem mv_X9_broken : MV yX9_broken cX9_broken 6 (some .int) 3 := ⟨q2279, qs68, q106, q2280, by decide +kernel⟩
set_option maxHeartbeats 4000000 in
theorem ct_X9_broken_28 {G : WG} {l : Launch} {sh : SH} (hS : StM sh) {I : II} {F : Nat} {x1 : Int32} {x3 : Int32} {r : Int32} (hk : f_X9_broken_28 F x1 x3 I = some r) : CT G l yX9_broken (ws_ yX9_broken cX9_broken 6 (some .int)) rm_X9_broken_28 [.ref (wad G 27), .int x1, .ref (wad G 28), .int x3] (sh, I) (.returned (some (.int r))) (sh, I) := by
  refine CT.ofJ "NineDemandsModel" rfl (by decide) (Nat.le_of_ble_eq_true rfl) ?_
  intro p e s m args below meth c C
  unfold f_X9_broken_28 at hk
  refine j_lv (lv' := [some (.ref (wad G 27)), some (.int x1), some (.ref (wad G 28)), some (.int x3), none, none]) rfl ?_
  refine j_iconst (pc := 0) (v := nI 0) C dX9_broken_0 (by decide) ?_
  refine j_istore (pc := 1) C dX9_broken_1 (Nat.le_of_ble_eq_true rfl) rfl ?_
  have L3 : ∀ (x1 : Int32) (x3 : Int32) (n3 : Nat) (x4 : Int32), f_X9_broken_28_L3 F I x1 x3 n3 x4 = some r → J G p l e rm_X9_broken_28 s m args below meth c 6 (.returned (some (.int r))) (sh, I) (rm_X9_broken_28).cells (rm_X9_broken_28).slots (sh, I) 0 0 3 [some (.ref (wad G 27)), some (.int x1), some (.ref (wad G 28)), some (.int x3), some (.int x4), none] [] := by
    intro x1 x3 n3
    induction n3 with
    | zero => intro x4 hk; rw [f_X9_broken_28_L3] at hk; cases hk
    | succ n3 ih3 =>
      intro x4 hk
      rw [f_X9_broken_28_L3] at hk
      generalize f_X9_broken_28_L3 F I x1 x3 n3 = k3 at ih3 hk
      refine j_iload (pc := 3) C dX9_broken_3 rfl ?_
      refine j_aload_n (pc := 5) C dX9_broken_5 rfl rfl ?_
      refine j_iload_n (pc := 6) C dX9_broken_6 rfl rfl ?_
      obtain ⟨r7, h1, hk⟩ := ob_some hk
      refine j_callV (pc := 7) C (ct_X9_casesOf hS h1) mv_X9_casesOf (stM_o hS) rfl rfl q2238 dX9_broken_7 rfl rfl (Nat.le_of_ble_eq_true rfl) rfl ?_
      refine j_icmp_ge (pc := 10) 67 C dX9_broken_10 (by decide) (fun h2 => ?_) (fun h2 => ?_)
      · have hk := it_t h2 hk
        refine j_iconst (pc := 67) (v := (-1)) C dX9_broken_67 (by decide) ?_
        exact j_iretR (pc := 68) C dX9_broken_68 (Nat.le_of_ble_eq_true rfl) (Nat.le_of_ble_eq_true rfl) hk
      · have hk := it_f h2 hk
        refine j_aload_n (pc := 13) C dX9_broken_13 rfl rfl ?_
        refine j_iload_n (pc := 14) C dX9_broken_14 rfl rfl ?_
        refine j_iload (pc := 15) C dX9_broken_15 rfl ?_
        obtain ⟨r17, h3, hk⟩ := ob_some hk
        refine j_callV (pc := 17) C (ct_X9_otherOf hS h3) mv_X9_otherOf (stM_o hS) rfl rfl q2258 dX9_broken_17 rfl rfl (Nat.le_of_ble_eq_true rfl) rfl ?_
        refine j_istore (pc := 20) C dX9_broken_20 (Nat.le_of_ble_eq_true rfl) rfl ?_
        refine j_aload_n (pc := 22) C dX9_broken_22 rfl rfl ?_
        refine j_iload_n (pc := 23) C dX9_broken_23 rfl rfl ?_
        refine j_iload (pc := 24) C dX9_broken_24 rfl ?_
        refine j_aload_n (pc := 26) C dX9_broken_26 rfl rfl ?_
        refine j_iload_n (pc := 27) C dX9_broken_27 rfl rfl ?_
        refine j_aload_n (pc := 28) C dX9_broken_28 rfl rfl ?_
        refine j_iload_n (pc := 29) C dX9_broken_29 rfl rfl ?_
        refine j_iload (pc := 30) C dX9_broken_30 rfl ?_
        obtain ⟨r32, h4, hk⟩ := ob_some hk
        refine j_callV (pc := 32) C (ct_X9_hallOf hS h4) mv_X9_hallOf (stM_o hS) rfl rfl q2250 dX9_broken_32 rfl rfl (Nat.le_of_ble_eq_true rfl) rfl ?_
        refine j_iadd (pc := 35) C dX9_broken_35 ?_
        obtain ⟨i36, e36, h5, hk⟩ := oix_ex hk
        refine j_iald (pc := 36) C (stM_a28 hS) h5 e36 dX9_broken_36 ?_
        refine j_iload (pc := 37) C dX9_broken_37 rfl ?_
        have Jn52 : ∀ (x4 : Int32) (s1 : Int32) (s2 : Int32) (s3 : Int32) (s4 : Int32), f_X9_broken_28_J52 F I k3 x1 x3 x4 s1 s2 s3 s4 = some r → J G p l e rm_X9_broken_28 s m args below meth c 6 (.returned (some (.int r))) (sh, I) (rm_X9_broken_28).cells (rm_X9_broken_28).slots (sh, I) 0 0 52 [some (.ref (wad G 27)), some (.int x1), some (.ref (wad G 28)), some (.int x3), some (.int x4), none] [.int s4, .int s3, .int s2, .int s1, .ref (wad G 27)] := by
          intro x4 s1 s2 s3 s4 hk
          unfold f_X9_broken_28_J52 at hk
          obtain ⟨r52, h6, hk⟩ := ob_some hk
          refine j_callV (pc := 52) C (ct_X9_goes hS h6) mv_X9_goes (stM_o hS) rfl rfl q2266 dX9_broken_52 rfl rfl (Nat.le_of_ble_eq_true rfl) rfl ?_
          refine j_if_ne (pc := 55) 61 C dX9_broken_55 (by decide) (fun h7 => ?_) (fun h7 => ?_)
          · have hk := it_f h7 hk
            refine j_iinc (pc := 61) (nI 1) C dX9_broken_61 rfl (by decide) (Nat.le_of_ble_eq_true rfl) rfl ?_
            refine j_goto (pc := 64) 3 C dX9_broken_64 (by decide) ?_
            exact j_mask [true, true, true, true, true, false] (ih3 _ hk)
          · have hk := it_t h7 hk
            refine j_iload (pc := 58) C dX9_broken_58 rfl ?_
            exact j_iretR (pc := 60) C dX9_broken_60 (Nat.le_of_ble_eq_true rfl) (Nat.le_of_ble_eq_true rfl) hk
        refine j_if_ge (pc := 39) 46 C dX9_broken_39 (by decide) (fun h8 => ?_) (fun h8 => ?_)
        · have hk := it_t h8 hk
          refine j_aload_n (pc := 46) C dX9_broken_46 rfl rfl ?_
          refine j_iload_n (pc := 47) C dX9_broken_47 rfl rfl ?_
          refine j_iload (pc := 48) C dX9_broken_48 rfl ?_
          refine j_iadd (pc := 50) C dX9_broken_50 ?_
          obtain ⟨i51, e51, h9, hk⟩ := oix_ex hk
          refine j_iald (pc := 51) C (stM_a28 hS) h9 e51 dX9_broken_51 ?_
          exact j_mask [true, true, true, true, true, false] (Jn52 _ _ _ _ _ hk)
        · have hk := it_f h8 hk
          refine j_iconst (pc := 42) (v := nI 0) C dX9_broken_42 (by decide) ?_
          refine j_goto (pc := 43) 52 C dX9_broken_43 (by decide) ?_
          exact j_mask [true, true, true, true, true, false] (Jn52 _ _ _ _ _ hk)
  exact j_mask [true, true, true, true, true, false] (L3 _ _ _ _ hk)
def f_X9_breach (F : Nat) (x1 : Int32) (I : II) : Option (Int32 × II) := (f_X9_isLaw x1 I).bind fun r2 => if r2 = 0 then bd2 (f_X9_finding (-1000001) I) fun r11 I11 => some (r11, I11) else (f_X9_broken_28 F x1 (nI 10) I).bind fun r23 => if 0 ≤ r23 then some (r23, I) else bd2 (f_X9_finding (-1000002) I) fun r34 I34 => some (r34, I34)
abbrev rm_X9_breach : Room := { frames := 4, cells := 0, slots := 0, locals := 92 }
theorem mv_X9_breach : MV yX9_breach cX9_breach 3 (some .int) 1 := ⟨q2274, q2275, q106, q2276, by decide +kernel⟩
set_option maxHeartbeats 4000000 in
theorem ct_X9_breach {G : WG} {l : Launch} {sh : SH} (hS : StM sh) {I : II} {F : Nat} {x1 : Int32} {r : Int32} {I9 : II} (hk : f_X9_breach F x1 I = some (r, I9)) : CT G l yX9_breach (ws_ yX9_breach cX9_breach 3 (some .int)) rm_X9_breach [.ref (wad G 27), .int x1] (sh, I) (.returned (some (.int r))) (sh, I9) := by
  refine CT.ofJ "NineDemandsModel" rfl (by decide) (Nat.le_of_ble_eq_true rfl) ?_
  intro p e s m args below meth c C
  unfold f_X9_breach at hk
  refine j_lv (lv' := [some (.ref (wad G 27)), some (.int x1), none]) rfl ?_
  refine j_aload_n (pc := 0) C dX9_breach_0 rfl rfl ?_
  refine j_iload_n (pc := 1) C dX9_breach_1 rfl rfl ?_
  obtain ⟨r2, h1, hk⟩ := ob_some hk
  refine j_callV (pc := 2) C (ct_X9_isLaw hS h1) mv_X9_isLaw (stM_o hS) rfl rfl q2223 dX9_breach_2 rfl rfl (Nat.le_of_ble_eq_true rfl) rfl ?_
  refine j_if_ne (pc := 5) 15 C dX9_breach_5 (by decide) (fun h2 => ?_) (fun h2 => ?_)
  · have hk := it_f h2 hk
    refine j_aload_n (pc := 15) C dX9_breach_15 rfl rfl ?_
    refine j_iload_n (pc := 16) C dX9_breach_16 rfl rfl ?_
    refine j_aload_n (pc := 17) C dX9_breach_17 rfl rfl ?_
    refine j_getR (pc := 18) C fd_10_0 q2000 (stM_o hS) (stM_r0 hS) dX9_breach_18 ?_
    refine j_bipush (pc := 21) (v := nI 10) C dX9_breach_21 (by decide) ?_
    obtain ⟨r23, h3, hk⟩ := ob_some hk
    refine j_callV (pc := 23) C (ct_X9_broken_28 hS h3) mv_X9_broken (stM_o hS) rfl rfl q2277 dX9_breach_23 rfl rfl (Nat.le_of_ble_eq_true rfl) rfl ?_
    refine j_istore_n (pc := 26) C dX9_breach_26 rfl (Nat.le_of_ble_eq_true rfl) rfl ?_
    refine j_iload_n (pc := 27) C dX9_breach_27 rfl rfl ?_
    refine j_if_ge (pc := 28) 40 C dX9_breach_28 (by decide) (fun h4 => ?_) (fun h4 => ?_)
    · have hk := it_t h4 hk
      refine j_iload_n (pc := 40) C dX9_breach_40 rfl rfl ?_
      exact j_iretW (pc := 41) C dX9_breach_41 (Nat.le_of_ble_eq_true rfl) (Nat.le_of_ble_eq_true rfl) hk
    · have hk := it_f h4 hk
      refine j_aload_n (pc := 31) C dX9_breach_31 rfl rfl ?_
      refine j_ldc (pc := 32) (v := (-1000002)) C q2123 dX9_breach_32 ?_
      obtain ⟨r34, I34, h5, hk⟩ := bd2_some hk
      refine j_callV (pc := 34) C (ct_X9_finding hS h5) mv_X9_finding (stM_o hS) rfl rfl q2111 dX9_breach_34 rfl rfl (Nat.le_of_ble_eq_true rfl) rfl ?_
      refine j_goto (pc := 37) 41 C dX9_breach_37 (by decide) ?_
      exact j_iretW (pc := 41) C dX9_breach_41 (Nat.le_of_ble_eq_true rfl) (Nat.le_of_ble_eq_true rfl) hk
  · have hk := it_t h2 hk
    refine j_aload_n (pc := 8) C dX9_breach_8 rfl rfl ?_
    refine j_ldc (pc := 9) (v := (-1000001)) C q2110 dX9_breach_9 ?_
    obtain ⟨r11, I11, h6, hk⟩ := bd2_some hk
    refine j_callV (pc := 11) C (ct_X9_finding hS h6) mv_X9_finding (stM_o hS) rfl rfl q2111 dX9_breach_11 rfl rfl (Nat.le_of_ble_eq_true rfl) rfl ?_
    exact j_iretW (pc := 14) C dX9_breach_14 (Nat.le_of_ble_eq_true rfl) (Nat.le_of_ble_eq_true rfl) hk
def f_X9_kept_L4 (F : Nat) (I : II) : Nat → Int32 → Int32 → Option Int32
  | 0, _, _ => none
  | n4 + 1, x1, x2 => oix (nI 0) 366 fun i10 => if (I 28 i10) ≤ x2 then some x1 else (f_X9_broken_28 F x2 (nI 10) I).bind fun r23 => if 0 ≤ r23 then (f_X9_kept_L4 F I n4) (x1 ||| (nI 0)) (x2 + (nI 1)) else (f_X9_kept_L4 F I n4) (x1 ||| ((nI 1) <<< (x2 &&& 31))) (x2 + (nI 1))
def f_X9_kept (F : Nat) (I : II) : Option Int32 := f_X9_kept_L4 F I F (nI 0) (nI 0)
abbrev rm_X9_kept : Room := { frames := 4, cells := 0, slots := 0, locals := 92 }
theorem mv_X9_kept : MV yX9_kept cX9_kept 3 (some .int) 0 := ⟨q2282, q2283, q106, q2284, by decide +kernel⟩
set_option maxHeartbeats 4000000 in
theorem ct_X9_kept {G : WG} {l : Launch} {sh : SH} (hS : StM sh) {I : II} {F : Nat}  {r : Int32} (hk : f_X9_kept F I = some r) : CT G l yX9_kept (ws_ yX9_kept cX9_kept 3 (some .int)) rm_X9_kept [.ref (wad G 27)] (sh, I) (.returned (some (.int r))) (sh, I) := by
  refine CT.ofJ "NineDemandsModel" rfl (by decide) (Nat.le_of_ble_eq_true rfl) ?_
  intro p e s m args below meth c C
  unfold f_X9_kept at hk
  refine j_lv (lv' := [some (.ref (wad G 27)), none, none]) rfl ?_
  refine j_iconst (pc := 0) (v := nI 0) C dX9_kept_0 (by decide) ?_
  refine j_istore_n (pc := 1) C dX9_kept_1 rfl (Nat.le_of_ble_eq_true rfl) rfl ?_
  refine j_iconst (pc := 2) (v := nI 0) C dX9_kept_2 (by decide) ?_
  refine j_istore_n (pc := 3) C dX9_kept_3 rfl (Nat.le_of_ble_eq_true rfl) rfl ?_
  have L4 : ∀  (n4 : Nat) (x1 : Int32) (x2 : Int32), f_X9_kept_L4 F I n4 x1 x2 = some r → J G p l e rm_X9_kept s m args below meth c 3 (.returned (some (.int r))) (sh, I) (rm_X9_kept).cells (rm_X9_kept).slots (sh, I) 0 0 4 [some (.ref (wad G 27)), some (.int x1), some (.int x2)] [] := by
    intro  n4
    induction n4 with
    | zero => intro x1 x2 hk; rw [f_X9_kept_L4] at hk; cases hk
    | succ n4 ih4 =>
      intro x1 x2 hk
      rw [f_X9_kept_L4] at hk
      generalize f_X9_kept_L4 F I n4 = k4 at ih4 hk
      refine j_iload_n (pc := 4) C dX9_kept_4 rfl rfl ?_
      refine j_aload_n (pc := 5) C dX9_kept_5 rfl rfl ?_
      refine j_getR (pc := 6) C fd_10_0 q2000 (stM_o hS) (stM_r0 hS) dX9_kept_6 ?_
      refine j_iconst (pc := 9) (v := nI 0) C dX9_kept_9 (by decide) ?_
      obtain ⟨i10, e10, h1, hk⟩ := oix_ex hk
      refine j_iald (pc := 10) C (stM_a28 hS) h1 e10 dX9_kept_10 ?_
      refine j_icmp_ge (pc := 11) 44 C dX9_kept_11 (by decide) (fun h2 => ?_) (fun h2 => ?_)
      · have hk := it_t h2 hk
        refine j_iload_n (pc := 44) C dX9_kept_44 rfl rfl ?_
        exact j_iretR (pc := 45) C dX9_kept_45 (Nat.le_of_ble_eq_true rfl) (Nat.le_of_ble_eq_true rfl) hk
      · have hk := it_f h2 hk
        refine j_iload_n (pc := 14) C dX9_kept_14 rfl rfl ?_
        refine j_aload_n (pc := 15) C dX9_kept_15 rfl rfl ?_
        refine j_iload_n (pc := 16) C dX9_kept_16 rfl rfl ?_
        refine j_aload_n (pc := 17) C dX9_kept_17 rfl rfl ?_
        refine j_getR (pc := 18) C fd_10_0 q2000 (stM_o hS) (stM_r0 hS) dX9_kept_18 ?_
        refine j_bipush (pc := 21) (v := nI 10) C dX9_kept_21 (by decide) ?_
        obtain ⟨r23, h3, hk⟩ := ob_some hk
        refine j_callV (pc := 23) C (ct_X9_broken_28 hS h3) mv_X9_broken (stM_o hS) rfl rfl q2277 dX9_kept_23 rfl rfl (Nat.le_of_ble_eq_true rfl) rfl ?_
        refine j_if_ge (pc := 26) 35 C dX9_kept_26 (by decide) (fun h4 => ?_) (fun h4 => ?_)
        · have hk := it_t h4 hk
          refine j_iconst (pc := 35) (v := nI 0) C dX9_kept_35 (by decide) ?_
          refine j_ior (pc := 36) C dX9_kept_36 ?_
          refine j_istore_n (pc := 37) C dX9_kept_37 rfl (Nat.le_of_ble_eq_true rfl) rfl ?_
          refine j_iinc (pc := 38) (nI 1) C dX9_kept_38 rfl (by decide) (Nat.le_of_ble_eq_true rfl) rfl ?_
          refine j_goto (pc := 41) 4 C dX9_kept_41 (by decide) ?_
          exact j_mask [true, true, true] (ih4 _ _ hk)
        · have hk := it_f h4 hk
          refine j_iconst (pc := 29) (v := nI 1) C dX9_kept_29 (by decide) ?_
          refine j_iload_n (pc := 30) C dX9_kept_30 rfl rfl ?_
          refine j_ishl (pc := 31) C dX9_kept_31 ?_
          refine j_goto (pc := 32) 36 C dX9_kept_32 (by decide) ?_
          refine j_ior (pc := 36) C dX9_kept_36 ?_
          refine j_istore_n (pc := 37) C dX9_kept_37 rfl (Nat.le_of_ble_eq_true rfl) rfl ?_
          refine j_iinc (pc := 38) (nI 1) C dX9_kept_38 rfl (by decide) (Nat.le_of_ble_eq_true rfl) rfl ?_
          refine j_goto (pc := 41) 4 C dX9_kept_41 (by decide) ?_
          exact j_mask [true, true, true] (ih4 _ _ hk)
  exact j_mask [true, true, true] (L4  _ _ _ hk)
def f_X9_flipped_L11 (F : Nat) (k4 : Int32 → Int32 → Option Int32) (x0 : Int32) (x2 : Int32) : Nat → Int32 → Int32 → Option Int32
  | 0, _, _ => none
  | n11 + 1, x1, x3 => if (nI 3) ≤ x3 then k4 x1 (x2 + (nI 1)) else (f_X9_has x0 (((nI 3) * x2) + x3)).bind fun r23 => if r23 = 0 then (f_X9_flipped_L11 F k4 x0 x2 n11) (x1 ||| (nI 0)) (x3 + (nI 1)) else (f_X9_flipped_L11 F k4 x0 x2 n11) (x1 ||| ((nI 1) <<< ((((nI 3) * x3) + x2) &&& 31))) (x3 + (nI 1))
def f_X9_flipped_L4 (F : Nat) (x0 : Int32) : Nat → Int32 → Int32 → Option Int32
  | 0, _, _ => none
  | n4 + 1, x1, x2 => if (nI 3) ≤ x2 then some x1 else f_X9_flipped_L11 F (f_X9_flipped_L4 F x0 n4) x0 x2 F x1 (nI 0)
def f_X9_flipped (F : Nat) (x0 : Int32) : Option Int32 := f_X9_flipped_L4 F x0 F (nI 0) (nI 0)
abbrev rm_X9_flipped : Room := { frames := 1, cells := 0, slots := 0, locals := 21 }
theorem ms_X9_flipped : MS yX9_flipped cX9_flipped 4 (some .int) 1 := ⟨q2302, q106, q2303, by decide +kernel⟩
set_option maxHeartbeats 4000000 in
theorem ct_X9_flipped {G : WG} {l : Launch} {sh : SH} {I : II} {F : Nat} {x0 : Int32} {r : Int32} (hk : f_X9_flipped F x0 = some r) : CT G l yX9_flipped (ws_ yX9_flipped cX9_flipped 4 (some .int)) rm_X9_flipped [.int x0] (sh, I) (.returned (some (.int r))) (sh, I) := by
  refine CT.ofJ "NineDemandsModel" rfl (by decide) (Nat.le_of_ble_eq_true rfl) ?_
  intro p e s m args below meth c C
  unfold f_X9_flipped at hk
  refine j_lv (lv' := [some (.int x0), none, none, none]) rfl ?_
  refine j_iconst (pc := 0) (v := nI 0) C dX9_flipped_0 (by decide) ?_
  refine j_istore_n (pc := 1) C dX9_flipped_1 rfl (Nat.le_of_ble_eq_true rfl) rfl ?_
  refine j_iconst (pc := 2) (v := nI 0) C dX9_flipped_2 (by decide) ?_
  refine j_istore_n (pc := 3) C dX9_flipped_3 rfl (Nat.le_of_ble_eq_true rfl) rfl ?_
  have L4 : ∀ (x0 : Int32) (n4 : Nat) (x1 : Int32) (x2 : Int32), f_X9_flipped_L4 F x0 n4 x1 x2 = some r → J G p l e rm_X9_flipped s m args below meth c 4 (.returned (some (.int r))) (sh, I) (rm_X9_flipped).cells (rm_X9_flipped).slots (sh, I) 0 0 4 [some (.int x0), some (.int x1), some (.int x2), none] [] := by
    intro x0 n4
    induction n4 with
    | zero => intro x1 x2 hk; rw [f_X9_flipped_L4] at hk; cases hk
    | succ n4 ih4 =>
      intro x1 x2 hk
      rw [f_X9_flipped_L4] at hk
      generalize f_X9_flipped_L4 F x0 n4 = k4 at ih4 hk
      refine j_iload_n (pc := 4) C dX9_flipped_4 rfl rfl ?_
      refine j_iconst (pc := 5) (v := nI 3) C dX9_flipped_5 (by decide) ?_
      refine j_icmp_ge (pc := 6) 54 C dX9_flipped_6 (by decide) (fun h1 => ?_) (fun h1 => ?_)
      · have hk := it_t h1 hk
        refine j_iload_n (pc := 54) C dX9_flipped_54 rfl rfl ?_
        exact j_iretR (pc := 55) C dX9_flipped_55 (Nat.le_of_ble_eq_true rfl) (Nat.le_of_ble_eq_true rfl) hk
      · have hk := it_f h1 hk
        refine j_iconst (pc := 9) (v := nI 0) C dX9_flipped_9 (by decide) ?_
        refine j_istore_n (pc := 10) C dX9_flipped_10 rfl (Nat.le_of_ble_eq_true rfl) rfl ?_
        have L11 : ∀ (x2 : Int32) (n11 : Nat) (x1 : Int32) (x3 : Int32), f_X9_flipped_L11 F k4 x0 x2 n11 x1 x3 = some r → J G p l e rm_X9_flipped s m args below meth c 4 (.returned (some (.int r))) (sh, I) (rm_X9_flipped).cells (rm_X9_flipped).slots (sh, I) 0 0 11 [some (.int x0), some (.int x1), some (.int x2), some (.int x3)] [] := by
          intro x2 n11
          induction n11 with
          | zero => intro x1 x3 hk; rw [f_X9_flipped_L11] at hk; cases hk
          | succ n11 ih11 =>
            intro x1 x3 hk
            rw [f_X9_flipped_L11] at hk
            generalize f_X9_flipped_L11 F k4 x0 x2 n11 = k11 at ih11 hk
            refine j_iload_n (pc := 11) C dX9_flipped_11 rfl rfl ?_
            refine j_iconst (pc := 12) (v := nI 3) C dX9_flipped_12 (by decide) ?_
            refine j_icmp_ge (pc := 13) 48 C dX9_flipped_13 (by decide) (fun h2 => ?_) (fun h2 => ?_)
            · have hk := it_t h2 hk
              refine j_iinc (pc := 48) (nI 1) C dX9_flipped_48 rfl (by decide) (Nat.le_of_ble_eq_true rfl) rfl ?_
              refine j_goto (pc := 51) 4 C dX9_flipped_51 (by decide) ?_
              exact j_mask [true, true, true, false] (ih4 _ _ hk)
            · have hk := it_f h2 hk
              refine j_iload_n (pc := 16) C dX9_flipped_16 rfl rfl ?_
              refine j_iload_n (pc := 17) C dX9_flipped_17 rfl rfl ?_
              refine j_iconst (pc := 18) (v := nI 3) C dX9_flipped_18 (by decide) ?_
              refine j_iload_n (pc := 19) C dX9_flipped_19 rfl rfl ?_
              refine j_imul (pc := 20) C dX9_flipped_20 ?_
              refine j_iload_n (pc := 21) C dX9_flipped_21 rfl rfl ?_
              refine j_iadd (pc := 22) C dX9_flipped_22 ?_
              obtain ⟨r23, h3, hk⟩ := ob_some hk
              refine j_callS (pc := 23) C (ct_X9_has h3) ms_X9_has q2270 dX9_flipped_23 rfl rfl (Nat.le_of_ble_eq_true rfl) rfl ?_
              refine j_if_eq (pc := 26) 39 C dX9_flipped_26 (by decide) (fun h4 => ?_) (fun h4 => ?_)
              · have hk := it_t h4 hk
                refine j_iconst (pc := 39) (v := nI 0) C dX9_flipped_39 (by decide) ?_
                refine j_ior (pc := 40) C dX9_flipped_40 ?_
                refine j_istore_n (pc := 41) C dX9_flipped_41 rfl (Nat.le_of_ble_eq_true rfl) rfl ?_
                refine j_iinc (pc := 42) (nI 1) C dX9_flipped_42 rfl (by decide) (Nat.le_of_ble_eq_true rfl) rfl ?_
                refine j_goto (pc := 45) 11 C dX9_flipped_45 (by decide) ?_
                exact j_mask [true, true, true, true] (ih11 _ _ hk)
              · have hk := it_f h4 hk
                refine j_iconst (pc := 29) (v := nI 1) C dX9_flipped_29 (by decide) ?_
                refine j_iconst (pc := 30) (v := nI 3) C dX9_flipped_30 (by decide) ?_
                refine j_iload_n (pc := 31) C dX9_flipped_31 rfl rfl ?_
                refine j_imul (pc := 32) C dX9_flipped_32 ?_
                refine j_iload_n (pc := 33) C dX9_flipped_33 rfl rfl ?_
                refine j_iadd (pc := 34) C dX9_flipped_34 ?_
                refine j_ishl (pc := 35) C dX9_flipped_35 ?_
                refine j_goto (pc := 36) 40 C dX9_flipped_36 (by decide) ?_
                refine j_ior (pc := 40) C dX9_flipped_40 ?_
                refine j_istore_n (pc := 41) C dX9_flipped_41 rfl (Nat.le_of_ble_eq_true rfl) rfl ?_
                refine j_iinc (pc := 42) (nI 1) C dX9_flipped_42 rfl (by decide) (Nat.le_of_ble_eq_true rfl) rfl ?_
                refine j_goto (pc := 45) 11 C dX9_flipped_45 (by decide) ?_
                exact j_mask [true, true, true, true] (ih11 _ _ hk)
        exact j_mask [true, true, true, true] (L11 _ _ _ _ hk)
  exact j_mask [true, true, true, false] (L4 _ _ _ _ hk)
def f_X9_gather_L49 (F : Nat) (k37 : Int32 → II → Option II) (x1 : Int32) (x2 : Int32) : Nat → Int32 → II → Option II
  | 0, _, _ => none
  | n49 + 1, x3, I => (f_X9_has x1 x2).bind fun r51 => if r51 = 0 then k37 (x2 + (nI 1)) I else (f_X9_casesOf x2 I).bind fun r60 => if r60 ≤ x3 then k37 (x2 + (nI 1)) I else (f_X9_hallOf x2 x3 I).bind fun r69 => (f_X9_otherOf x2 x3 I).bind fun r77 => oix (((nI 110) + ((nI 32) * x2)) + x3) 366 fun i95 => if 0 ≤ r77 then if r77 ≤ r69 then oix (((nI 12) * r77) + r69) 144 fun i159 => (f_X9_flipped F (I 28 i95)).bind fun r162 => oix (((nI 12) * r77) + r69) 144 fun i166 => (f_X9_gather_L49 F k37 x1 x2 n49) (x3 + (nI 1)) (up2 I 38 i166 ((I 38 i159) &&& r162)) else oix (((nI 12) * r69) + r77) 144 fun i138 => oix (((nI 12) * r69) + r77) 144 fun i142 => (f_X9_gather_L49 F k37 x1 x2 n49) (x3 + (nI 1)) (up2 I 38 i142 ((I 38 i138) &&& (I 28 i95))) else oix r69 12 fun i110 => oix r69 12 fun i114 => (f_X9_gather_L49 F k37 x1 x2 n49) (x3 + (nI 1)) (up2 I 37 i114 ((I 37 i110) &&& (I 28 i95)))
def f_X9_gather_L37 (F : Nat) (x1 : Int32) : Nat → Int32 → II → Option II
  | 0, _, _ => none
  | n37 + 1, x2, I => oix (nI 0) 366 fun i43 => if (I 28 i43) ≤ x2 then some I else f_X9_gather_L49 F (f_X9_gather_L37 F x1 n37) x1 x2 F (nI 0) I
def f_X9_gather_L2 (F : Nat) (x1 : Int32) : Nat → Int32 → II → Option II
  | 0, _, _ => none
  | n2 + 1, x2, I => if (nI 144) ≤ x2 then f_X9_gather_L37 F x1 F (nI 0) I else oix x2 144 fun i17 => oix (x2 / (nI 12)) 12 fun i28 => (f_X9_gather_L2 F x1 n2) (x2 + (nI 1)) (up2 (up2 I 38 i17 (nI 511)) 37 i28 (nI 7))
def f_X9_gather (F : Nat) (x1 : Int32) (I : II) : Option II := f_X9_gather_L2 F x1 F (nI 0) I
abbrev rm_X9_gather : Room := { frames := 2, cells := 0, slots := 0, locals := 44 }
theorem mv_X9_gather : MV yX9_gather cX9_gather 7 none 1 := ⟨q2299, qs71, q106, q2300, by decide +kernel⟩
set_option maxHeartbeats 4000000 in
theorem ct_X9_gather {G : WG} {l : Launch} {sh : SH} (hS : StM sh) {I : II} {F : Nat} {x1 : Int32} {I9 : II} (hk : f_X9_gather F x1 I = some I9) : CT G l yX9_gather (ws_ yX9_gather cX9_gather 7 none) rm_X9_gather [.ref (wad G 27), .int x1] (sh, I) (.returned none) (sh, I9) := by
  refine CT.ofJ "NineDemandsModel" rfl (by decide) (Nat.le_of_ble_eq_true rfl) ?_
  intro p e s m args below meth c C
  unfold f_X9_gather at hk
  refine j_lv (lv' := [some (.ref (wad G 27)), some (.int x1), none, none, none, none, none]) rfl ?_
  refine j_iconst (pc := 0) (v := nI 0) C dX9_gather_0 (by decide) ?_
  refine j_istore_n (pc := 1) C dX9_gather_1 rfl (Nat.le_of_ble_eq_true rfl) rfl ?_
  have L2 : ∀ (x1 : Int32) (n2 : Nat) (x2 : Int32) (I : II), f_X9_gather_L2 F x1 n2 x2 I = some I9 → J G p l e rm_X9_gather s m args below meth c 7 (.returned none) (sh, I9) (rm_X9_gather).cells (rm_X9_gather).slots (sh, I) 0 0 2 [some (.ref (wad G 27)), some (.int x1), some (.int x2), none, none, none, none] [] := by
    intro x1 n2
    induction n2 with
    | zero => intro x2 I hk; rw [f_X9_gather_L2] at hk; cases hk
    | succ n2 ih2 =>
      intro x2 I hk
      rw [f_X9_gather_L2] at hk
      generalize f_X9_gather_L2 F x1 n2 = k2 at ih2 hk
      refine j_iload_n (pc := 2) C dX9_gather_2 rfl rfl ?_
      refine j_sipush (pc := 3) (v := nI 144) C dX9_gather_3 (by decide) ?_
      refine j_icmp_ge (pc := 6) 35 C dX9_gather_6 (by decide) (fun h1 => ?_) (fun h1 => ?_)
      · have hk := it_t h1 hk
        refine j_iconst (pc := 35) (v := nI 0) C dX9_gather_35 (by decide) ?_
        refine j_istore_n (pc := 36) C dX9_gather_36 rfl (Nat.le_of_ble_eq_true rfl) rfl ?_
        have L37 : ∀ (x1 : Int32) (n37 : Nat) (x2 : Int32) (I : II), f_X9_gather_L37 F x1 n37 x2 I = some I9 → J G p l e rm_X9_gather s m args below meth c 7 (.returned none) (sh, I9) (rm_X9_gather).cells (rm_X9_gather).slots (sh, I) 0 0 37 [some (.ref (wad G 27)), some (.int x1), some (.int x2), none, none, none, none] [] := by
          intro x1 n37
          induction n37 with
          | zero => intro x2 I hk; rw [f_X9_gather_L37] at hk; cases hk
          | succ n37 ih37 =>
            intro x2 I hk
            rw [f_X9_gather_L37] at hk
            generalize f_X9_gather_L37 F x1 n37 = k37 at ih37 hk
            refine j_iload_n (pc := 37) C dX9_gather_37 rfl rfl ?_
            refine j_aload_n (pc := 38) C dX9_gather_38 rfl rfl ?_
            refine j_getR (pc := 39) C fd_10_0 q2000 (stM_o hS) (stM_r0 hS) dX9_gather_39 ?_
            refine j_iconst (pc := 42) (v := nI 0) C dX9_gather_42 (by decide) ?_
            obtain ⟨i43, e43, h2, hk⟩ := oix_ex hk
            refine j_iald (pc := 43) C (stM_a28 hS) h2 e43 dX9_gather_43 ?_
            refine j_icmp_ge (pc := 44) 179 C dX9_gather_44 (by decide) (fun h3 => ?_) (fun h3 => ?_)
            · have hk := it_t h3 hk
              exact j_vretW (pc := 179) C dX9_gather_179 (Nat.le_of_ble_eq_true rfl) (Nat.le_of_ble_eq_true rfl) hk
            · have hk := it_f h3 hk
              refine j_iconst (pc := 47) (v := nI 0) C dX9_gather_47 (by decide) ?_
              refine j_istore_n (pc := 48) C dX9_gather_48 rfl (Nat.le_of_ble_eq_true rfl) rfl ?_
              have L49 : ∀ (x2 : Int32) (n49 : Nat) (x3 : Int32) (I : II), f_X9_gather_L49 F k37 x1 x2 n49 x3 I = some I9 → J G p l e rm_X9_gather s m args below meth c 7 (.returned none) (sh, I9) (rm_X9_gather).cells (rm_X9_gather).slots (sh, I) 0 0 49 [some (.ref (wad G 27)), some (.int x1), some (.int x2), some (.int x3), none, none, none] [] := by
                intro x2 n49
                induction n49 with
                | zero => intro x3 I hk; rw [f_X9_gather_L49] at hk; cases hk
                | succ n49 ih49 =>
                  intro x3 I hk
                  rw [f_X9_gather_L49] at hk
                  generalize f_X9_gather_L49 F k37 x1 x2 n49 = k49 at ih49 hk
                  refine j_iload_n (pc := 49) C dX9_gather_49 rfl rfl ?_
                  refine j_iload_n (pc := 50) C dX9_gather_50 rfl rfl ?_
                  obtain ⟨r51, h4, hk⟩ := ob_some hk
                  refine j_callS (pc := 51) C (ct_X9_has h4) ms_X9_has q2270 dX9_gather_51 rfl rfl (Nat.le_of_ble_eq_true rfl) rfl ?_
                  refine j_if_eq (pc := 54) 173 C dX9_gather_54 (by decide) (fun h5 => ?_) (fun h5 => ?_)
                  · have hk := it_t h5 hk
                    refine j_iinc (pc := 173) (nI 1) C dX9_gather_173 rfl (by decide) (Nat.le_of_ble_eq_true rfl) rfl ?_
                    refine j_goto (pc := 176) 37 C dX9_gather_176 (by decide) ?_
                    exact j_mask [true, true, true, false, false, false, false] (ih37 _ _ hk)
                  · have hk := it_f h5 hk
                    refine j_iload_n (pc := 57) C dX9_gather_57 rfl rfl ?_
                    refine j_aload_n (pc := 58) C dX9_gather_58 rfl rfl ?_
                    refine j_iload_n (pc := 59) C dX9_gather_59 rfl rfl ?_
                    obtain ⟨r60, h6, hk⟩ := ob_some hk
                    refine j_callV (pc := 60) C (ct_X9_casesOf hS h6) mv_X9_casesOf (stM_o hS) rfl rfl q2238 dX9_gather_60 rfl rfl (Nat.le_of_ble_eq_true rfl) rfl ?_
                    refine j_icmp_ge (pc := 63) 173 C dX9_gather_63 (by decide) (fun h7 => ?_) (fun h7 => ?_)
                    · have hk := it_t h7 hk
                      refine j_iinc (pc := 173) (nI 1) C dX9_gather_173 rfl (by decide) (Nat.le_of_ble_eq_true rfl) rfl ?_
                      refine j_goto (pc := 176) 37 C dX9_gather_176 (by decide) ?_
                      exact j_mask [true, true, true, false, false, false, false] (ih37 _ _ hk)
                    · have hk := it_f h7 hk
                      refine j_aload_n (pc := 66) C dX9_gather_66 rfl rfl ?_
                      refine j_iload_n (pc := 67) C dX9_gather_67 rfl rfl ?_
                      refine j_iload_n (pc := 68) C dX9_gather_68 rfl rfl ?_
                      obtain ⟨r69, h8, hk⟩ := ob_some hk
                      refine j_callV (pc := 69) C (ct_X9_hallOf hS h8) mv_X9_hallOf (stM_o hS) rfl rfl q2250 dX9_gather_69 rfl rfl (Nat.le_of_ble_eq_true rfl) rfl ?_
                      refine j_istore (pc := 72) C dX9_gather_72 (Nat.le_of_ble_eq_true rfl) rfl ?_
                      refine j_aload_n (pc := 74) C dX9_gather_74 rfl rfl ?_
                      refine j_iload_n (pc := 75) C dX9_gather_75 rfl rfl ?_
                      refine j_iload_n (pc := 76) C dX9_gather_76 rfl rfl ?_
                      obtain ⟨r77, h9, hk⟩ := ob_some hk
                      refine j_callV (pc := 77) C (ct_X9_otherOf hS h9) mv_X9_otherOf (stM_o hS) rfl rfl q2258 dX9_gather_77 rfl rfl (Nat.le_of_ble_eq_true rfl) rfl ?_
                      refine j_istore (pc := 80) C dX9_gather_80 (Nat.le_of_ble_eq_true rfl) rfl ?_
                      refine j_aload_n (pc := 82) C dX9_gather_82 rfl rfl ?_
                      refine j_getR (pc := 83) C fd_10_0 q2000 (stM_o hS) (stM_r0 hS) dX9_gather_83 ?_
                      refine j_bipush (pc := 86) (v := nI 110) C dX9_gather_86 (by decide) ?_
                      refine j_bipush (pc := 88) (v := nI 32) C dX9_gather_88 (by decide) ?_
                      refine j_iload_n (pc := 90) C dX9_gather_90 rfl rfl ?_
                      refine j_imul (pc := 91) C dX9_gather_91 ?_
                      refine j_iadd (pc := 92) C dX9_gather_92 ?_
                      refine j_iload_n (pc := 93) C dX9_gather_93 rfl rfl ?_
                      refine j_iadd (pc := 94) C dX9_gather_94 ?_
                      obtain ⟨i95, e95, h10, hk⟩ := oix_ex hk
                      refine j_iald (pc := 95) C (stM_a28 hS) h10 e95 dX9_gather_95 ?_
                      refine j_istore (pc := 96) C dX9_gather_96 (Nat.le_of_ble_eq_true rfl) rfl ?_
                      refine j_iload (pc := 98) C dX9_gather_98 rfl ?_
                      refine j_if_ge (pc := 100) 118 C dX9_gather_100 (by decide) (fun h11 => ?_) (fun h11 => ?_)
                      · have hk := it_t h11 hk
                        refine j_iload (pc := 118) C dX9_gather_118 rfl ?_
                        refine j_iload (pc := 120) C dX9_gather_120 rfl ?_
                        refine j_icmp_ge (pc := 122) 146 C dX9_gather_122 (by decide) (fun h12 => ?_) (fun h12 => ?_)
                        · have hk := it_t h12 hk
                          refine j_aload_n (pc := 146) C dX9_gather_146 rfl rfl ?_
                          refine j_getR (pc := 147) C fd_10_20 q2020 (stM_o hS) (stM_r20 hS) dX9_gather_147 ?_
                          refine j_bipush (pc := 150) (v := nI 12) C dX9_gather_150 (by decide) ?_
                          refine j_iload (pc := 152) C dX9_gather_152 rfl ?_
                          refine j_imul (pc := 154) C dX9_gather_154 ?_
                          refine j_iload (pc := 155) C dX9_gather_155 rfl ?_
                          refine j_iadd (pc := 157) C dX9_gather_157 ?_
                          refine j_dup2 (pc := 158) C dX9_gather_158 rfl rfl ?_
                          obtain ⟨i159, e159, h13, hk⟩ := oix_ex hk
                          refine j_iald (pc := 159) C (stM_a38 hS) h13 e159 dX9_gather_159 ?_
                          refine j_iload (pc := 160) C dX9_gather_160 rfl ?_
                          obtain ⟨r162, h14, hk⟩ := ob_some hk
                          refine j_callS (pc := 162) C (ct_X9_flipped h14) ms_X9_flipped q2301 dX9_gather_162 rfl rfl (Nat.le_of_ble_eq_true rfl) rfl ?_
                          refine j_iand (pc := 165) C dX9_gather_165 ?_
                          obtain ⟨i166, e166, h15, hk⟩ := oix_ex hk
                          refine j_iast (pc := 166) C (stM_a38 hS) h15 e166 dX9_gather_166 ?_
                          refine j_iinc (pc := 167) (nI 1) C dX9_gather_167 rfl (by decide) (Nat.le_of_ble_eq_true rfl) rfl ?_
                          refine j_goto (pc := 170) 49 C dX9_gather_170 (by decide) ?_
                          exact j_mask [true, true, true, true, false, false, false] (ih49 _ _ hk)
                        · have hk := it_f h12 hk
                          refine j_aload_n (pc := 125) C dX9_gather_125 rfl rfl ?_
                          refine j_getR (pc := 126) C fd_10_20 q2020 (stM_o hS) (stM_r20 hS) dX9_gather_126 ?_
                          refine j_bipush (pc := 129) (v := nI 12) C dX9_gather_129 (by decide) ?_
                          refine j_iload (pc := 131) C dX9_gather_131 rfl ?_
                          refine j_imul (pc := 133) C dX9_gather_133 ?_
                          refine j_iload (pc := 134) C dX9_gather_134 rfl ?_
                          refine j_iadd (pc := 136) C dX9_gather_136 ?_
                          refine j_dup2 (pc := 137) C dX9_gather_137 rfl rfl ?_
                          obtain ⟨i138, e138, h16, hk⟩ := oix_ex hk
                          refine j_iald (pc := 138) C (stM_a38 hS) h16 e138 dX9_gather_138 ?_
                          refine j_iload (pc := 139) C dX9_gather_139 rfl ?_
                          refine j_iand (pc := 141) C dX9_gather_141 ?_
                          obtain ⟨i142, e142, h17, hk⟩ := oix_ex hk
                          refine j_iast (pc := 142) C (stM_a38 hS) h17 e142 dX9_gather_142 ?_
                          refine j_goto (pc := 143) 167 C dX9_gather_143 (by decide) ?_
                          refine j_iinc (pc := 167) (nI 1) C dX9_gather_167 rfl (by decide) (Nat.le_of_ble_eq_true rfl) rfl ?_
                          refine j_goto (pc := 170) 49 C dX9_gather_170 (by decide) ?_
                          exact j_mask [true, true, true, true, false, false, false] (ih49 _ _ hk)
                      · have hk := it_f h11 hk
                        refine j_aload_n (pc := 103) C dX9_gather_103 rfl rfl ?_
                        refine j_getR (pc := 104) C fd_10_19 q2019 (stM_o hS) (stM_r19 hS) dX9_gather_104 ?_
                        refine j_iload (pc := 107) C dX9_gather_107 rfl ?_
                        refine j_dup2 (pc := 109) C dX9_gather_109 rfl rfl ?_
                        obtain ⟨i110, e110, h18, hk⟩ := oix_ex hk
                        refine j_iald (pc := 110) C (stM_a37 hS) h18 e110 dX9_gather_110 ?_
                        refine j_iload (pc := 111) C dX9_gather_111 rfl ?_
                        refine j_iand (pc := 113) C dX9_gather_113 ?_
                        obtain ⟨i114, e114, h19, hk⟩ := oix_ex hk
                        refine j_iast (pc := 114) C (stM_a37 hS) h19 e114 dX9_gather_114 ?_
                        refine j_goto (pc := 115) 167 C dX9_gather_115 (by decide) ?_
                        refine j_iinc (pc := 167) (nI 1) C dX9_gather_167 rfl (by decide) (Nat.le_of_ble_eq_true rfl) rfl ?_
                        refine j_goto (pc := 170) 49 C dX9_gather_170 (by decide) ?_
                        exact j_mask [true, true, true, true, false, false, false] (ih49 _ _ hk)
              exact j_mask [true, true, true, true, false, false, false] (L49 _ _ _ _ hk)
        exact j_mask [true, true, true, false, false, false, false] (L37 _ _ _ _ hk)
      · have hk := it_f h1 hk
        refine j_aload_n (pc := 9) C dX9_gather_9 rfl rfl ?_
        refine j_getR (pc := 10) C fd_10_20 q2020 (stM_o hS) (stM_r20 hS) dX9_gather_10 ?_
        refine j_iload_n (pc := 13) C dX9_gather_13 rfl rfl ?_
        refine j_sipush (pc := 14) (v := nI 511) C dX9_gather_14 (by decide) ?_
        obtain ⟨i17, e17, h20, hk⟩ := oix_ex hk
        refine j_iast (pc := 17) C (stM_a38 hS) h20 e17 dX9_gather_17 ?_
        refine j_aload_n (pc := 18) C dX9_gather_18 rfl rfl ?_
        refine j_getR (pc := 19) C fd_10_19 q2019 (stM_o hS) (stM_r19 hS) dX9_gather_19 ?_
        refine j_iload_n (pc := 22) C dX9_gather_22 rfl rfl ?_
        refine j_bipush (pc := 23) (v := nI 12) C dX9_gather_23 (by decide) ?_
        refine j_idiv (pc := 25) C dX9_gather_25 (by decide) ?_
        refine j_bipush (pc := 26) (v := nI 7) C dX9_gather_26 (by decide) ?_
        obtain ⟨i28, e28, h21, hk⟩ := oix_ex hk
        refine j_iast (pc := 28) C (stM_a37 hS) h21 e28 dX9_gather_28 ?_
        refine j_iinc (pc := 29) (nI 1) C dX9_gather_29 rfl (by decide) (Nat.le_of_ble_eq_true rfl) rfl ?_
        refine j_goto (pc := 32) 2 C dX9_gather_32 (by decide) ?_
        exact j_mask [true, true, true, false, false, false, false] (ih2 _ _ hk)
  exact j_mask [true, true, true, false, false, false, false] (L2 _ _ _ _ hk)
def f_X9_fitsAhead_L17 (F : Nat) (I : II) (x1 : Int32) (x2 : Int32) (x3 : Int32) : Nat → Int32 → Int32 → Option Int32
  | 0, _, _ => none
  | n17 + 1, x4, x5 => if x1 ≤ x5 then og (x4 = 0 ∨ x4 = 1) (some x4) else if x4 = 0 then og (x4 = 0 ∨ x4 = 1) (some x4) else (f_X9_has x3 x5).bind fun r31 => if r31 = 0 then (f_X9_fitsAhead_L17 F I x1 x2 x3 n17) (nI 1) (x5 + (nI 1)) else oix (((nI 12) * x5) + x1) 144 fun i48 => oix x5 12 fun i56 => (f_X9_has (I 38 i48) ((((nI 3) * (I 39 i56)) + x2) - (nI 4))).bind fun r62 => if r62 = 0 then (f_X9_fitsAhead_L17 F I x1 x2 x3 n17) (nI 0) (x5 + (nI 1)) else (f_X9_fitsAhead_L17 F I x1 x2 x3 n17) (nI 1) (x5 + (nI 1))
def f_X9_fitsAhead (F : Nat) (x1 : Int32) (x2 : Int32) (x3 : Int32) (I : II) : Option Int32 := oix x1 12 fun i5 => (f_X9_has (I 37 i5) (x2 - (nI 1))).bind fun r9 => f_X9_fitsAhead_L17 F I x1 x2 x3 F r9 (nI 0)
abbrev rm_X9_fitsAhead : Room := { frames := 1, cells := 0, slots := 0, locals := 21 }
theorem mv_X9_fitsAhead : MV yX9_fitsAhead cX9_fitsAhead 6 (some .boolean) 3 := ⟨q2310, qs73, q106, q2311, by decide +kernel⟩
set_option maxHeartbeats 4000000 in
theorem ct_X9_fitsAhead {G : WG} {l : Launch} {sh : SH} (hS : StM sh) {I : II} {F : Nat} {x1 : Int32} {x2 : Int32} {x3 : Int32} {r : Int32} (hk : f_X9_fitsAhead F x1 x2 x3 I = some r) : CT G l yX9_fitsAhead (ws_ yX9_fitsAhead cX9_fitsAhead 6 (some .boolean)) rm_X9_fitsAhead [.ref (wad G 27), .int x1, .int x2, .int x3] (sh, I) (.returned (some (.int r))) (sh, I) := by
  refine CT.ofJ "NineDemandsModel" rfl (by decide) (Nat.le_of_ble_eq_true rfl) ?_
  intro p e s m args below meth c C
  unfold f_X9_fitsAhead at hk
  refine j_lv (lv' := [some (.ref (wad G 27)), some (.int x1), some (.int x2), some (.int x3), none, none]) rfl ?_
  refine j_aload_n (pc := 0) C dX9_fitsAhead_0 rfl rfl ?_
  refine j_getR (pc := 1) C fd_10_19 q2019 (stM_o hS) (stM_r19 hS) dX9_fitsAhead_1 ?_
  refine j_iload_n (pc := 4) C dX9_fitsAhead_4 rfl rfl ?_
  obtain ⟨i5, e5, h1, hk⟩ := oix_ex hk
  refine j_iald (pc := 5) C (stM_a37 hS) h1 e5 dX9_fitsAhead_5 ?_
  refine j_iload_n (pc := 6) C dX9_fitsAhead_6 rfl rfl ?_
  refine j_iconst (pc := 7) (v := nI 1) C dX9_fitsAhead_7 (by decide) ?_
  refine j_isub (pc := 8) C dX9_fitsAhead_8 ?_
  obtain ⟨r9, h2, hk⟩ := ob_some hk
  refine j_callS (pc := 9) C (ct_X9_has h2) ms_X9_has q2270 dX9_fitsAhead_9 rfl rfl (Nat.le_of_ble_eq_true rfl) rfl ?_
  refine j_istore (pc := 12) C dX9_fitsAhead_12 (Nat.le_of_ble_eq_true rfl) rfl ?_
  refine j_iconst (pc := 14) (v := nI 0) C dX9_fitsAhead_14 (by decide) ?_
  refine j_istore (pc := 15) C dX9_fitsAhead_15 (Nat.le_of_ble_eq_true rfl) rfl ?_
  have L17 : ∀ (x1 : Int32) (x2 : Int32) (x3 : Int32) (n17 : Nat) (x4 : Int32) (x5 : Int32), f_X9_fitsAhead_L17 F I x1 x2 x3 n17 x4 x5 = some r → J G p l e rm_X9_fitsAhead s m args below meth c 6 (.returned (some (.int r))) (sh, I) (rm_X9_fitsAhead).cells (rm_X9_fitsAhead).slots (sh, I) 0 0 17 [some (.ref (wad G 27)), some (.int x1), some (.int x2), some (.int x3), some (.int x4), some (.int x5)] [] := by
    intro x1 x2 x3 n17
    induction n17 with
    | zero => intro x4 x5 hk; rw [f_X9_fitsAhead_L17] at hk; cases hk
    | succ n17 ih17 =>
      intro x4 x5 hk
      rw [f_X9_fitsAhead_L17] at hk
      generalize f_X9_fitsAhead_L17 F I x1 x2 x3 n17 = k17 at ih17 hk
      refine j_iload (pc := 17) C dX9_fitsAhead_17 rfl ?_
      refine j_iload_n (pc := 19) C dX9_fitsAhead_19 rfl rfl ?_
      refine j_icmp_ge (pc := 20) 81 C dX9_fitsAhead_20 (by decide) (fun h3 => ?_) (fun h3 => ?_)
      · have hk := it_t h3 hk
        refine j_iload (pc := 81) C dX9_fitsAhead_81 rfl ?_
        obtain ⟨h4, hk⟩ := og_some hk
        exact j_zretR (pc := 83) C dX9_fitsAhead_83 (Nat.le_of_ble_eq_true rfl) (Nat.le_of_ble_eq_true rfl) (isB.nar h4) hk
      · have hk := it_f h3 hk
        refine j_iload (pc := 23) C dX9_fitsAhead_23 rfl ?_
        refine j_if_eq (pc := 25) 81 C dX9_fitsAhead_25 (by decide) (fun h5 => ?_) (fun h5 => ?_)
        · have hk := it_t h5 hk
          refine j_iload (pc := 81) C dX9_fitsAhead_81 rfl ?_
          obtain ⟨h6, hk⟩ := og_some hk
          exact j_zretR (pc := 83) C dX9_fitsAhead_83 (Nat.le_of_ble_eq_true rfl) (Nat.le_of_ble_eq_true rfl) (isB.nar h6) hk
        · have hk := it_f h5 hk
          refine j_iload_n (pc := 28) C dX9_fitsAhead_28 rfl rfl ?_
          refine j_iload (pc := 29) C dX9_fitsAhead_29 rfl ?_
          obtain ⟨r31, h7, hk⟩ := ob_some hk
          refine j_callS (pc := 31) C (ct_X9_has h7) ms_X9_has q2270 dX9_fitsAhead_31 rfl rfl (Nat.le_of_ble_eq_true rfl) rfl ?_
          refine j_if_eq (pc := 34) 68 C dX9_fitsAhead_34 (by decide) (fun h8 => ?_) (fun h8 => ?_)
          · have hk := it_t h8 hk
            refine j_iconst (pc := 68) (v := nI 1) C dX9_fitsAhead_68 (by decide) ?_
            refine j_goto (pc := 69) 73 C dX9_fitsAhead_69 (by decide) ?_
            refine j_istore (pc := 73) C dX9_fitsAhead_73 (Nat.le_of_ble_eq_true rfl) rfl ?_
            refine j_iinc (pc := 75) (nI 1) C dX9_fitsAhead_75 rfl (by decide) (Nat.le_of_ble_eq_true rfl) rfl ?_
            refine j_goto (pc := 78) 17 C dX9_fitsAhead_78 (by decide) ?_
            exact j_mask [true, true, true, true, true, true] (ih17 _ _ hk)
          · have hk := it_f h8 hk
            refine j_aload_n (pc := 37) C dX9_fitsAhead_37 rfl rfl ?_
            refine j_getR (pc := 38) C fd_10_20 q2020 (stM_o hS) (stM_r20 hS) dX9_fitsAhead_38 ?_
            refine j_bipush (pc := 41) (v := nI 12) C dX9_fitsAhead_41 (by decide) ?_
            refine j_iload (pc := 43) C dX9_fitsAhead_43 rfl ?_
            refine j_imul (pc := 45) C dX9_fitsAhead_45 ?_
            refine j_iload_n (pc := 46) C dX9_fitsAhead_46 rfl rfl ?_
            refine j_iadd (pc := 47) C dX9_fitsAhead_47 ?_
            obtain ⟨i48, e48, h9, hk⟩ := oix_ex hk
            refine j_iald (pc := 48) C (stM_a38 hS) h9 e48 dX9_fitsAhead_48 ?_
            refine j_iconst (pc := 49) (v := nI 3) C dX9_fitsAhead_49 (by decide) ?_
            refine j_aload_n (pc := 50) C dX9_fitsAhead_50 rfl rfl ?_
            refine j_getR (pc := 51) C fd_10_21 q2021 (stM_o hS) (stM_r21 hS) dX9_fitsAhead_51 ?_
            refine j_iload (pc := 54) C dX9_fitsAhead_54 rfl ?_
            obtain ⟨i56, e56, h10, hk⟩ := oix_ex hk
            refine j_iald (pc := 56) C (stM_a39 hS) h10 e56 dX9_fitsAhead_56 ?_
            refine j_imul (pc := 57) C dX9_fitsAhead_57 ?_
            refine j_iload_n (pc := 58) C dX9_fitsAhead_58 rfl rfl ?_
            refine j_iadd (pc := 59) C dX9_fitsAhead_59 ?_
            refine j_iconst (pc := 60) (v := nI 4) C dX9_fitsAhead_60 (by decide) ?_
            refine j_isub (pc := 61) C dX9_fitsAhead_61 ?_
            obtain ⟨r62, h11, hk⟩ := ob_some hk
            refine j_callS (pc := 62) C (ct_X9_has h11) ms_X9_has q2270 dX9_fitsAhead_62 rfl rfl (Nat.le_of_ble_eq_true rfl) rfl ?_
            refine j_if_eq (pc := 65) 72 C dX9_fitsAhead_65 (by decide) (fun h12 => ?_) (fun h12 => ?_)
            · have hk := it_t h12 hk
              refine j_iconst (pc := 72) (v := nI 0) C dX9_fitsAhead_72 (by decide) ?_
              refine j_istore (pc := 73) C dX9_fitsAhead_73 (Nat.le_of_ble_eq_true rfl) rfl ?_
              refine j_iinc (pc := 75) (nI 1) C dX9_fitsAhead_75 rfl (by decide) (Nat.le_of_ble_eq_true rfl) rfl ?_
              refine j_goto (pc := 78) 17 C dX9_fitsAhead_78 (by decide) ?_
              exact j_mask [true, true, true, true, true, true] (ih17 _ _ hk)
            · have hk := it_f h12 hk
              refine j_iconst (pc := 68) (v := nI 1) C dX9_fitsAhead_68 (by decide) ?_
              refine j_goto (pc := 69) 73 C dX9_fitsAhead_69 (by decide) ?_
              refine j_istore (pc := 73) C dX9_fitsAhead_73 (Nat.le_of_ble_eq_true rfl) rfl ?_
              refine j_iinc (pc := 75) (nI 1) C dX9_fitsAhead_75 rfl (by decide) (Nat.le_of_ble_eq_true rfl) rfl ?_
              refine j_goto (pc := 78) 17 C dX9_fitsAhead_78 (by decide) ?_
              exact j_mask [true, true, true, true, true, true] (ih17 _ _ hk)
  exact j_mask [true, true, true, true, true, true] (L17 _ _ _ _ _ _ hk)
def f_X9_seek_L27 (F : Nat) (c_X9_seek : Int32 → Int32 → II → Option (Int32 × II)) (x1 : Int32) (x2 : Int32) : Nat → Int32 → II → Option (Int32 × II)
  | 0, _, _ => none
  | n27 + 1, x3, I => if (nI 3) < x3 then some ((nI 0), I) else (f_X9_fitsAhead F x1 x3 x2 I).bind fun r36 => if r36 = 0 then (f_X9_seek_L27 F c_X9_seek x1 x2 n27) (x3 + (nI 1)) I else oix x1 12 fun i48 => bd2 (c_X9_seek (x1 + (nI 1)) x2 (up2 I 39 i48 x3)) fun r54 I54 => if r54 = 0 then (f_X9_seek_L27 F c_X9_seek x1 x2 n27) (x3 + (nI 1)) I54 else some ((nI 1), I54)
def fb_X9_seek (F : Nat) (c_X9_seek : Int32 → Int32 → II → Option (Int32 × II)) (x1 : Int32) (x2 : Int32) (I : II) : Option (Int32 × II) := if x1 = (nI 12) then some ((nI 1), I) else (f_X9_has x2 x1).bind fun r10 => if r10 = 0 then bd2 (c_X9_seek (x1 + (nI 1)) x2 I) fun r21 I21 => og (r21 = 0 ∨ r21 = 1) (some (r21, I21)) else f_X9_seek_L27 F c_X9_seek x1 x2 F (nI 1) I
theorem mv_X9_seek : MV yX9_seek cX9_seek 4 (some .boolean) 2 := ⟨q2306, qs72, q106, q2307, by decide +kernel⟩
set_option maxHeartbeats 4000000 in
theorem ctb_X9_seek {G : WG} {l : Launch} {sh : SH} (hS : StM sh) {Rf Rl : Nat} {fc_X9_seek lc_X9_seek : Nat} {c_X9_seek : Int32 → Int32 → II → Option (Int32 × II)} {F : Nat} (hc_X9_seek : ∀ {x1 : Int32} {x2 : Int32} {I : II} {r : Int32} {I9 : II}, c_X9_seek x1 x2 I = some (r, I9) → CT G l yX9_seek (ws_ yX9_seek cX9_seek 4 (some .boolean)) (rmZ fc_X9_seek lc_X9_seek) [.ref (wad G 27), .int x1, .int x2] (sh, I) (.returned (some (.int r))) (sh, I9)) (hr_X9_has : rmOK rm_X9_has (rmZ Rf Rl) 2 0 0 = true) (hr_X9_fitsAhead : rmOK rm_X9_fitsAhead (rmZ Rf Rl) 6 0 0 = true) (hr_X9_seek : rmOK (rmZ fc_X9_seek lc_X9_seek) (rmZ Rf Rl) 4 0 0 = true) {I : II} {x1 : Int32} {x2 : Int32} {r : Int32} {I9 : II} (hk : fb_X9_seek F c_X9_seek x1 x2 I = some (r, I9)) : CT G l yX9_seek (ws_ yX9_seek cX9_seek 4 (some .boolean)) (rmZ Rf Rl) [.ref (wad G 27), .int x1, .int x2] (sh, I) (.returned (some (.int r))) (sh, I9) := by
  refine CT.ofJ "NineDemandsModel" rfl (by decide) (Nat.le_of_ble_eq_true rfl) ?_
  intro p e s m args below meth c C
  unfold fb_X9_seek at hk
  refine j_lv (lv' := [some (.ref (wad G 27)), some (.int x1), some (.int x2), none]) rfl ?_
  refine j_iload_n (pc := 0) C dX9_seek_0 rfl rfl ?_
  refine j_bipush (pc := 1) (v := nI 12) C dX9_seek_1 (by decide) ?_
  refine j_icmp_ne (pc := 3) 8 C dX9_seek_3 (by decide) (fun h1 => ?_) (fun h1 => ?_)
  · have hk := it_f h1 hk
    refine j_iload_n (pc := 8) C dX9_seek_8 rfl rfl ?_
    refine j_iload_n (pc := 9) C dX9_seek_9 rfl rfl ?_
    obtain ⟨r10, h2, hk⟩ := ob_some hk
    refine j_callS (pc := 10) C (ct_X9_has h2) ms_X9_has q2270 dX9_seek_10 rfl rfl (Nat.le_of_ble_eq_true rfl) hr_X9_has ?_
    refine j_if_ne (pc := 13) 25 C dX9_seek_13 (by decide) (fun h3 => ?_) (fun h3 => ?_)
    · have hk := it_f h3 hk
      refine j_iconst (pc := 25) (v := nI 1) C dX9_seek_25 (by decide) ?_
      refine j_istore_n (pc := 26) C dX9_seek_26 rfl (Nat.le_of_ble_eq_true rfl) rfl ?_
      have L27 : ∀ (x1 : Int32) (x2 : Int32) (n27 : Nat) (x3 : Int32) (I : II), f_X9_seek_L27 F c_X9_seek x1 x2 n27 x3 I = some (r, I9) → J G p l e (rmZ Rf Rl) s m args below meth c 4 (.returned (some (.int r))) (sh, I9) (rmZ Rf Rl).cells (rmZ Rf Rl).slots (sh, I) 0 0 27 [some (.ref (wad G 27)), some (.int x1), some (.int x2), some (.int x3)] [] := by
        intro x1 x2 n27
        induction n27 with
        | zero => intro x3 I hk; rw [f_X9_seek_L27] at hk; cases hk
        | succ n27 ih27 =>
          intro x3 I hk
          rw [f_X9_seek_L27] at hk
          generalize f_X9_seek_L27 F c_X9_seek x1 x2 n27 = k27 at ih27 hk
          refine j_iload_n (pc := 27) C dX9_seek_27 rfl rfl ?_
          refine j_iconst (pc := 28) (v := nI 3) C dX9_seek_28 (by decide) ?_
          refine j_icmp_gt (pc := 29) 68 C dX9_seek_29 (by decide) (fun h4 => ?_) (fun h4 => ?_)
          · have hk := it_t h4 hk
            refine j_iconst (pc := 68) (v := nI 0) C dX9_seek_68 (by decide) ?_
            exact j_zretW (pc := 69) C dX9_seek_69 (Nat.zero_le _) (Nat.zero_le _) rfl hk
          · have hk := it_f h4 hk
            refine j_aload_n (pc := 32) C dX9_seek_32 rfl rfl ?_
            refine j_iload_n (pc := 33) C dX9_seek_33 rfl rfl ?_
            refine j_iload_n (pc := 34) C dX9_seek_34 rfl rfl ?_
            refine j_iload_n (pc := 35) C dX9_seek_35 rfl rfl ?_
            obtain ⟨r36, h5, hk⟩ := ob_some hk
            refine j_callV (pc := 36) C (ct_X9_fitsAhead hS h5) mv_X9_fitsAhead (stM_o hS) rfl rfl q2308 dX9_seek_36 rfl rfl (Nat.le_of_ble_eq_true rfl) hr_X9_fitsAhead ?_
            refine j_if_eq (pc := 39) 62 C dX9_seek_39 (by decide) (fun h6 => ?_) (fun h6 => ?_)
            · have hk := it_t h6 hk
              refine j_iinc (pc := 62) (nI 1) C dX9_seek_62 rfl (by decide) (Nat.le_of_ble_eq_true rfl) rfl ?_
              refine j_goto (pc := 65) 27 C dX9_seek_65 (by decide) ?_
              exact j_mask [true, true, true, true] (ih27 _ _ hk)
            · have hk := it_f h6 hk
              refine j_aload_n (pc := 42) C dX9_seek_42 rfl rfl ?_
              refine j_getR (pc := 43) C fd_10_21 q2021 (stM_o hS) (stM_r21 hS) dX9_seek_43 ?_
              refine j_iload_n (pc := 46) C dX9_seek_46 rfl rfl ?_
              refine j_iload_n (pc := 47) C dX9_seek_47 rfl rfl ?_
              obtain ⟨i48, e48, h7, hk⟩ := oix_ex hk
              refine j_iast (pc := 48) C (stM_a39 hS) h7 e48 dX9_seek_48 ?_
              refine j_aload_n (pc := 49) C dX9_seek_49 rfl rfl ?_
              refine j_iload_n (pc := 50) C dX9_seek_50 rfl rfl ?_
              refine j_iconst (pc := 51) (v := nI 1) C dX9_seek_51 (by decide) ?_
              refine j_iadd (pc := 52) C dX9_seek_52 ?_
              refine j_iload_n (pc := 53) C dX9_seek_53 rfl rfl ?_
              obtain ⟨r54, I54, h8, hk⟩ := bd2_some hk
              refine j_callV (pc := 54) C (hc_X9_seek h8) mv_X9_seek (stM_o hS) rfl rfl q2304 dX9_seek_54 rfl rfl (Nat.le_of_ble_eq_true rfl) hr_X9_seek ?_
              refine j_if_eq (pc := 57) 62 C dX9_seek_57 (by decide) (fun h9 => ?_) (fun h9 => ?_)
              · have hk := it_t h9 hk
                refine j_iinc (pc := 62) (nI 1) C dX9_seek_62 rfl (by decide) (Nat.le_of_ble_eq_true rfl) rfl ?_
                refine j_goto (pc := 65) 27 C dX9_seek_65 (by decide) ?_
                exact j_mask [true, true, true, true] (ih27 _ _ hk)
              · have hk := it_f h9 hk
                refine j_iconst (pc := 60) (v := nI 1) C dX9_seek_60 (by decide) ?_
                exact j_zretW (pc := 61) C dX9_seek_61 (Nat.zero_le _) (Nat.zero_le _) rfl hk
      exact j_mask [true, true, true, true] (L27 _ _ _ _ _ hk)
    · have hk := it_t h3 hk
      refine j_aload_n (pc := 16) C dX9_seek_16 rfl rfl ?_
      refine j_iload_n (pc := 17) C dX9_seek_17 rfl rfl ?_
      refine j_iconst (pc := 18) (v := nI 1) C dX9_seek_18 (by decide) ?_
      refine j_iadd (pc := 19) C dX9_seek_19 ?_
      refine j_iload_n (pc := 20) C dX9_seek_20 rfl rfl ?_
      obtain ⟨r21, I21, h10, hk⟩ := bd2_some hk
      refine j_callV (pc := 21) C (hc_X9_seek h10) mv_X9_seek (stM_o hS) rfl rfl q2304 dX9_seek_21 rfl rfl (Nat.le_of_ble_eq_true rfl) hr_X9_seek ?_
      obtain ⟨h11, hk⟩ := og_some hk
      exact j_zretW (pc := 24) C dX9_seek_24 (Nat.zero_le _) (Nat.zero_le _) (isB.nar h11) hk
  · have hk := it_t h1 hk
    refine j_iconst (pc := 6) (v := nI 1) C dX9_seek_6 (by decide) ?_
    exact j_zretW (pc := 7) C dX9_seek_7 (Nat.zero_le _) (Nat.zero_le _) rfl hk
def f_X9_seek (F : Nat) : Nat → Int32 → Int32 → II → Option (Int32 × II)
  | 0 => fun _ _ _ => none
  | d + 1 => fb_X9_seek F (f_X9_seek F d)
theorem f_X9_seek_s (F d : Nat) : f_X9_seek F (d + 1) = fb_X9_seek F (f_X9_seek F d) := rfl
abbrev rm_X9_seek (d : Nat) : Room := rmZ (d + 2) (23 * d + 46)
set_option maxHeartbeats 4000000 in
theorem ctg_X9_seek {G : WG} {l : Launch} {sh : SH} (hS : StM sh) (F : Nat) : ∀ d : Nat, (∀ (x1 : Int32) (x2 : Int32) (I : II) (r : Int32) (I9 : II), f_X9_seek F d x1 x2 I = some (r, I9) → CT G l yX9_seek (ws_ yX9_seek cX9_seek 4 (some .boolean)) (rm_X9_seek d) [.ref (wad G 27), .int x1, .int x2] (sh, I) (.returned (some (.int r))) (sh, I9)) := by
  intro d
  induction d with
  | zero =>
    (intros; rename_i hk; cases hk)
  | succ d ih =>
    have ih_X9_seek := ih
    · intro v0 v1 v2 v3 v4 hk
      exact ctb_X9_seek (F := F) hS (fun {a0 a1 a2 a3 a4} hk => ih_X9_seek a0 a1 a2 a3 a4 hk) (rmOK.i (by dsimp only; omega) (by dsimp only; omega) (by dsimp only; omega) (by dsimp only; omega)) (rmOK.i (by dsimp only; omega) (by dsimp only; omega) (by dsimp only; omega) (by dsimp only; omega)) (rmOK.i (by dsimp only; omega) (by dsimp only; omega) (by dsimp only; omega) (by dsimp only; omega)) hk
theorem ct_X9_seek {G : WG} {l : Launch} {sh : SH} (hS : StM sh) {F d : Nat} {I : II} {x1 : Int32} {x2 : Int32} {r : Int32} {I9 : II} (hk : f_X9_seek F d x1 x2 I = some (r, I9)) : CT G l yX9_seek (ws_ yX9_seek cX9_seek 4 (some .boolean)) (rm_X9_seek d) [.ref (wad G 27), .int x1, .int x2] (sh, I) (.returned (some (.int r))) (sh, I9) := (ctg_X9_seek hS F d) _ _ _ _ _ hk
def f_X9_fitsSome (F : Nat) (x1 : Int32) (I : II) : Option (Int32 × II) := (f_X9_gather F x1 I).bind fun I2 => bd2 (f_X9_seek F 13 (nI 0) (nI 4095) I2) fun r10 I10 => og (r10 = 0 ∨ r10 = 1) (some (r10, I10))
abbrev rm_X9_fitsSome : Room := { frames := 16, cells := 0, slots := 0, locals := 368 }
theorem mv_X9_fitsSome : MV yX9_fitsSome cX9_fitsSome 2 (some .boolean) 1 := ⟨q2295, qs70, q106, q2296, by decide +kernel⟩
set_option maxHeartbeats 4000000 in
theorem ct_X9_fitsSome {G : WG} {l : Launch} {sh : SH} (hS : StM sh) {I : II} {F : Nat} {x1 : Int32} {r : Int32} {I9 : II} (hk : f_X9_fitsSome F x1 I = some (r, I9)) : CT G l yX9_fitsSome (ws_ yX9_fitsSome cX9_fitsSome 2 (some .boolean)) rm_X9_fitsSome [.ref (wad G 27), .int x1] (sh, I) (.returned (some (.int r))) (sh, I9) := by
  refine CT.ofJ "NineDemandsModel" rfl (by decide) (Nat.le_of_ble_eq_true rfl) ?_
  intro p e s m args below meth c C
  unfold f_X9_fitsSome at hk
  refine j_lv (lv' := [some (.ref (wad G 27)), some (.int x1)]) rfl ?_
  refine j_aload_n (pc := 0) C dX9_fitsSome_0 rfl rfl ?_
  refine j_iload_n (pc := 1) C dX9_fitsSome_1 rfl rfl ?_
  obtain ⟨I2, h1, hk⟩ := ob_some hk
  refine j_callV (pc := 2) C (ct_X9_gather hS h1) mv_X9_gather (stM_o hS) rfl rfl q2297 dX9_fitsSome_2 rfl rfl (Nat.le_of_ble_eq_true rfl) rfl ?_
  refine j_aload_n (pc := 5) C dX9_fitsSome_5 rfl rfl ?_
  refine j_iconst (pc := 6) (v := nI 0) C dX9_fitsSome_6 (by decide) ?_
  refine j_sipush (pc := 7) (v := nI 4095) C dX9_fitsSome_7 (by decide) ?_
  obtain ⟨r10, I10, h2, hk⟩ := bd2_some hk
  refine j_callV (pc := 10) C (ct_X9_seek hS h2) mv_X9_seek (stM_o hS) rfl rfl q2304 dX9_fitsSome_10 rfl rfl (Nat.le_of_ble_eq_true rfl) rfl ?_
  obtain ⟨h3, hk⟩ := og_some hk
  exact j_zretW (pc := 13) C dX9_fitsSome_13 (Nat.le_of_ble_eq_true rfl) (Nat.le_of_ble_eq_true rfl) (isB.nar h3) hk
def f_X9_isSet (x1 : Int32) (I : II) : Option Int32 := oix (nI 0) 366 fun i8 => (f_X9_within x1 (nI 0) (((nI 1) <<< ((I 28 i8) &&& 31)) - (nI 1))).bind fun r12 => og (r12 = 0 ∨ r12 = 1) (some r12)
abbrev rm_X9_isSet : Room := { frames := 1, cells := 0, slots := 0, locals := 22 }
theorem mv_X9_isSet : MV yX9_isSet cX9_isSet 2 (some .boolean) 1 := ⟨q2291, qs69, q106, q2292, by decide +kernel⟩
set_option maxHeartbeats 4000000 in
theorem ct_X9_isSet {G : WG} {l : Launch} {sh : SH} (hS : StM sh) {I : II} {x1 : Int32} {r : Int32} (hk : f_X9_isSet x1 I = some r) : CT G l yX9_isSet (ws_ yX9_isSet cX9_isSet 2 (some .boolean)) rm_X9_isSet [.ref (wad G 27), .int x1] (sh, I) (.returned (some (.int r))) (sh, I) := by
  refine CT.ofJ "NineDemandsModel" rfl (by decide) (Nat.le_of_ble_eq_true rfl) ?_
  intro p e s m args below meth c C
  unfold f_X9_isSet at hk
  refine j_lv (lv' := [some (.ref (wad G 27)), some (.int x1)]) rfl ?_
  refine j_iload_n (pc := 0) C dX9_isSet_0 rfl rfl ?_
  refine j_iconst (pc := 1) (v := nI 0) C dX9_isSet_1 (by decide) ?_
  refine j_iconst (pc := 2) (v := nI 1) C dX9_isSet_2 (by decide) ?_
  refine j_aload_n (pc := 3) C dX9_isSet_3 rfl rfl ?_
  refine j_getR (pc := 4) C fd_10_0 q2000 (stM_o hS) (stM_r0 hS) dX9_isSet_4 ?_
  refine j_iconst (pc := 7) (v := nI 0) C dX9_isSet_7 (by decide) ?_
  obtain ⟨i8, e8, h1, hk⟩ := oix_ex hk
  refine j_iald (pc := 8) C (stM_a28 hS) h1 e8 dX9_isSet_8 ?_
  refine j_ishl (pc := 9) C dX9_isSet_9 ?_
  refine j_iconst (pc := 10) (v := nI 1) C dX9_isSet_10 (by decide) ?_
  refine j_isub (pc := 11) C dX9_isSet_11 ?_
  obtain ⟨r12, h2, hk⟩ := ob_some hk
  refine j_callS (pc := 12) C (ct_X9_within h2) ms_X9_within q2107 dX9_isSet_12 rfl rfl (Nat.le_of_ble_eq_true rfl) rfl ?_
  obtain ⟨h3, hk⟩ := og_some hk
  exact j_zretR (pc := 15) C dX9_isSet_15 (Nat.le_of_ble_eq_true rfl) (Nat.le_of_ble_eq_true rfl) (isB.nar h3) hk
def f_X9_find_J15 (F : Nat) (I : II) : Option (Int32 × II) := bd2 (f_X9_finding (-1000001) I) fun r18 I18 => some (r18, I18)
def f_X9_find (F : Nat) (x1 : Int32) (x2 : Int32) (I : II) : Option (Int32 × II) := (f_X9_isSet x1 I).bind fun r2 => if r2 = 0 then f_X9_find_J15 F I else (f_X9_isHall x2).bind fun r9 => if r9 = 0 then f_X9_find_J15 F I else bd2 (f_X9_fitsSome F x1 I) fun r24 I24 => if r24 = 0 then bd2 (f_X9_finding (-1000002) I24) fun r42 I42 => some (r42, I42) else oix x2 12 fun i35 => some ((I24 39 i35), I24)
abbrev rm_X9_find : Room := { frames := 17, cells := 0, slots := 0, locals := 389 }
theorem mv_X9_find : MV yX9_find cX9_find 3 (some .int) 2 := ⟨q2286, q2287, q106, q2288, by decide +kernel⟩
set_option maxHeartbeats 4000000 in
theorem ct_X9_find {G : WG} {l : Launch} {sh : SH} (hS : StM sh) {I : II} {F : Nat} {x1 : Int32} {x2 : Int32} {r : Int32} {I9 : II} (hk : f_X9_find F x1 x2 I = some (r, I9)) : CT G l yX9_find (ws_ yX9_find cX9_find 3 (some .int)) rm_X9_find [.ref (wad G 27), .int x1, .int x2] (sh, I) (.returned (some (.int r))) (sh, I9) := by
  refine CT.ofJ "NineDemandsModel" rfl (by decide) (Nat.le_of_ble_eq_true rfl) ?_
  intro p e s m args below meth c C
  unfold f_X9_find at hk
  refine j_lv (lv' := [some (.ref (wad G 27)), some (.int x1), some (.int x2)]) rfl ?_
  refine j_aload_n (pc := 0) C dX9_find_0 rfl rfl ?_
  refine j_iload_n (pc := 1) C dX9_find_1 rfl rfl ?_
  obtain ⟨r2, h1, hk⟩ := ob_some hk
  refine j_callV (pc := 2) C (ct_X9_isSet hS h1) mv_X9_isSet (stM_o hS) rfl rfl q2289 dX9_find_2 rfl rfl (Nat.le_of_ble_eq_true rfl) rfl ?_
  have Jn15 : ∀ (I : II), f_X9_find_J15 F I = some (r, I9) → J G p l e rm_X9_find s m args below meth c 3 (.returned (some (.int r))) (sh, I9) (rm_X9_find).cells (rm_X9_find).slots (sh, I) 0 0 15 [some (.ref (wad G 27)), none, none] [] := by
    intro I hk
    unfold f_X9_find_J15 at hk
    refine j_aload_n (pc := 15) C dX9_find_15 rfl rfl ?_
    refine j_ldc (pc := 16) (v := (-1000001)) C q2110 dX9_find_16 ?_
    obtain ⟨r18, I18, h2, hk⟩ := bd2_some hk
    refine j_callV (pc := 18) C (ct_X9_finding hS h2) mv_X9_finding (stM_o hS) rfl rfl q2111 dX9_find_18 rfl rfl (Nat.le_of_ble_eq_true rfl) rfl ?_
    exact j_iretW (pc := 21) C dX9_find_21 (Nat.le_of_ble_eq_true rfl) (Nat.le_of_ble_eq_true rfl) hk
  refine j_if_eq (pc := 5) 15 C dX9_find_5 (by decide) (fun h3 => ?_) (fun h3 => ?_)
  · have hk := it_t h3 hk
    exact j_mask [true, false, false] (Jn15 _ hk)
  · have hk := it_f h3 hk
    refine j_iload_n (pc := 8) C dX9_find_8 rfl rfl ?_
    obtain ⟨r9, h4, hk⟩ := ob_some hk
    refine j_callS (pc := 9) C (ct_X9_isHall h4) ms_X9_isHall q2104 dX9_find_9 rfl rfl (Nat.le_of_ble_eq_true rfl) rfl ?_
    refine j_if_ne (pc := 12) 22 C dX9_find_12 (by decide) (fun h5 => ?_) (fun h5 => ?_)
    · have hk := it_f h5 hk
      refine j_aload_n (pc := 22) C dX9_find_22 rfl rfl ?_
      refine j_iload_n (pc := 23) C dX9_find_23 rfl rfl ?_
      obtain ⟨r24, I24, h6, hk⟩ := bd2_some hk
      refine j_callV (pc := 24) C (ct_X9_fitsSome hS h6) mv_X9_fitsSome (stM_o hS) rfl rfl q2293 dX9_find_24 rfl rfl (Nat.le_of_ble_eq_true rfl) rfl ?_
      refine j_if_eq (pc := 27) 39 C dX9_find_27 (by decide) (fun h7 => ?_) (fun h7 => ?_)
      · have hk := it_t h7 hk
        refine j_aload_n (pc := 39) C dX9_find_39 rfl rfl ?_
        refine j_ldc (pc := 40) (v := (-1000002)) C q2123 dX9_find_40 ?_
        obtain ⟨r42, I42, h8, hk⟩ := bd2_some hk
        refine j_callV (pc := 42) C (ct_X9_finding hS h8) mv_X9_finding (stM_o hS) rfl rfl q2111 dX9_find_42 rfl rfl (Nat.le_of_ble_eq_true rfl) rfl ?_
        exact j_iretW (pc := 45) C dX9_find_45 (Nat.le_of_ble_eq_true rfl) (Nat.le_of_ble_eq_true rfl) hk
      · have hk := it_f h7 hk
        refine j_aload_n (pc := 30) C dX9_find_30 rfl rfl ?_
        refine j_getR (pc := 31) C fd_10_21 q2021 (stM_o hS) (stM_r21 hS) dX9_find_31 ?_
        refine j_iload_n (pc := 34) C dX9_find_34 rfl rfl ?_
        obtain ⟨i35, e35, h9, hk⟩ := oix_ex hk
        refine j_iald (pc := 35) C (stM_a39 hS) h9 e35 dX9_find_35 ?_
        refine j_goto (pc := 36) 45 C dX9_find_36 (by decide) ?_
        exact j_iretW (pc := 45) C dX9_find_45 (Nat.le_of_ble_eq_true rfl) (Nat.le_of_ble_eq_true rfl) hk
    · have hk := it_t h5 hk
      exact j_mask [true, false, false] (Jn15 _ hk)
def f_X9_write_L34 (F : Nat) : Nat → Int32 → Int32 → II → Option (Int32 × II)
  | 0, _, _, _ => none
  | n34 + 1, x2, x3, I => if (nI 12) ≤ x3 then some (x2, I) else oix x3 12 fun i53 => oix ((nI 10) + x3) 366 fun i54 => oix x3 12 fun i61 => if ((up2 I 28 i54 (I 39 i53)) 39 i61) = (nI 3) then (f_X9_write_L34 F n34) (x2 + (nI 1)) (x3 + (nI 1)) (up2 I 28 i54 (I 39 i53)) else (f_X9_write_L34 F n34) (x2 + (nI 0)) (x3 + (nI 1)) (up2 I 28 i54 (I 39 i53))
def f_X9_write (F : Nat) (x1 : Int32) (I : II) : Option (Int32 × II) := (f_X9_isSet x1 I).bind fun r2 => if r2 = 0 then bd2 (f_X9_finding (-1000001) I) fun r11 I11 => some (r11, I11) else bd2 (f_X9_fitsSome F x1 I) fun r17 I17 => if r17 = 0 then bd2 (f_X9_finding (-1000002) I17) fun r26 I26 => some (r26, I26) else f_X9_write_L34 F F (nI 0) (nI 0) I17
abbrev rm_X9_write : Room := { frames := 17, cells := 0, slots := 0, locals := 389 }
theorem mv_X9_write : MV yX9_write cX9_write 4 (some .int) 1 := ⟨q2313, q2314, q106, q2315, by decide +kernel⟩
set_option maxHeartbeats 4000000 in
theorem ct_X9_write {G : WG} {l : Launch} {sh : SH} (hS : StM sh) {I : II} {F : Nat} {x1 : Int32} {r : Int32} {I9 : II} (hk : f_X9_write F x1 I = some (r, I9)) : CT G l yX9_write (ws_ yX9_write cX9_write 4 (some .int)) rm_X9_write [.ref (wad G 27), .int x1] (sh, I) (.returned (some (.int r))) (sh, I9) := by
  refine CT.ofJ "NineDemandsModel" rfl (by decide) (Nat.le_of_ble_eq_true rfl) ?_
  intro p e s m args below meth c C
  unfold f_X9_write at hk
  refine j_lv (lv' := [some (.ref (wad G 27)), some (.int x1), none, none]) rfl ?_
  refine j_aload_n (pc := 0) C dX9_write_0 rfl rfl ?_
  refine j_iload_n (pc := 1) C dX9_write_1 rfl rfl ?_
  obtain ⟨r2, h1, hk⟩ := ob_some hk
  refine j_callV (pc := 2) C (ct_X9_isSet hS h1) mv_X9_isSet (stM_o hS) rfl rfl q2289 dX9_write_2 rfl rfl (Nat.le_of_ble_eq_true rfl) rfl ?_
  refine j_if_ne (pc := 5) 15 C dX9_write_5 (by decide) (fun h2 => ?_) (fun h2 => ?_)
  · have hk := it_f h2 hk
    refine j_aload_n (pc := 15) C dX9_write_15 rfl rfl ?_
    refine j_iload_n (pc := 16) C dX9_write_16 rfl rfl ?_
    obtain ⟨r17, I17, h3, hk⟩ := bd2_some hk
    refine j_callV (pc := 17) C (ct_X9_fitsSome hS h3) mv_X9_fitsSome (stM_o hS) rfl rfl q2293 dX9_write_17 rfl rfl (Nat.le_of_ble_eq_true rfl) rfl ?_
    refine j_if_ne (pc := 20) 30 C dX9_write_20 (by decide) (fun h4 => ?_) (fun h4 => ?_)
    · have hk := it_f h4 hk
      refine j_iconst (pc := 30) (v := nI 0) C dX9_write_30 (by decide) ?_
      refine j_istore_n (pc := 31) C dX9_write_31 rfl (Nat.le_of_ble_eq_true rfl) rfl ?_
      refine j_iconst (pc := 32) (v := nI 0) C dX9_write_32 (by decide) ?_
      refine j_istore_n (pc := 33) C dX9_write_33 rfl (Nat.le_of_ble_eq_true rfl) rfl ?_
      have L34 : ∀  (n34 : Nat) (x2 : Int32) (x3 : Int32) (I : II), f_X9_write_L34 F n34 x2 x3 I = some (r, I9) → J G p l e rm_X9_write s m args below meth c 4 (.returned (some (.int r))) (sh, I9) (rm_X9_write).cells (rm_X9_write).slots (sh, I) 0 0 34 [some (.ref (wad G 27)), none, some (.int x2), some (.int x3)] [] := by
        intro  n34
        induction n34 with
        | zero => intro x2 x3 I hk; rw [f_X9_write_L34] at hk; cases hk
        | succ n34 ih34 =>
          intro x2 x3 I hk
          rw [f_X9_write_L34] at hk
          generalize f_X9_write_L34 F n34 = k34 at ih34 hk
          refine j_iload_n (pc := 34) C dX9_write_34 rfl rfl ?_
          refine j_bipush (pc := 35) (v := nI 12) C dX9_write_35 (by decide) ?_
          refine j_icmp_ge (pc := 37) 79 C dX9_write_37 (by decide) (fun h5 => ?_) (fun h5 => ?_)
          · have hk := it_t h5 hk
            refine j_iload_n (pc := 79) C dX9_write_79 rfl rfl ?_
            exact j_iretW (pc := 80) C dX9_write_80 (Nat.le_of_ble_eq_true rfl) (Nat.le_of_ble_eq_true rfl) hk
          · have hk := it_f h5 hk
            refine j_aload_n (pc := 40) C dX9_write_40 rfl rfl ?_
            refine j_getR (pc := 41) C fd_10_0 q2000 (stM_o hS) (stM_r0 hS) dX9_write_41 ?_
            refine j_bipush (pc := 44) (v := nI 10) C dX9_write_44 (by decide) ?_
            refine j_iload_n (pc := 46) C dX9_write_46 rfl rfl ?_
            refine j_iadd (pc := 47) C dX9_write_47 ?_
            refine j_aload_n (pc := 48) C dX9_write_48 rfl rfl ?_
            refine j_getR (pc := 49) C fd_10_21 q2021 (stM_o hS) (stM_r21 hS) dX9_write_49 ?_
            refine j_iload_n (pc := 52) C dX9_write_52 rfl rfl ?_
            obtain ⟨i53, e53, h6, hk⟩ := oix_ex hk
            refine j_iald (pc := 53) C (stM_a39 hS) h6 e53 dX9_write_53 ?_
            obtain ⟨i54, e54, h7, hk⟩ := oix_ex hk
            refine j_iast (pc := 54) C (stM_a28 hS) h7 e54 dX9_write_54 ?_
            refine j_iload_n (pc := 55) C dX9_write_55 rfl rfl ?_
            refine j_aload_n (pc := 56) C dX9_write_56 rfl rfl ?_
            refine j_getR (pc := 57) C fd_10_21 q2021 (stM_o hS) (stM_r21 hS) dX9_write_57 ?_
            refine j_iload_n (pc := 60) C dX9_write_60 rfl rfl ?_
            obtain ⟨i61, e61, h8, hk⟩ := oix_ex hk
            refine j_iald (pc := 61) C (stM_a39 hS) h8 e61 dX9_write_61 ?_
            refine j_iconst (pc := 62) (v := nI 3) C dX9_write_62 (by decide) ?_
            refine j_icmp_ne (pc := 63) 70 C dX9_write_63 (by decide) (fun h9 => ?_) (fun h9 => ?_)
            · have hk := it_f h9 hk
              refine j_iconst (pc := 70) (v := nI 0) C dX9_write_70 (by decide) ?_
              refine j_iadd (pc := 71) C dX9_write_71 ?_
              refine j_istore_n (pc := 72) C dX9_write_72 rfl (Nat.le_of_ble_eq_true rfl) rfl ?_
              refine j_iinc (pc := 73) (nI 1) C dX9_write_73 rfl (by decide) (Nat.le_of_ble_eq_true rfl) rfl ?_
              refine j_goto (pc := 76) 34 C dX9_write_76 (by decide) ?_
              exact j_mask [true, false, true, true] (ih34 _ _ _ hk)
            · have hk := it_t h9 hk
              refine j_iconst (pc := 66) (v := nI 1) C dX9_write_66 (by decide) ?_
              refine j_goto (pc := 67) 71 C dX9_write_67 (by decide) ?_
              refine j_iadd (pc := 71) C dX9_write_71 ?_
              refine j_istore_n (pc := 72) C dX9_write_72 rfl (Nat.le_of_ble_eq_true rfl) rfl ?_
              refine j_iinc (pc := 73) (nI 1) C dX9_write_73 rfl (by decide) (Nat.le_of_ble_eq_true rfl) rfl ?_
              refine j_goto (pc := 76) 34 C dX9_write_76 (by decide) ?_
              exact j_mask [true, false, true, true] (ih34 _ _ _ hk)
      exact j_mask [true, false, true, true] (L34  _ _ _ _ hk)
    · have hk := it_t h4 hk
      refine j_aload_n (pc := 23) C dX9_write_23 rfl rfl ?_
      refine j_ldc (pc := 24) (v := (-1000002)) C q2123 dX9_write_24 ?_
      obtain ⟨r26, I26, h10, hk⟩ := bd2_some hk
      refine j_callV (pc := 26) C (ct_X9_finding hS h10) mv_X9_finding (stM_o hS) rfl rfl q2111 dX9_write_26 rfl rfl (Nat.le_of_ble_eq_true rfl) rfl ?_
      exact j_iretW (pc := 29) C dX9_write_29 (Nat.le_of_ble_eq_true rfl) (Nat.le_of_ble_eq_true rfl) hk
  · have hk := it_t h2 hk
    refine j_aload_n (pc := 8) C dX9_write_8 rfl rfl ?_
    refine j_ldc (pc := 9) (v := (-1000001)) C q2110 dX9_write_9 ?_
    obtain ⟨r11, I11, h11, hk⟩ := bd2_some hk
    refine j_callV (pc := 11) C (ct_X9_finding hS h11) mv_X9_finding (stM_o hS) rfl rfl q2111 dX9_write_11 rfl rfl (Nat.le_of_ble_eq_true rfl) rfl ?_
    exact j_iretW (pc := 14) C dX9_write_14 (Nat.le_of_ble_eq_true rfl) (Nat.le_of_ble_eq_true rfl) hk
