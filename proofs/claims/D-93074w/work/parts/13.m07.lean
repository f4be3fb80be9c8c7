/-! the reference: walks -/
set_option maxRecDepth 100000
def f_X9_few_L41 (F : Nat) (k33 : Int32 → II → Option (Int32 × II)) (x2 : Int32) : Nat → Int32 → II → Option (Int32 × II)
  | 0, _, _ => none
  | n41 + 1, x3, I => if (nI 4095) ≤ x3 then k33 (x2 + (nI 1)) I else (f_X9_bits F x3).bind fun r49 => if r49 = x2 then bd2 (f_X9_seek F 13 (nI 0) x3 I) fun r59 I59 => if r59 = 0 then some (x3, I59) else (f_X9_few_L41 F k33 x2 n41) (x3 + (nI 1)) I59 else (f_X9_few_L41 F k33 x2 n41) (x3 + (nI 1)) I
def f_X9_few_L33 (F : Nat) : Nat → Int32 → II → Option (Int32 × II)
  | 0, _, _ => none
  | n33 + 1, x2, I => if (nI 12) ≤ x2 then some ((nI 4095), I) else f_X9_few_L41 F (f_X9_few_L33 F n33) x2 F (nI 1) I
def f_X9_few (F : Nat) (x1 : Int32) (I : II) : Option (Int32 × II) := (f_X9_isSet x1 I).bind fun r2 => if r2 = 0 then bd2 (f_X9_finding (-1000001) I) fun r11 I11 => some (r11, I11) else bd2 (f_X9_fitsSome F x1 I) fun r17 I17 => if r17 = 0 then f_X9_few_L33 F F (nI 1) I17 else bd2 (f_X9_finding (-1000003) I17) fun r27 I27 => some (r27, I27)
abbrev rm_X9_few : Room := { frames := 17, cells := 0, slots := 0, locals := 389 }
theorem mv_X9_few : MV yX9_few cX9_few 4 (some .int) 1 := ⟨q2385, q2386, q106, q2387, by decide +kernel⟩
set_option maxHeartbeats 4000000 in
theorem ct_X9_few {G : WG} {l : Launch} {sh : SH} (hS : StM sh) {I : II} {F : Nat} {x1 : Int32} {r : Int32} {I9 : II} (hk : f_X9_few F x1 I = some (r, I9)) : CT G l yX9_few (ws_ yX9_few cX9_few 4 (some .int)) rm_X9_few [.ref (wad G 27), .int x1] (sh, I) (.returned (some (.int r))) (sh, I9) := by
  refine CT.ofJ "NineDemandsModel" rfl (by decide) (Nat.le_of_ble_eq_true rfl) ?_
  intro p e s m args below meth c C
  unfold f_X9_few at hk
  refine j_lv (lv' := [some (.ref (wad G 27)), some (.int x1), none, none]) rfl ?_
  refine j_aload_n (pc := 0) C dX9_few_0 rfl rfl ?_
  refine j_iload_n (pc := 1) C dX9_few_1 rfl rfl ?_
  obtain ⟨r2, h1, hk⟩ := ob_some hk
  refine j_callV (pc := 2) C (ct_X9_isSet hS h1) mv_X9_isSet (stM_o hS) rfl rfl q2289 dX9_few_2 rfl rfl (Nat.le_of_ble_eq_true rfl) rfl ?_
  refine j_if_ne (pc := 5) 15 C dX9_few_5 (by decide) (fun h2 => ?_) (fun h2 => ?_)
  · have hk := it_f h2 hk
    refine j_aload_n (pc := 15) C dX9_few_15 rfl rfl ?_
    refine j_iload_n (pc := 16) C dX9_few_16 rfl rfl ?_
    obtain ⟨r17, I17, h3, hk⟩ := bd2_some hk
    refine j_callV (pc := 17) C (ct_X9_fitsSome hS h3) mv_X9_fitsSome (stM_o hS) rfl rfl q2293 dX9_few_17 rfl rfl (Nat.le_of_ble_eq_true rfl) rfl ?_
    refine j_if_eq (pc := 20) 31 C dX9_few_20 (by decide) (fun h4 => ?_) (fun h4 => ?_)
    · have hk := it_t h4 hk
      refine j_iconst (pc := 31) (v := nI 1) C dX9_few_31 (by decide) ?_
      refine j_istore_n (pc := 32) C dX9_few_32 rfl (Nat.le_of_ble_eq_true rfl) rfl ?_
      have L33 : ∀  (n33 : Nat) (x2 : Int32) (I : II), f_X9_few_L33 F n33 x2 I = some (r, I9) → J G p l e rm_X9_few s m args below meth c 4 (.returned (some (.int r))) (sh, I9) (rm_X9_few).cells (rm_X9_few).slots (sh, I) 0 0 33 [some (.ref (wad G 27)), none, some (.int x2), none] [] := by
        intro  n33
        induction n33 with
        | zero => intro x2 I hk; rw [f_X9_few_L33] at hk; cases hk
        | succ n33 ih33 =>
          intro x2 I hk
          rw [f_X9_few_L33] at hk
          generalize f_X9_few_L33 F n33 = k33 at ih33 hk
          refine j_iload_n (pc := 33) C dX9_few_33 rfl rfl ?_
          refine j_bipush (pc := 34) (v := nI 12) C dX9_few_34 (by decide) ?_
          refine j_icmp_ge (pc := 36) 79 C dX9_few_36 (by decide) (fun h5 => ?_) (fun h5 => ?_)
          · have hk := it_t h5 hk
            refine j_sipush (pc := 79) (v := nI 4095) C dX9_few_79 (by decide) ?_
            exact j_iretW (pc := 82) C dX9_few_82 (Nat.le_of_ble_eq_true rfl) (Nat.le_of_ble_eq_true rfl) hk
          · have hk := it_f h5 hk
            refine j_iconst (pc := 39) (v := nI 1) C dX9_few_39 (by decide) ?_
            refine j_istore_n (pc := 40) C dX9_few_40 rfl (Nat.le_of_ble_eq_true rfl) rfl ?_
            have L41 : ∀ (x2 : Int32) (n41 : Nat) (x3 : Int32) (I : II), f_X9_few_L41 F k33 x2 n41 x3 I = some (r, I9) → J G p l e rm_X9_few s m args below meth c 4 (.returned (some (.int r))) (sh, I9) (rm_X9_few).cells (rm_X9_few).slots (sh, I) 0 0 41 [some (.ref (wad G 27)), none, some (.int x2), some (.int x3)] [] := by
              intro x2 n41
              induction n41 with
              | zero => intro x3 I hk; rw [f_X9_few_L41] at hk; cases hk
              | succ n41 ih41 =>
                intro x3 I hk
                rw [f_X9_few_L41] at hk
                generalize f_X9_few_L41 F k33 x2 n41 = k41 at ih41 hk
                refine j_iload_n (pc := 41) C dX9_few_41 rfl rfl ?_
                refine j_sipush (pc := 42) (v := nI 4095) C dX9_few_42 (by decide) ?_
                refine j_icmp_ge (pc := 45) 73 C dX9_few_45 (by decide) (fun h6 => ?_) (fun h6 => ?_)
                · have hk := it_t h6 hk
                  refine j_iinc (pc := 73) (nI 1) C dX9_few_73 rfl (by decide) (Nat.le_of_ble_eq_true rfl) rfl ?_
                  refine j_goto (pc := 76) 33 C dX9_few_76 (by decide) ?_
                  exact j_mask [true, false, true, false] (ih33 _ _ hk)
                · have hk := it_f h6 hk
                  refine j_iload_n (pc := 48) C dX9_few_48 rfl rfl ?_
                  obtain ⟨r49, h7, hk⟩ := ob_some hk
                  refine j_callS (pc := 49) C (ct_X9_bits h7) ms_X9_bits q2381 dX9_few_49 rfl rfl (Nat.le_of_ble_eq_true rfl) rfl ?_
                  refine j_iload_n (pc := 52) C dX9_few_52 rfl rfl ?_
                  refine j_icmp_ne (pc := 53) 67 C dX9_few_53 (by decide) (fun h8 => ?_) (fun h8 => ?_)
                  · have hk := it_f h8 hk
                    refine j_iinc (pc := 67) (nI 1) C dX9_few_67 rfl (by decide) (Nat.le_of_ble_eq_true rfl) rfl ?_
                    refine j_goto (pc := 70) 41 C dX9_few_70 (by decide) ?_
                    exact j_mask [true, false, true, true] (ih41 _ _ hk)
                  · have hk := it_t h8 hk
                    refine j_aload_n (pc := 56) C dX9_few_56 rfl rfl ?_
                    refine j_iconst (pc := 57) (v := nI 0) C dX9_few_57 (by decide) ?_
                    refine j_iload_n (pc := 58) C dX9_few_58 rfl rfl ?_
                    obtain ⟨r59, I59, h9, hk⟩ := bd2_some hk
                    refine j_callV (pc := 59) C (ct_X9_seek hS h9) mv_X9_seek (stM_o hS) rfl rfl q2304 dX9_few_59 rfl rfl (Nat.le_of_ble_eq_true rfl) rfl ?_
                    refine j_if_ne (pc := 62) 67 C dX9_few_62 (by decide) (fun h10 => ?_) (fun h10 => ?_)
                    · have hk := it_f h10 hk
                      refine j_iinc (pc := 67) (nI 1) C dX9_few_67 rfl (by decide) (Nat.le_of_ble_eq_true rfl) rfl ?_
                      refine j_goto (pc := 70) 41 C dX9_few_70 (by decide) ?_
                      exact j_mask [true, false, true, true] (ih41 _ _ hk)
                    · have hk := it_t h10 hk
                      refine j_iload_n (pc := 65) C dX9_few_65 rfl rfl ?_
                      exact j_iretW (pc := 66) C dX9_few_66 (Nat.le_of_ble_eq_true rfl) (Nat.le_of_ble_eq_true rfl) hk
            exact j_mask [true, false, true, true] (L41 _ _ _ _ hk)
      exact j_mask [true, false, true, false] (L33  _ _ _ hk)
    · have hk := it_f h4 hk
      refine j_aload_n (pc := 23) C dX9_few_23 rfl rfl ?_
      refine j_ldcw (pc := 24) (v := (-1000003)) C q2380 dX9_few_24 ?_
      obtain ⟨r27, I27, h11, hk⟩ := bd2_some hk
      refine j_callV (pc := 27) C (ct_X9_finding hS h11) mv_X9_finding (stM_o hS) rfl rfl q2111 dX9_few_27 rfl rfl (Nat.le_of_ble_eq_true rfl) rfl ?_
      exact j_iretW (pc := 30) C dX9_few_30 (Nat.le_of_ble_eq_true rfl) (Nat.le_of_ble_eq_true rfl) hk
  · have hk := it_t h2 hk
    refine j_aload_n (pc := 8) C dX9_few_8 rfl rfl ?_
    refine j_ldc (pc := 9) (v := (-1000001)) C q2110 dX9_few_9 ?_
    obtain ⟨r11, I11, h12, hk⟩ := bd2_some hk
    refine j_callV (pc := 11) C (ct_X9_finding hS h12) mv_X9_finding (stM_o hS) rfl rfl q2111 dX9_few_11 rfl rfl (Nat.le_of_ble_eq_true rfl) rfl ?_
    exact j_iretW (pc := 14) C dX9_few_14 (Nat.le_of_ble_eq_true rfl) (Nat.le_of_ble_eq_true rfl) hk
def f_X9_priceOf_L4 (F : Nat) (I : II) (x1 : Int32) : Nat → Int32 → Int32 → Option Int32
  | 0, _, _ => none
  | n4 + 1, x2, x3 => oix (nI 0) 366 fun i10 => if (I 28 i10) ≤ x3 then some x2 else (f_X9_has x1 x3).bind fun r17 => if r17 = 0 then (f_X9_priceOf_L4 F I x1 n4) (x2 + (nI 0)) (x3 + (nI 1)) else oix ((nI 30) + x3) 366 fun i31 => (f_X9_priceOf_L4 F I x1 n4) (x2 + (I 28 i31)) (x3 + (nI 1))
def f_X9_priceOf (F : Nat) (x1 : Int32) (I : II) : Option Int32 := f_X9_priceOf_L4 F I x1 F (nI 0) (nI 0)
abbrev rm_X9_priceOf : Room := { frames := 1, cells := 0, slots := 0, locals := 21 }
theorem mv_X9_priceOf : MV yX9_priceOf cX9_priceOf 4 (some .int) 1 := ⟨q2394, qs83, q106, q2395, by decide +kernel⟩
set_option maxHeartbeats 4000000 in
theorem ct_X9_priceOf {G : WG} {l : Launch} {sh : SH} (hS : StM sh) {I : II} {F : Nat} {x1 : Int32} {r : Int32} (hk : f_X9_priceOf F x1 I = some r) : CT G l yX9_priceOf (ws_ yX9_priceOf cX9_priceOf 4 (some .int)) rm_X9_priceOf [.ref (wad G 27), .int x1] (sh, I) (.returned (some (.int r))) (sh, I) := by
  refine CT.ofJ "NineDemandsModel" rfl (by decide) (Nat.le_of_ble_eq_true rfl) ?_
  intro p e s m args below meth c C
  unfold f_X9_priceOf at hk
  refine j_lv (lv' := [some (.ref (wad G 27)), some (.int x1), none, none]) rfl ?_
  refine j_iconst (pc := 0) (v := nI 0) C dX9_priceOf_0 (by decide) ?_
  refine j_istore_n (pc := 1) C dX9_priceOf_1 rfl (Nat.le_of_ble_eq_true rfl) rfl ?_
  refine j_iconst (pc := 2) (v := nI 0) C dX9_priceOf_2 (by decide) ?_
  refine j_istore_n (pc := 3) C dX9_priceOf_3 rfl (Nat.le_of_ble_eq_true rfl) rfl ?_
  have L4 : ∀ (x1 : Int32) (n4 : Nat) (x2 : Int32) (x3 : Int32), f_X9_priceOf_L4 F I x1 n4 x2 x3 = some r → J G p l e rm_X9_priceOf s m args below meth c 4 (.returned (some (.int r))) (sh, I) (rm_X9_priceOf).cells (rm_X9_priceOf).slots (sh, I) 0 0 4 [some (.ref (wad G 27)), some (.int x1), some (.int x2), some (.int x3)] [] := by
    intro x1 n4
    induction n4 with
    | zero => intro x2 x3 hk; rw [f_X9_priceOf_L4] at hk; cases hk
    | succ n4 ih4 =>
      intro x2 x3 hk
      rw [f_X9_priceOf_L4] at hk
      generalize f_X9_priceOf_L4 F I x1 n4 = k4 at ih4 hk
      refine j_iload_n (pc := 4) C dX9_priceOf_4 rfl rfl ?_
      refine j_aload_n (pc := 5) C dX9_priceOf_5 rfl rfl ?_
      refine j_getR (pc := 6) C fd_10_0 q2000 (stM_o hS) (stM_r0 hS) dX9_priceOf_6 ?_
      refine j_iconst (pc := 9) (v := nI 0) C dX9_priceOf_9 (by decide) ?_
      obtain ⟨i10, e10, h1, hk⟩ := oix_ex hk
      refine j_iald (pc := 10) C (stM_a28 hS) h1 e10 dX9_priceOf_10 ?_
      refine j_icmp_ge (pc := 11) 44 C dX9_priceOf_11 (by decide) (fun h2 => ?_) (fun h2 => ?_)
      · have hk := it_t h2 hk
        refine j_iload_n (pc := 44) C dX9_priceOf_44 rfl rfl ?_
        exact j_iretR (pc := 45) C dX9_priceOf_45 (Nat.le_of_ble_eq_true rfl) (Nat.le_of_ble_eq_true rfl) hk
      · have hk := it_f h2 hk
        refine j_iload_n (pc := 14) C dX9_priceOf_14 rfl rfl ?_
        refine j_iload_n (pc := 15) C dX9_priceOf_15 rfl rfl ?_
        refine j_iload_n (pc := 16) C dX9_priceOf_16 rfl rfl ?_
        obtain ⟨r17, h3, hk⟩ := ob_some hk
        refine j_callS (pc := 17) C (ct_X9_has h3) ms_X9_has q2270 dX9_priceOf_17 rfl rfl (Nat.le_of_ble_eq_true rfl) rfl ?_
        refine j_if_eq (pc := 20) 35 C dX9_priceOf_20 (by decide) (fun h4 => ?_) (fun h4 => ?_)
        · have hk := it_t h4 hk
          refine j_iconst (pc := 35) (v := nI 0) C dX9_priceOf_35 (by decide) ?_
          refine j_iadd (pc := 36) C dX9_priceOf_36 ?_
          refine j_istore_n (pc := 37) C dX9_priceOf_37 rfl (Nat.le_of_ble_eq_true rfl) rfl ?_
          refine j_iinc (pc := 38) (nI 1) C dX9_priceOf_38 rfl (by decide) (Nat.le_of_ble_eq_true rfl) rfl ?_
          refine j_goto (pc := 41) 4 C dX9_priceOf_41 (by decide) ?_
          exact j_mask [true, true, true, true] (ih4 _ _ hk)
        · have hk := it_f h4 hk
          refine j_aload_n (pc := 23) C dX9_priceOf_23 rfl rfl ?_
          refine j_getR (pc := 24) C fd_10_0 q2000 (stM_o hS) (stM_r0 hS) dX9_priceOf_24 ?_
          refine j_bipush (pc := 27) (v := nI 30) C dX9_priceOf_27 (by decide) ?_
          refine j_iload_n (pc := 29) C dX9_priceOf_29 rfl rfl ?_
          refine j_iadd (pc := 30) C dX9_priceOf_30 ?_
          obtain ⟨i31, e31, h5, hk⟩ := oix_ex hk
          refine j_iald (pc := 31) C (stM_a28 hS) h5 e31 dX9_priceOf_31 ?_
          refine j_goto (pc := 32) 36 C dX9_priceOf_32 (by decide) ?_
          refine j_iadd (pc := 36) C dX9_priceOf_36 ?_
          refine j_istore_n (pc := 37) C dX9_priceOf_37 rfl (Nat.le_of_ble_eq_true rfl) rfl ?_
          refine j_iinc (pc := 38) (nI 1) C dX9_priceOf_38 rfl (by decide) (Nat.le_of_ble_eq_true rfl) rfl ?_
          refine j_goto (pc := 41) 4 C dX9_priceOf_41 (by decide) ?_
          exact j_mask [true, true, true, true] (ih4 _ _ hk)
  exact j_mask [true, true, true, true] (L4 _ _ _ _ hk)
def f_X9_give_J17 (F : Nat) (I : II) : Option (Int32 × II) := bd2 (f_X9_finding (-1000001) I) fun r20 I20 => some (r20, I20)
def f_X9_give_J98 (F : Nat) (k29 : Int32 → Int32 → II → Option (Int32 × II)) (x1 : Int32) (x2 : Int32) (x3 : Int32) (x4 : Int32) (s0 : Int32) (I : II) : Option (Int32 × II) := if (x4 &&& (x1 ^^^ (-1))) = 0 then if s0 = 0 then k29 x3 (x4 + (nI 1)) I else bd2 (f_X9_fitsSome F (x1 &&& (x4 ^^^ (-1))) I) fun r121 I121 => if r121 = 0 then k29 x3 (x4 + (nI 1)) I121 else k29 x4 (x4 + (nI 1)) I121 else k29 x3 (x4 + (nI 1)) I
def f_X9_give_J93 (F : Nat) (k29 : Int32 → Int32 → II → Option (Int32 × II)) (x1 : Int32) (x2 : Int32) (x3 : Int32) (x4 : Int32) (I : II) : Option (Int32 × II) := f_X9_give_J98 F k29 x1 x2 x3 x4 (nI 1) I
def f_X9_give_J97 (F : Nat) (k29 : Int32 → Int32 → II → Option (Int32 × II)) (x1 : Int32) (x2 : Int32) (x3 : Int32) (x4 : Int32) (I : II) : Option (Int32 × II) := f_X9_give_J98 F k29 x1 x2 x3 x4 (nI 0) I
def f_X9_give_L29 (F : Nat) (x1 : Int32) (x2 : Int32) : Nat → Int32 → Int32 → II → Option (Int32 × II)
  | 0, _, _, _ => none
  | n29 + 1, x3, x4, I => if x1 ≤ x4 then if x2 = 0 then some (x3, I) else (f_X9_priceOf F x3 I).bind fun r146 => some (r146, I) else (f_X9_priceOf F x4 I).bind fun r38 => (f_X9_priceOf F x3 I).bind fun r47 => if r38 < r47 then f_X9_give_J93 F (f_X9_give_L29 F x1 x2 n29) x1 x2 x3 x4 I else (f_X9_priceOf F x3 I).bind fun r57 => if r38 = r57 then (f_X9_bits F x4).bind fun r65 => (f_X9_bits F x3).bind fun r69 => if r65 < r69 then f_X9_give_J93 F (f_X9_give_L29 F x1 x2 n29) x1 x2 x3 x4 I else (f_X9_bits F x4).bind fun r77 => (f_X9_bits F x3).bind fun r81 => if r77 = r81 then if x3 ≤ x4 then f_X9_give_J97 F (f_X9_give_L29 F x1 x2 n29) x1 x2 x3 x4 I else f_X9_give_J93 F (f_X9_give_L29 F x1 x2 n29) x1 x2 x3 x4 I else f_X9_give_J97 F (f_X9_give_L29 F x1 x2 n29) x1 x2 x3 x4 I else f_X9_give_J97 F (f_X9_give_L29 F x1 x2 n29) x1 x2 x3 x4 I
def f_X9_give (F : Nat) (x1 : Int32) (x2 : Int32) (I : II) : Option (Int32 × II) := (f_X9_isSet x1 I).bind fun r2 => if r2 = 0 then f_X9_give_J17 F I else (f_X9_within x2 (nI 0) (nI 1)).bind fun r11 => if r11 = 0 then f_X9_give_J17 F I else f_X9_give_L29 F x1 x2 F x1 (nI 0) I
abbrev rm_X9_give : Room := { frames := 17, cells := 0, slots := 0, locals := 389 }
theorem mv_X9_give : MV yX9_give cX9_give 7 (some .int) 2 := ⟨q2389, q2390, q106, q2391, by decide +kernel⟩
set_option maxHeartbeats 4000000 in
theorem ct_X9_give {G : WG} {l : Launch} {sh : SH} (hS : StM sh) {I : II} {F : Nat} {x1 : Int32} {x2 : Int32} {r : Int32} {I9 : II} (hk : f_X9_give F x1 x2 I = some (r, I9)) : CT G l yX9_give (ws_ yX9_give cX9_give 7 (some .int)) rm_X9_give [.ref (wad G 27), .int x1, .int x2] (sh, I) (.returned (some (.int r))) (sh, I9) := by
  refine CT.ofJ "NineDemandsModel" rfl (by decide) (Nat.le_of_ble_eq_true rfl) ?_
  intro p e s m args below meth c C
  unfold f_X9_give at hk
  refine j_lv (lv' := [some (.ref (wad G 27)), some (.int x1), some (.int x2), none, none, none, none]) rfl ?_
  refine j_aload_n (pc := 0) C dX9_give_0 rfl rfl ?_
  refine j_iload_n (pc := 1) C dX9_give_1 rfl rfl ?_
  obtain ⟨r2, h1, hk⟩ := ob_some hk
  refine j_callV (pc := 2) C (ct_X9_isSet hS h1) mv_X9_isSet (stM_o hS) rfl rfl q2289 dX9_give_2 rfl rfl (Nat.le_of_ble_eq_true rfl) rfl ?_
  have Jn17 : ∀ (I : II), f_X9_give_J17 F I = some (r, I9) → J G p l e rm_X9_give s m args below meth c 7 (.returned (some (.int r))) (sh, I9) (rm_X9_give).cells (rm_X9_give).slots (sh, I) 0 0 17 [some (.ref (wad G 27)), none, none, none, none, none, none] [] := by
    intro I hk
    unfold f_X9_give_J17 at hk
    refine j_aload_n (pc := 17) C dX9_give_17 rfl rfl ?_
    refine j_ldc (pc := 18) (v := (-1000001)) C q2110 dX9_give_18 ?_
    obtain ⟨r20, I20, h2, hk⟩ := bd2_some hk
    refine j_callV (pc := 20) C (ct_X9_finding hS h2) mv_X9_finding (stM_o hS) rfl rfl q2111 dX9_give_20 rfl rfl (Nat.le_of_ble_eq_true rfl) rfl ?_
    exact j_iretW (pc := 23) C dX9_give_23 (Nat.le_of_ble_eq_true rfl) (Nat.le_of_ble_eq_true rfl) hk
  refine j_if_eq (pc := 5) 17 C dX9_give_5 (by decide) (fun h3 => ?_) (fun h3 => ?_)
  · have hk := it_t h3 hk
    exact j_mask [true, false, false, false, false, false, false] (Jn17 _ hk)
  · have hk := it_f h3 hk
    refine j_iload_n (pc := 8) C dX9_give_8 rfl rfl ?_
    refine j_iconst (pc := 9) (v := nI 0) C dX9_give_9 (by decide) ?_
    refine j_iconst (pc := 10) (v := nI 1) C dX9_give_10 (by decide) ?_
    obtain ⟨r11, h4, hk⟩ := ob_some hk
    refine j_callS (pc := 11) C (ct_X9_within h4) ms_X9_within q2107 dX9_give_11 rfl rfl (Nat.le_of_ble_eq_true rfl) rfl ?_
    refine j_if_ne (pc := 14) 24 C dX9_give_14 (by decide) (fun h5 => ?_) (fun h5 => ?_)
    · have hk := it_f h5 hk
      refine j_iload_n (pc := 24) C dX9_give_24 rfl rfl ?_
      refine j_istore_n (pc := 25) C dX9_give_25 rfl (Nat.le_of_ble_eq_true rfl) rfl ?_
      refine j_iconst (pc := 26) (v := nI 0) C dX9_give_26 (by decide) ?_
      refine j_istore (pc := 27) C dX9_give_27 (Nat.le_of_ble_eq_true rfl) rfl ?_
      have L29 : ∀ (x1 : Int32) (x2 : Int32) (n29 : Nat) (x3 : Int32) (x4 : Int32) (I : II), f_X9_give_L29 F x1 x2 n29 x3 x4 I = some (r, I9) → J G p l e rm_X9_give s m args below meth c 7 (.returned (some (.int r))) (sh, I9) (rm_X9_give).cells (rm_X9_give).slots (sh, I) 0 0 29 [some (.ref (wad G 27)), some (.int x1), some (.int x2), some (.int x3), some (.int x4), none, none] [] := by
        intro x1 x2 n29
        induction n29 with
        | zero => intro x3 x4 I hk; rw [f_X9_give_L29] at hk; cases hk
        | succ n29 ih29 =>
          intro x3 x4 I hk
          rw [f_X9_give_L29] at hk
          generalize f_X9_give_L29 F x1 x2 n29 = k29 at ih29 hk
          refine j_iload (pc := 29) C dX9_give_29 rfl ?_
          refine j_iload_n (pc := 31) C dX9_give_31 rfl rfl ?_
          refine j_icmp_ge (pc := 32) 136 C dX9_give_32 (by decide) (fun h6 => ?_) (fun h6 => ?_)
          · have hk := it_t h6 hk
            refine j_iload_n (pc := 136) C dX9_give_136 rfl rfl ?_
            refine j_if_ne (pc := 137) 144 C dX9_give_137 (by decide) (fun h7 => ?_) (fun h7 => ?_)
            · have hk := it_f h7 hk
              refine j_aload_n (pc := 144) C dX9_give_144 rfl rfl ?_
              refine j_iload_n (pc := 145) C dX9_give_145 rfl rfl ?_
              obtain ⟨r146, h8, hk⟩ := ob_some hk
              refine j_callV (pc := 146) C (ct_X9_priceOf hS h8) mv_X9_priceOf (stM_o hS) rfl rfl q2392 dX9_give_146 rfl rfl (Nat.le_of_ble_eq_true rfl) rfl ?_
              exact j_iretW (pc := 149) C dX9_give_149 (Nat.le_of_ble_eq_true rfl) (Nat.le_of_ble_eq_true rfl) hk
            · have hk := it_t h7 hk
              refine j_iload_n (pc := 140) C dX9_give_140 rfl rfl ?_
              refine j_goto (pc := 141) 149 C dX9_give_141 (by decide) ?_
              exact j_iretW (pc := 149) C dX9_give_149 (Nat.le_of_ble_eq_true rfl) (Nat.le_of_ble_eq_true rfl) hk
          · have hk := it_f h6 hk
            refine j_aload_n (pc := 35) C dX9_give_35 rfl rfl ?_
            refine j_iload (pc := 36) C dX9_give_36 rfl ?_
            obtain ⟨r38, h9, hk⟩ := ob_some hk
            refine j_callV (pc := 38) C (ct_X9_priceOf hS h9) mv_X9_priceOf (stM_o hS) rfl rfl q2392 dX9_give_38 rfl rfl (Nat.le_of_ble_eq_true rfl) rfl ?_
            refine j_istore (pc := 41) C dX9_give_41 (Nat.le_of_ble_eq_true rfl) rfl ?_
            refine j_iload (pc := 43) C dX9_give_43 rfl ?_
            refine j_aload_n (pc := 45) C dX9_give_45 rfl rfl ?_
            refine j_iload_n (pc := 46) C dX9_give_46 rfl rfl ?_
            obtain ⟨r47, h10, hk⟩ := ob_some hk
            refine j_callV (pc := 47) C (ct_X9_priceOf hS h10) mv_X9_priceOf (stM_o hS) rfl rfl q2392 dX9_give_47 rfl rfl (Nat.le_of_ble_eq_true rfl) rfl ?_
            have Jn98 : ∀ (x3 : Int32) (x4 : Int32) (s0 : Int32) (I : II), f_X9_give_J98 F k29 x1 x2 x3 x4 s0 I = some (r, I9) → J G p l e rm_X9_give s m args below meth c 7 (.returned (some (.int r))) (sh, I9) (rm_X9_give).cells (rm_X9_give).slots (sh, I) 0 0 98 [some (.ref (wad G 27)), some (.int x1), some (.int x2), some (.int x3), some (.int x4), none, none] [.int s0] := by
              intro x3 x4 s0 I hk
              unfold f_X9_give_J98 at hk
              refine j_istore (pc := 98) C dX9_give_98 (Nat.le_of_ble_eq_true rfl) rfl ?_
              refine j_iload (pc := 100) C dX9_give_100 rfl ?_
              refine j_iload_n (pc := 102) C dX9_give_102 rfl rfl ?_
              refine j_iconst (pc := 103) (v := (-1)) C dX9_give_103 (by decide) ?_
              refine j_ixor (pc := 104) C dX9_give_104 ?_
              refine j_iand (pc := 105) C dX9_give_105 ?_
              refine j_if_ne (pc := 106) 130 C dX9_give_106 (by decide) (fun h11 => ?_) (fun h11 => ?_)
              · have hk := it_f h11 hk
                refine j_iinc (pc := 130) (nI 1) C dX9_give_130 rfl (by decide) (Nat.le_of_ble_eq_true rfl) rfl ?_
                refine j_goto (pc := 133) 29 C dX9_give_133 (by decide) ?_
                exact j_mask [true, true, true, true, true, false, false] (ih29 _ _ _ hk)
              · have hk := it_t h11 hk
                refine j_iload (pc := 109) C dX9_give_109 rfl ?_
                refine j_if_eq (pc := 111) 130 C dX9_give_111 (by decide) (fun h12 => ?_) (fun h12 => ?_)
                · have hk := it_t h12 hk
                  refine j_iinc (pc := 130) (nI 1) C dX9_give_130 rfl (by decide) (Nat.le_of_ble_eq_true rfl) rfl ?_
                  refine j_goto (pc := 133) 29 C dX9_give_133 (by decide) ?_
                  exact j_mask [true, true, true, true, true, false, false] (ih29 _ _ _ hk)
                · have hk := it_f h12 hk
                  refine j_aload_n (pc := 114) C dX9_give_114 rfl rfl ?_
                  refine j_iload_n (pc := 115) C dX9_give_115 rfl rfl ?_
                  refine j_iload (pc := 116) C dX9_give_116 rfl ?_
                  refine j_iconst (pc := 118) (v := (-1)) C dX9_give_118 (by decide) ?_
                  refine j_ixor (pc := 119) C dX9_give_119 ?_
                  refine j_iand (pc := 120) C dX9_give_120 ?_
                  obtain ⟨r121, I121, h13, hk⟩ := bd2_some hk
                  refine j_callV (pc := 121) C (ct_X9_fitsSome hS h13) mv_X9_fitsSome (stM_o hS) rfl rfl q2293 dX9_give_121 rfl rfl (Nat.le_of_ble_eq_true rfl) rfl ?_
                  refine j_if_eq (pc := 124) 130 C dX9_give_124 (by decide) (fun h14 => ?_) (fun h14 => ?_)
                  · have hk := it_t h14 hk
                    refine j_iinc (pc := 130) (nI 1) C dX9_give_130 rfl (by decide) (Nat.le_of_ble_eq_true rfl) rfl ?_
                    refine j_goto (pc := 133) 29 C dX9_give_133 (by decide) ?_
                    exact j_mask [true, true, true, true, true, false, false] (ih29 _ _ _ hk)
                  · have hk := it_f h14 hk
                    refine j_iload (pc := 127) C dX9_give_127 rfl ?_
                    refine j_istore_n (pc := 129) C dX9_give_129 rfl (Nat.le_of_ble_eq_true rfl) rfl ?_
                    refine j_iinc (pc := 130) (nI 1) C dX9_give_130 rfl (by decide) (Nat.le_of_ble_eq_true rfl) rfl ?_
                    refine j_goto (pc := 133) 29 C dX9_give_133 (by decide) ?_
                    exact j_mask [true, true, true, true, true, false, false] (ih29 _ _ _ hk)
            have Jn93 : ∀ (x3 : Int32) (x4 : Int32) (I : II), f_X9_give_J93 F k29 x1 x2 x3 x4 I = some (r, I9) → J G p l e rm_X9_give s m args below meth c 7 (.returned (some (.int r))) (sh, I9) (rm_X9_give).cells (rm_X9_give).slots (sh, I) 0 0 93 [some (.ref (wad G 27)), some (.int x1), some (.int x2), some (.int x3), some (.int x4), none, none] [] := by
              intro x3 x4 I hk
              unfold f_X9_give_J93 at hk
              refine j_iconst (pc := 93) (v := nI 1) C dX9_give_93 (by decide) ?_
              refine j_goto (pc := 94) 98 C dX9_give_94 (by decide) ?_
              exact j_mask [true, true, true, true, true, false, false] (Jn98 _ _ _ _ hk)
            refine j_icmp_lt (pc := 50) 93 C dX9_give_50 (by decide) (fun h15 => ?_) (fun h15 => ?_)
            · have hk := it_t h15 hk
              exact j_mask [true, true, true, true, true, false, false] (Jn93 _ _ _ hk)
            · have hk := it_f h15 hk
              refine j_iload (pc := 53) C dX9_give_53 rfl ?_
              refine j_aload_n (pc := 55) C dX9_give_55 rfl rfl ?_
              refine j_iload_n (pc := 56) C dX9_give_56 rfl rfl ?_
              obtain ⟨r57, h16, hk⟩ := ob_some hk
              refine j_callV (pc := 57) C (ct_X9_priceOf hS h16) mv_X9_priceOf (stM_o hS) rfl rfl q2392 dX9_give_57 rfl rfl (Nat.le_of_ble_eq_true rfl) rfl ?_
              have Jn97 : ∀ (x3 : Int32) (x4 : Int32) (I : II), f_X9_give_J97 F k29 x1 x2 x3 x4 I = some (r, I9) → J G p l e rm_X9_give s m args below meth c 7 (.returned (some (.int r))) (sh, I9) (rm_X9_give).cells (rm_X9_give).slots (sh, I) 0 0 97 [some (.ref (wad G 27)), some (.int x1), some (.int x2), some (.int x3), some (.int x4), none, none] [] := by
                intro x3 x4 I hk
                unfold f_X9_give_J97 at hk
                refine j_iconst (pc := 97) (v := nI 0) C dX9_give_97 (by decide) ?_
                exact j_mask [true, true, true, true, true, false, false] (Jn98 _ _ _ _ hk)
              refine j_icmp_ne (pc := 60) 97 C dX9_give_60 (by decide) (fun h17 => ?_) (fun h17 => ?_)
              · have hk := it_f h17 hk
                exact j_mask [true, true, true, true, true, false, false] (Jn97 _ _ _ hk)
              · have hk := it_t h17 hk
                refine j_iload (pc := 63) C dX9_give_63 rfl ?_
                obtain ⟨r65, h18, hk⟩ := ob_some hk
                refine j_callS (pc := 65) C (ct_X9_bits h18) ms_X9_bits q2381 dX9_give_65 rfl rfl (Nat.le_of_ble_eq_true rfl) rfl ?_
                refine j_iload_n (pc := 68) C dX9_give_68 rfl rfl ?_
                obtain ⟨r69, h19, hk⟩ := ob_some hk
                refine j_callS (pc := 69) C (ct_X9_bits h19) ms_X9_bits q2381 dX9_give_69 rfl rfl (Nat.le_of_ble_eq_true rfl) rfl ?_
                refine j_icmp_lt (pc := 72) 93 C dX9_give_72 (by decide) (fun h20 => ?_) (fun h20 => ?_)
                · have hk := it_t h20 hk
                  exact j_mask [true, true, true, true, true, false, false] (Jn93 _ _ _ hk)
                · have hk := it_f h20 hk
                  refine j_iload (pc := 75) C dX9_give_75 rfl ?_
                  obtain ⟨r77, h21, hk⟩ := ob_some hk
                  refine j_callS (pc := 77) C (ct_X9_bits h21) ms_X9_bits q2381 dX9_give_77 rfl rfl (Nat.le_of_ble_eq_true rfl) rfl ?_
                  refine j_iload_n (pc := 80) C dX9_give_80 rfl rfl ?_
                  obtain ⟨r81, h22, hk⟩ := ob_some hk
                  refine j_callS (pc := 81) C (ct_X9_bits h22) ms_X9_bits q2381 dX9_give_81 rfl rfl (Nat.le_of_ble_eq_true rfl) rfl ?_
                  refine j_icmp_ne (pc := 84) 97 C dX9_give_84 (by decide) (fun h23 => ?_) (fun h23 => ?_)
                  · have hk := it_f h23 hk
                    exact j_mask [true, true, true, true, true, false, false] (Jn97 _ _ _ hk)
                  · have hk := it_t h23 hk
                    refine j_iload (pc := 87) C dX9_give_87 rfl ?_
                    refine j_iload_n (pc := 89) C dX9_give_89 rfl rfl ?_
                    refine j_icmp_ge (pc := 90) 97 C dX9_give_90 (by decide) (fun h24 => ?_) (fun h24 => ?_)
                    · have hk := it_t h24 hk
                      exact j_mask [true, true, true, true, true, false, false] (Jn97 _ _ _ hk)
                    · have hk := it_f h24 hk
                      exact j_mask [true, true, true, true, true, false, false] (Jn93 _ _ _ hk)
      exact j_mask [true, true, true, true, true, false, false] (L29 _ _ _ _ _ _ hk)
    · have hk := it_t h5 hk
      exact j_mask [true, false, false, false, false, false, false] (Jn17 _ hk)
def f_X9_isFollowing_J174 (F : Nat) (k7 : Int32 → II → Option (Int32 × II)) (x2 : Int32) (x3 : Int32) (x7 : Int32) (x9 : Int32) (s1 : Int32) (s2 : Int32) (s3 : Int32) (I : II) : Option (Int32 × II) := oix s1 144 fun i175 => bd2 (f_X9_seek F 13 (nI 0) (nI 4095) (up2 I 38 i175 (s2 &&& s3))) fun r181 I181 => oix x9 144 fun i194 => if r181 = 0 then k7 (x3 + (nI 1)) (up2 I181 38 i194 x7) else some ((nI 0), up2 I181 38 i194 x7)
def f_X9_isFollowing_J88 (F : Nat) (k7 : Int32 → II → Option (Int32 × II)) (x2 : Int32) (x3 : Int32) (x4 : Int32) (x5 : Int32) (x6 : Int32) (s0 : Int32) (I : II) : Option (Int32 × II) := if 0 ≤ x5 then if x5 ≤ x4 then (f_X9_flipped F x6).bind fun r171 => f_X9_isFollowing_J174 F k7 x2 x3 s0 (((nI 12) * (if x5 < x4 then x5 else x4)) + (if x4 < x5 then x5 else x4)) (((nI 12) * (if x5 < x4 then x5 else x4)) + (if x4 < x5 then x5 else x4)) s0 r171 I else f_X9_isFollowing_J174 F k7 x2 x3 s0 (((nI 12) * (if x5 < x4 then x5 else x4)) + (if x4 < x5 then x5 else x4)) (((nI 12) * (if x5 < x4 then x5 else x4)) + (if x4 < x5 then x5 else x4)) s0 x6 I else oix x4 12 fun i106 => bd2 (f_X9_seek F 13 (nI 0) (nI 4095) (up2 I 37 i106 (s0 &&& x6))) fun r112 I112 => oix x4 12 fun i125 => if r112 = 0 then k7 (x3 + (nI 1)) (up2 I112 37 i125 s0) else some ((nI 0), up2 I112 37 i125 s0)
def f_X9_isFollowing_L7 (F : Nat) (x2 : Int32) : Nat → Int32 → II → Option (Int32 × II)
  | 0, _, _ => none
  | n7 + 1, x3, I => (f_X9_casesOf x2 I).bind fun r10 => if r10 ≤ x3 then some ((nI 1), I) else (f_X9_hallOf x2 x3 I).bind fun r19 => (f_X9_otherOf x2 x3 I).bind fun r27 => oix (((nI 110) + ((nI 32) * x2)) + x3) 366 fun i45 => if 0 ≤ r27 then oix (((nI 12) * (if r27 < r19 then r27 else r19)) + (if r19 < r27 then r27 else r19)) 144 fun i87 => f_X9_isFollowing_J88 F (f_X9_isFollowing_L7 F x2 n7) x2 x3 r19 r27 ((I 28 i45) ^^^ (-1)) (I 38 i87) I else oix r19 12 fun i61 => f_X9_isFollowing_J88 F (f_X9_isFollowing_L7 F x2 n7) x2 x3 r19 r27 ((I 28 i45) ^^^ (-1)) (I 37 i61) I
def f_X9_isFollowing (F : Nat) (x1 : Int32) (x2 : Int32) (I : II) : Option (Int32 × II) := (f_X9_gather F x1 I).bind fun I2 => f_X9_isFollowing_L7 F x2 F (nI 0) I2
abbrev rm_X9_isFollowing : Room := { frames := 16, cells := 0, slots := 0, locals := 368 }
theorem mv_X9_isFollowing : MV yX9_isFollowing cX9_isFollowing 10 (some .boolean) 2 := ⟨q2402, qs84, q106, q2403, by decide +kernel⟩
set_option maxHeartbeats 4000000 in
theorem ct_X9_isFollowing {G : WG} {l : Launch} {sh : SH} (hS : StM sh) {I : II} {F : Nat} {x1 : Int32} {x2 : Int32} {r : Int32} {I9 : II} (hk : f_X9_isFollowing F x1 x2 I = some (r, I9)) : CT G l yX9_isFollowing (ws_ yX9_isFollowing cX9_isFollowing 10 (some .boolean)) rm_X9_isFollowing [.ref (wad G 27), .int x1, .int x2] (sh, I) (.returned (some (.int r))) (sh, I9) := by
  refine CT.ofJ "NineDemandsModel" rfl (by decide) (Nat.le_of_ble_eq_true rfl) ?_
  intro p e s m args below meth c C
  unfold f_X9_isFollowing at hk
  refine j_lv (lv' := [some (.ref (wad G 27)), some (.int x1), some (.int x2), none, none, none, none, none, none, none]) rfl ?_
  refine j_aload_n (pc := 0) C dX9_isFollowing_0 rfl rfl ?_
  refine j_iload_n (pc := 1) C dX9_isFollowing_1 rfl rfl ?_
  obtain ⟨I2, h1, hk⟩ := ob_some hk
  refine j_callV (pc := 2) C (ct_X9_gather hS h1) mv_X9_gather (stM_o hS) rfl rfl q2297 dX9_isFollowing_2 rfl rfl (Nat.le_of_ble_eq_true rfl) rfl ?_
  refine j_iconst (pc := 5) (v := nI 0) C dX9_isFollowing_5 (by decide) ?_
  refine j_istore_n (pc := 6) C dX9_isFollowing_6 rfl (Nat.le_of_ble_eq_true rfl) rfl ?_
  have L7 : ∀ (x2 : Int32) (n7 : Nat) (x3 : Int32) (I : II), f_X9_isFollowing_L7 F x2 n7 x3 I = some (r, I9) → J G p l e rm_X9_isFollowing s m args below meth c 10 (.returned (some (.int r))) (sh, I9) (rm_X9_isFollowing).cells (rm_X9_isFollowing).slots (sh, I) 0 0 7 [some (.ref (wad G 27)), none, some (.int x2), some (.int x3), none, none, none, none, none, none] [] := by
    intro x2 n7
    induction n7 with
    | zero => intro x3 I hk; rw [f_X9_isFollowing_L7] at hk; cases hk
    | succ n7 ih7 =>
      intro x3 I hk
      rw [f_X9_isFollowing_L7] at hk
      generalize f_X9_isFollowing_L7 F x2 n7 = k7 at ih7 hk
      refine j_iload_n (pc := 7) C dX9_isFollowing_7 rfl rfl ?_
      refine j_aload_n (pc := 8) C dX9_isFollowing_8 rfl rfl ?_
      refine j_iload_n (pc := 9) C dX9_isFollowing_9 rfl rfl ?_
      obtain ⟨r10, h2, hk⟩ := ob_some hk
      refine j_callV (pc := 10) C (ct_X9_casesOf hS h2) mv_X9_casesOf (stM_o hS) rfl rfl q2238 dX9_isFollowing_10 rfl rfl (Nat.le_of_ble_eq_true rfl) rfl ?_
      refine j_icmp_ge (pc := 13) 208 C dX9_isFollowing_13 (by decide) (fun h3 => ?_) (fun h3 => ?_)
      · have hk := it_t h3 hk
        refine j_iconst (pc := 208) (v := nI 1) C dX9_isFollowing_208 (by decide) ?_
        exact j_zretW (pc := 209) C dX9_isFollowing_209 (Nat.le_of_ble_eq_true rfl) (Nat.le_of_ble_eq_true rfl) rfl hk
      · have hk := it_f h3 hk
        refine j_aload_n (pc := 16) C dX9_isFollowing_16 rfl rfl ?_
        refine j_iload_n (pc := 17) C dX9_isFollowing_17 rfl rfl ?_
        refine j_iload_n (pc := 18) C dX9_isFollowing_18 rfl rfl ?_
        obtain ⟨r19, h4, hk⟩ := ob_some hk
        refine j_callV (pc := 19) C (ct_X9_hallOf hS h4) mv_X9_hallOf (stM_o hS) rfl rfl q2250 dX9_isFollowing_19 rfl rfl (Nat.le_of_ble_eq_true rfl) rfl ?_
        refine j_istore (pc := 22) C dX9_isFollowing_22 (Nat.le_of_ble_eq_true rfl) rfl ?_
        refine j_aload_n (pc := 24) C dX9_isFollowing_24 rfl rfl ?_
        refine j_iload_n (pc := 25) C dX9_isFollowing_25 rfl rfl ?_
        refine j_iload_n (pc := 26) C dX9_isFollowing_26 rfl rfl ?_
        obtain ⟨r27, h5, hk⟩ := ob_some hk
        refine j_callV (pc := 27) C (ct_X9_otherOf hS h5) mv_X9_otherOf (stM_o hS) rfl rfl q2258 dX9_isFollowing_27 rfl rfl (Nat.le_of_ble_eq_true rfl) rfl ?_
        refine j_istore (pc := 30) C dX9_isFollowing_30 (Nat.le_of_ble_eq_true rfl) rfl ?_
        refine j_aload_n (pc := 32) C dX9_isFollowing_32 rfl rfl ?_
        refine j_getR (pc := 33) C fd_10_0 q2000 (stM_o hS) (stM_r0 hS) dX9_isFollowing_33 ?_
        refine j_bipush (pc := 36) (v := nI 110) C dX9_isFollowing_36 (by decide) ?_
        refine j_bipush (pc := 38) (v := nI 32) C dX9_isFollowing_38 (by decide) ?_
        refine j_iload_n (pc := 40) C dX9_isFollowing_40 rfl rfl ?_
        refine j_imul (pc := 41) C dX9_isFollowing_41 ?_
        refine j_iadd (pc := 42) C dX9_isFollowing_42 ?_
        refine j_iload_n (pc := 43) C dX9_isFollowing_43 rfl rfl ?_
        refine j_iadd (pc := 44) C dX9_isFollowing_44 ?_
        obtain ⟨i45, e45, h6, hk⟩ := oix_ex hk
        refine j_iald (pc := 45) C (stM_a28 hS) h6 e45 dX9_isFollowing_45 ?_
        refine j_iconst (pc := 46) (v := (-1)) C dX9_isFollowing_46 (by decide) ?_
        refine j_ixor (pc := 47) C dX9_isFollowing_47 ?_
        refine j_istore (pc := 48) C dX9_isFollowing_48 (Nat.le_of_ble_eq_true rfl) rfl ?_
        refine j_iload (pc := 50) C dX9_isFollowing_50 rfl ?_
        have Jn88 : ∀ (x3 : Int32) (x4 : Int32) (x5 : Int32) (x6 : Int32) (s0 : Int32) (I : II), f_X9_isFollowing_J88 F k7 x2 x3 x4 x5 x6 s0 I = some (r, I9) → J G p l e rm_X9_isFollowing s m args below meth c 10 (.returned (some (.int r))) (sh, I9) (rm_X9_isFollowing).cells (rm_X9_isFollowing).slots (sh, I) 0 0 88 [some (.ref (wad G 27)), none, some (.int x2), some (.int x3), some (.int x4), some (.int x5), some (.int x6), none, none, none] [.int s0] := by
          intro x3 x4 x5 x6 s0 I hk
          unfold f_X9_isFollowing_J88 at hk
          refine j_istore (pc := 88) C dX9_isFollowing_88 (Nat.le_of_ble_eq_true rfl) rfl ?_
          refine j_iload (pc := 90) C dX9_isFollowing_90 rfl ?_
          refine j_if_ge (pc := 92) 129 C dX9_isFollowing_92 (by decide) (fun h7 => ?_) (fun h7 => ?_)
          · have hk := it_t h7 hk
            refine j_bipush (pc := 129) (v := nI 12) C dX9_isFollowing_129 (by decide) ?_
            refine j_iload (pc := 131) C dX9_isFollowing_131 rfl ?_
            refine j_iload (pc := 133) C dX9_isFollowing_133 rfl ?_
            refine j_mmin (pc := 135) C q2142 q481 q107 q482 dX9_isFollowing_135 (Nat.le_of_ble_eq_true rfl) (Nat.le_of_ble_eq_true rfl) (Nat.le_of_ble_eq_true rfl) (Nat.le_of_ble_eq_true rfl) ?_
            refine j_imul (pc := 138) C dX9_isFollowing_138 ?_
            refine j_iload (pc := 139) C dX9_isFollowing_139 rfl ?_
            refine j_iload (pc := 141) C dX9_isFollowing_141 rfl ?_
            refine j_mmax (pc := 143) C q2404 q744 q107 q745 dX9_isFollowing_143 (Nat.le_of_ble_eq_true rfl) (Nat.le_of_ble_eq_true rfl) (Nat.le_of_ble_eq_true rfl) (Nat.le_of_ble_eq_true rfl) ?_
            refine j_iadd (pc := 146) C dX9_isFollowing_146 ?_
            refine j_istore (pc := 147) C dX9_isFollowing_147 (Nat.le_of_ble_eq_true rfl) rfl ?_
            refine j_aload_n (pc := 149) C dX9_isFollowing_149 rfl rfl ?_
            refine j_getR (pc := 150) C fd_10_20 q2020 (stM_o hS) (stM_r20 hS) dX9_isFollowing_150 ?_
            refine j_iload (pc := 153) C dX9_isFollowing_153 rfl ?_
            refine j_iload (pc := 155) C dX9_isFollowing_155 rfl ?_
            refine j_iload (pc := 157) C dX9_isFollowing_157 rfl ?_
            refine j_iload (pc := 159) C dX9_isFollowing_159 rfl ?_
            have Jn174 : ∀ (x3 : Int32) (x7 : Int32) (x9 : Int32) (s1 : Int32) (s2 : Int32) (s3 : Int32) (I : II), f_X9_isFollowing_J174 F k7 x2 x3 x7 x9 s1 s2 s3 I = some (r, I9) → J G p l e rm_X9_isFollowing s m args below meth c 10 (.returned (some (.int r))) (sh, I9) (rm_X9_isFollowing).cells (rm_X9_isFollowing).slots (sh, I) 0 0 174 [some (.ref (wad G 27)), none, some (.int x2), some (.int x3), none, none, none, some (.int x7), none, some (.int x9)] [.int s3, .int s2, .int s1, .ref (wad G 38)] := by
              intro x3 x7 x9 s1 s2 s3 I hk
              unfold f_X9_isFollowing_J174 at hk
              refine j_iand (pc := 174) C dX9_isFollowing_174 ?_
              obtain ⟨i175, e175, h8, hk⟩ := oix_ex hk
              refine j_iast (pc := 175) C (stM_a38 hS) h8 e175 dX9_isFollowing_175 ?_
              refine j_aload_n (pc := 176) C dX9_isFollowing_176 rfl rfl ?_
              refine j_iconst (pc := 177) (v := nI 0) C dX9_isFollowing_177 (by decide) ?_
              refine j_sipush (pc := 178) (v := nI 4095) C dX9_isFollowing_178 (by decide) ?_
              obtain ⟨r181, I181, h9, hk⟩ := bd2_some hk
              refine j_callV (pc := 181) C (ct_X9_seek hS h9) mv_X9_seek (stM_o hS) rfl rfl q2304 dX9_isFollowing_181 rfl rfl (Nat.le_of_ble_eq_true rfl) rfl ?_
              refine j_istore (pc := 184) C dX9_isFollowing_184 (Nat.le_of_ble_eq_true rfl) rfl ?_
              refine j_aload_n (pc := 186) C dX9_isFollowing_186 rfl rfl ?_
              refine j_getR (pc := 187) C fd_10_20 q2020 (stM_o hS) (stM_r20 hS) dX9_isFollowing_187 ?_
              refine j_iload (pc := 190) C dX9_isFollowing_190 rfl ?_
              refine j_iload (pc := 192) C dX9_isFollowing_192 rfl ?_
              obtain ⟨i194, e194, h10, hk⟩ := oix_ex hk
              refine j_iast (pc := 194) C (stM_a38 hS) h10 e194 dX9_isFollowing_194 ?_
              refine j_iload (pc := 195) C dX9_isFollowing_195 rfl ?_
              refine j_if_eq (pc := 197) 202 C dX9_isFollowing_197 (by decide) (fun h11 => ?_) (fun h11 => ?_)
              · have hk := it_t h11 hk
                refine j_iinc (pc := 202) (nI 1) C dX9_isFollowing_202 rfl (by decide) (Nat.le_of_ble_eq_true rfl) rfl ?_
                refine j_goto (pc := 205) 7 C dX9_isFollowing_205 (by decide) ?_
                exact j_mask [true, false, true, true, false, false, false, false, false, false] (ih7 _ _ hk)
              · have hk := it_f h11 hk
                refine j_iconst (pc := 200) (v := nI 0) C dX9_isFollowing_200 (by decide) ?_
                exact j_zretW (pc := 201) C dX9_isFollowing_201 (Nat.le_of_ble_eq_true rfl) (Nat.le_of_ble_eq_true rfl) rfl hk
            refine j_icmp_ge (pc := 161) 169 C dX9_isFollowing_161 (by decide) (fun h12 => ?_) (fun h12 => ?_)
            · have hk := it_t h12 hk
              refine j_iload (pc := 169) C dX9_isFollowing_169 rfl ?_
              obtain ⟨r171, h13, hk⟩ := ob_some hk
              refine j_callS (pc := 171) C (ct_X9_flipped h13) ms_X9_flipped q2301 dX9_isFollowing_171 rfl rfl (Nat.le_of_ble_eq_true rfl) rfl ?_
              exact j_mask [true, false, true, true, false, false, false, true, false, true] (Jn174 _ _ _ _ _ _ _ hk)
            · have hk := it_f h12 hk
              refine j_iload (pc := 164) C dX9_isFollowing_164 rfl ?_
              refine j_goto (pc := 166) 174 C dX9_isFollowing_166 (by decide) ?_
              exact j_mask [true, false, true, true, false, false, false, true, false, true] (Jn174 _ _ _ _ _ _ _ hk)
          · have hk := it_f h7 hk
            refine j_aload_n (pc := 95) C dX9_isFollowing_95 rfl rfl ?_
            refine j_getR (pc := 96) C fd_10_19 q2019 (stM_o hS) (stM_r19 hS) dX9_isFollowing_96 ?_
            refine j_iload (pc := 99) C dX9_isFollowing_99 rfl ?_
            refine j_iload (pc := 101) C dX9_isFollowing_101 rfl ?_
            refine j_iload (pc := 103) C dX9_isFollowing_103 rfl ?_
            refine j_iand (pc := 105) C dX9_isFollowing_105 ?_
            obtain ⟨i106, e106, h14, hk⟩ := oix_ex hk
            refine j_iast (pc := 106) C (stM_a37 hS) h14 e106 dX9_isFollowing_106 ?_
            refine j_aload_n (pc := 107) C dX9_isFollowing_107 rfl rfl ?_
            refine j_iconst (pc := 108) (v := nI 0) C dX9_isFollowing_108 (by decide) ?_
            refine j_sipush (pc := 109) (v := nI 4095) C dX9_isFollowing_109 (by decide) ?_
            obtain ⟨r112, I112, h15, hk⟩ := bd2_some hk
            refine j_callV (pc := 112) C (ct_X9_seek hS h15) mv_X9_seek (stM_o hS) rfl rfl q2304 dX9_isFollowing_112 rfl rfl (Nat.le_of_ble_eq_true rfl) rfl ?_
            refine j_istore (pc := 115) C dX9_isFollowing_115 (Nat.le_of_ble_eq_true rfl) rfl ?_
            refine j_aload_n (pc := 117) C dX9_isFollowing_117 rfl rfl ?_
            refine j_getR (pc := 118) C fd_10_19 q2019 (stM_o hS) (stM_r19 hS) dX9_isFollowing_118 ?_
            refine j_iload (pc := 121) C dX9_isFollowing_121 rfl ?_
            refine j_iload (pc := 123) C dX9_isFollowing_123 rfl ?_
            obtain ⟨i125, e125, h16, hk⟩ := oix_ex hk
            refine j_iast (pc := 125) C (stM_a37 hS) h16 e125 dX9_isFollowing_125 ?_
            refine j_goto (pc := 126) 195 C dX9_isFollowing_126 (by decide) ?_
            refine j_iload (pc := 195) C dX9_isFollowing_195 rfl ?_
            refine j_if_eq (pc := 197) 202 C dX9_isFollowing_197 (by decide) (fun h17 => ?_) (fun h17 => ?_)
            · have hk := it_t h17 hk
              refine j_iinc (pc := 202) (nI 1) C dX9_isFollowing_202 rfl (by decide) (Nat.le_of_ble_eq_true rfl) rfl ?_
              refine j_goto (pc := 205) 7 C dX9_isFollowing_205 (by decide) ?_
              exact j_mask [true, false, true, true, false, false, false, false, false, false] (ih7 _ _ hk)
            · have hk := it_f h17 hk
              refine j_iconst (pc := 200) (v := nI 0) C dX9_isFollowing_200 (by decide) ?_
              exact j_zretW (pc := 201) C dX9_isFollowing_201 (Nat.le_of_ble_eq_true rfl) (Nat.le_of_ble_eq_true rfl) rfl hk
        refine j_if_ge (pc := 52) 65 C dX9_isFollowing_52 (by decide) (fun h18 => ?_) (fun h18 => ?_)
        · have hk := it_t h18 hk
          refine j_aload_n (pc := 65) C dX9_isFollowing_65 rfl rfl ?_
          refine j_getR (pc := 66) C fd_10_20 q2020 (stM_o hS) (stM_r20 hS) dX9_isFollowing_66 ?_
          refine j_bipush (pc := 69) (v := nI 12) C dX9_isFollowing_69 (by decide) ?_
          refine j_iload (pc := 71) C dX9_isFollowing_71 rfl ?_
          refine j_iload (pc := 73) C dX9_isFollowing_73 rfl ?_
          refine j_mmin (pc := 75) C q2142 q481 q107 q482 dX9_isFollowing_75 (Nat.le_of_ble_eq_true rfl) (Nat.le_of_ble_eq_true rfl) (Nat.le_of_ble_eq_true rfl) (Nat.le_of_ble_eq_true rfl) ?_
          refine j_imul (pc := 78) C dX9_isFollowing_78 ?_
          refine j_iload (pc := 79) C dX9_isFollowing_79 rfl ?_
          refine j_iload (pc := 81) C dX9_isFollowing_81 rfl ?_
          refine j_mmax (pc := 83) C q2404 q744 q107 q745 dX9_isFollowing_83 (Nat.le_of_ble_eq_true rfl) (Nat.le_of_ble_eq_true rfl) (Nat.le_of_ble_eq_true rfl) (Nat.le_of_ble_eq_true rfl) ?_
          refine j_iadd (pc := 86) C dX9_isFollowing_86 ?_
          obtain ⟨i87, e87, h19, hk⟩ := oix_ex hk
          refine j_iald (pc := 87) C (stM_a38 hS) h19 e87 dX9_isFollowing_87 ?_
          exact j_mask [true, false, true, true, true, true, true, false, false, false] (Jn88 _ _ _ _ _ _ hk)
        · have hk := it_f h18 hk
          refine j_aload_n (pc := 55) C dX9_isFollowing_55 rfl rfl ?_
          refine j_getR (pc := 56) C fd_10_19 q2019 (stM_o hS) (stM_r19 hS) dX9_isFollowing_56 ?_
          refine j_iload (pc := 59) C dX9_isFollowing_59 rfl ?_
          obtain ⟨i61, e61, h20, hk⟩ := oix_ex hk
          refine j_iald (pc := 61) C (stM_a37 hS) h20 e61 dX9_isFollowing_61 ?_
          refine j_goto (pc := 62) 88 C dX9_isFollowing_62 (by decide) ?_
          exact j_mask [true, false, true, true, true, true, true, false, false, false] (Jn88 _ _ _ _ _ _ hk)
  exact j_mask [true, false, true, true, false, false, false, false, false, false] (L7 _ _ _ _ hk)
def f_X9_follows_J16 (F : Nat) (I : II) : Option (Int32 × II) := bd2 (f_X9_finding (-1000001) I) fun r19 I19 => some (r19, I19)
def f_X9_follows (F : Nat) (x1 : Int32) (x2 : Int32) (I : II) : Option (Int32 × II) := (f_X9_isSet x1 I).bind fun r2 => if r2 = 0 then f_X9_follows_J16 F I else (f_X9_isLaw x2 I).bind fun r10 => if r10 = 0 then f_X9_follows_J16 F I else bd2 (f_X9_isFollowing F x1 x2 I) fun r26 I26 => if r26 = 0 then some ((nI 0), I26) else some ((nI 1), I26)
abbrev rm_X9_follows : Room := { frames := 17, cells := 0, slots := 0, locals := 397 }
theorem mv_X9_follows : MV yX9_follows cX9_follows 3 (some .int) 2 := ⟨q2397, q2398, q106, q2399, by decide +kernel⟩
set_option maxHeartbeats 4000000 in
theorem ct_X9_follows {G : WG} {l : Launch} {sh : SH} (hS : StM sh) {I : II} {F : Nat} {x1 : Int32} {x2 : Int32} {r : Int32} {I9 : II} (hk : f_X9_follows F x1 x2 I = some (r, I9)) : CT G l yX9_follows (ws_ yX9_follows cX9_follows 3 (some .int)) rm_X9_follows [.ref (wad G 27), .int x1, .int x2] (sh, I) (.returned (some (.int r))) (sh, I9) := by
  refine CT.ofJ "NineDemandsModel" rfl (by decide) (Nat.le_of_ble_eq_true rfl) ?_
  intro p e s m args below meth c C
  unfold f_X9_follows at hk
  refine j_lv (lv' := [some (.ref (wad G 27)), some (.int x1), some (.int x2)]) rfl ?_
  refine j_aload_n (pc := 0) C dX9_follows_0 rfl rfl ?_
  refine j_iload_n (pc := 1) C dX9_follows_1 rfl rfl ?_
  obtain ⟨r2, h1, hk⟩ := ob_some hk
  refine j_callV (pc := 2) C (ct_X9_isSet hS h1) mv_X9_isSet (stM_o hS) rfl rfl q2289 dX9_follows_2 rfl rfl (Nat.le_of_ble_eq_true rfl) rfl ?_
  have Jn16 : ∀ (I : II), f_X9_follows_J16 F I = some (r, I9) → J G p l e rm_X9_follows s m args below meth c 3 (.returned (some (.int r))) (sh, I9) (rm_X9_follows).cells (rm_X9_follows).slots (sh, I) 0 0 16 [some (.ref (wad G 27)), none, none] [] := by
    intro I hk
    unfold f_X9_follows_J16 at hk
    refine j_aload_n (pc := 16) C dX9_follows_16 rfl rfl ?_
    refine j_ldc (pc := 17) (v := (-1000001)) C q2110 dX9_follows_17 ?_
    obtain ⟨r19, I19, h2, hk⟩ := bd2_some hk
    refine j_callV (pc := 19) C (ct_X9_finding hS h2) mv_X9_finding (stM_o hS) rfl rfl q2111 dX9_follows_19 rfl rfl (Nat.le_of_ble_eq_true rfl) rfl ?_
    exact j_iretW (pc := 22) C dX9_follows_22 (Nat.le_of_ble_eq_true rfl) (Nat.le_of_ble_eq_true rfl) hk
  refine j_if_eq (pc := 5) 16 C dX9_follows_5 (by decide) (fun h3 => ?_) (fun h3 => ?_)
  · have hk := it_t h3 hk
    exact j_mask [true, false, false] (Jn16 _ hk)
  · have hk := it_f h3 hk
    refine j_aload_n (pc := 8) C dX9_follows_8 rfl rfl ?_
    refine j_iload_n (pc := 9) C dX9_follows_9 rfl rfl ?_
    obtain ⟨r10, h4, hk⟩ := ob_some hk
    refine j_callV (pc := 10) C (ct_X9_isLaw hS h4) mv_X9_isLaw (stM_o hS) rfl rfl q2223 dX9_follows_10 rfl rfl (Nat.le_of_ble_eq_true rfl) rfl ?_
    refine j_if_ne (pc := 13) 23 C dX9_follows_13 (by decide) (fun h5 => ?_) (fun h5 => ?_)
    · have hk := it_f h5 hk
      refine j_aload_n (pc := 23) C dX9_follows_23 rfl rfl ?_
      refine j_iload_n (pc := 24) C dX9_follows_24 rfl rfl ?_
      refine j_iload_n (pc := 25) C dX9_follows_25 rfl rfl ?_
      obtain ⟨r26, I26, h6, hk⟩ := bd2_some hk
      refine j_callV (pc := 26) C (ct_X9_isFollowing hS h6) mv_X9_isFollowing (stM_o hS) rfl rfl q2400 dX9_follows_26 rfl rfl (Nat.le_of_ble_eq_true rfl) rfl ?_
      refine j_if_eq (pc := 29) 36 C dX9_follows_29 (by decide) (fun h7 => ?_) (fun h7 => ?_)
      · have hk := it_t h7 hk
        refine j_iconst (pc := 36) (v := nI 0) C dX9_follows_36 (by decide) ?_
        exact j_iretW (pc := 37) C dX9_follows_37 (Nat.le_of_ble_eq_true rfl) (Nat.le_of_ble_eq_true rfl) hk
      · have hk := it_f h7 hk
        refine j_iconst (pc := 32) (v := nI 1) C dX9_follows_32 (by decide) ?_
        refine j_goto (pc := 33) 37 C dX9_follows_33 (by decide) ?_
        exact j_iretW (pc := 37) C dX9_follows_37 (Nat.le_of_ble_eq_true rfl) (Nat.le_of_ble_eq_true rfl) hk
    · have hk := it_t h5 hk
      exact j_mask [true, false, false] (Jn16 _ hk)
def f_X9_spare_L19 (F : Nat) (x1 : Int32) : Nat → Int32 → Int32 → II → Option (Int32 × II)
  | 0, _, _, _ => none
  | n19 + 1, x2, x3, I => oix (nI 0) 366 fun i25 => if (I 28 i25) ≤ x3 then some (x2, I) else (f_X9_has x1 x3).bind fun r32 => if r32 = 0 then (f_X9_spare_L19 F x1 n19) (x2 ||| (nI 0)) (x3 + (nI 1)) I else bd2 (f_X9_isFollowing F (x1 &&& (((nI 1) <<< (x3 &&& 31)) ^^^ (-1))) x3 I) fun r47 I47 => if r47 = 0 then (f_X9_spare_L19 F x1 n19) (x2 ||| (nI 0)) (x3 + (nI 1)) I47 else (f_X9_spare_L19 F x1 n19) (x2 ||| ((nI 1) <<< (x3 &&& 31))) (x3 + (nI 1)) I47
def f_X9_spare (F : Nat) (x1 : Int32) (I : II) : Option (Int32 × II) := (f_X9_isSet x1 I).bind fun r2 => if r2 = 0 then bd2 (f_X9_finding (-1000001) I) fun r11 I11 => some (r11, I11) else f_X9_spare_L19 F x1 F (nI 0) (nI 0) I
abbrev rm_X9_spare : Room := { frames := 17, cells := 0, slots := 0, locals := 397 }
theorem mv_X9_spare : MV yX9_spare cX9_spare 4 (some .int) 1 := ⟨q2406, q2407, q106, q2408, by decide +kernel⟩
set_option maxHeartbeats 4000000 in
theorem ct_X9_spare {G : WG} {l : Launch} {sh : SH} (hS : StM sh) {I : II} {F : Nat} {x1 : Int32} {r : Int32} {I9 : II} (hk : f_X9_spare F x1 I = some (r, I9)) : CT G l yX9_spare (ws_ yX9_spare cX9_spare 4 (some .int)) rm_X9_spare [.ref (wad G 27), .int x1] (sh, I) (.returned (some (.int r))) (sh, I9) := by
  refine CT.ofJ "NineDemandsModel" rfl (by decide) (Nat.le_of_ble_eq_true rfl) ?_
  intro p e s m args below meth c C
  unfold f_X9_spare at hk
  refine j_lv (lv' := [some (.ref (wad G 27)), some (.int x1), none, none]) rfl ?_
  refine j_aload_n (pc := 0) C dX9_spare_0 rfl rfl ?_
  refine j_iload_n (pc := 1) C dX9_spare_1 rfl rfl ?_
  obtain ⟨r2, h1, hk⟩ := ob_some hk
  refine j_callV (pc := 2) C (ct_X9_isSet hS h1) mv_X9_isSet (stM_o hS) rfl rfl q2289 dX9_spare_2 rfl rfl (Nat.le_of_ble_eq_true rfl) rfl ?_
  refine j_if_ne (pc := 5) 15 C dX9_spare_5 (by decide) (fun h2 => ?_) (fun h2 => ?_)
  · have hk := it_f h2 hk
    refine j_iconst (pc := 15) (v := nI 0) C dX9_spare_15 (by decide) ?_
    refine j_istore_n (pc := 16) C dX9_spare_16 rfl (Nat.le_of_ble_eq_true rfl) rfl ?_
    refine j_iconst (pc := 17) (v := nI 0) C dX9_spare_17 (by decide) ?_
    refine j_istore_n (pc := 18) C dX9_spare_18 rfl (Nat.le_of_ble_eq_true rfl) rfl ?_
    have L19 : ∀ (x1 : Int32) (n19 : Nat) (x2 : Int32) (x3 : Int32) (I : II), f_X9_spare_L19 F x1 n19 x2 x3 I = some (r, I9) → J G p l e rm_X9_spare s m args below meth c 4 (.returned (some (.int r))) (sh, I9) (rm_X9_spare).cells (rm_X9_spare).slots (sh, I) 0 0 19 [some (.ref (wad G 27)), some (.int x1), some (.int x2), some (.int x3)] [] := by
      intro x1 n19
      induction n19 with
      | zero => intro x2 x3 I hk; rw [f_X9_spare_L19] at hk; cases hk
      | succ n19 ih19 =>
        intro x2 x3 I hk
        rw [f_X9_spare_L19] at hk
        generalize f_X9_spare_L19 F x1 n19 = k19 at ih19 hk
        refine j_iload_n (pc := 19) C dX9_spare_19 rfl rfl ?_
        refine j_aload_n (pc := 20) C dX9_spare_20 rfl rfl ?_
        refine j_getR (pc := 21) C fd_10_0 q2000 (stM_o hS) (stM_r0 hS) dX9_spare_21 ?_
        refine j_iconst (pc := 24) (v := nI 0) C dX9_spare_24 (by decide) ?_
        obtain ⟨i25, e25, h3, hk⟩ := oix_ex hk
        refine j_iald (pc := 25) C (stM_a28 hS) h3 e25 dX9_spare_25 ?_
        refine j_icmp_ge (pc := 26) 68 C dX9_spare_26 (by decide) (fun h4 => ?_) (fun h4 => ?_)
        · have hk := it_t h4 hk
          refine j_iload_n (pc := 68) C dX9_spare_68 rfl rfl ?_
          exact j_iretW (pc := 69) C dX9_spare_69 (Nat.le_of_ble_eq_true rfl) (Nat.le_of_ble_eq_true rfl) hk
        · have hk := it_f h4 hk
          refine j_iload_n (pc := 29) C dX9_spare_29 rfl rfl ?_
          refine j_iload_n (pc := 30) C dX9_spare_30 rfl rfl ?_
          refine j_iload_n (pc := 31) C dX9_spare_31 rfl rfl ?_
          obtain ⟨r32, h5, hk⟩ := ob_some hk
          refine j_callS (pc := 32) C (ct_X9_has h5) ms_X9_has q2270 dX9_spare_32 rfl rfl (Nat.le_of_ble_eq_true rfl) rfl ?_
          refine j_if_eq (pc := 35) 59 C dX9_spare_35 (by decide) (fun h6 => ?_) (fun h6 => ?_)
          · have hk := it_t h6 hk
            refine j_iconst (pc := 59) (v := nI 0) C dX9_spare_59 (by decide) ?_
            refine j_ior (pc := 60) C dX9_spare_60 ?_
            refine j_istore_n (pc := 61) C dX9_spare_61 rfl (Nat.le_of_ble_eq_true rfl) rfl ?_
            refine j_iinc (pc := 62) (nI 1) C dX9_spare_62 rfl (by decide) (Nat.le_of_ble_eq_true rfl) rfl ?_
            refine j_goto (pc := 65) 19 C dX9_spare_65 (by decide) ?_
            exact j_mask [true, true, true, true] (ih19 _ _ _ hk)
          · have hk := it_f h6 hk
            refine j_aload_n (pc := 38) C dX9_spare_38 rfl rfl ?_
            refine j_iload_n (pc := 39) C dX9_spare_39 rfl rfl ?_
            refine j_iconst (pc := 40) (v := nI 1) C dX9_spare_40 (by decide) ?_
            refine j_iload_n (pc := 41) C dX9_spare_41 rfl rfl ?_
            refine j_ishl (pc := 42) C dX9_spare_42 ?_
            refine j_iconst (pc := 43) (v := (-1)) C dX9_spare_43 (by decide) ?_
            refine j_ixor (pc := 44) C dX9_spare_44 ?_
            refine j_iand (pc := 45) C dX9_spare_45 ?_
            refine j_iload_n (pc := 46) C dX9_spare_46 rfl rfl ?_
            obtain ⟨r47, I47, h7, hk⟩ := bd2_some hk
            refine j_callV (pc := 47) C (ct_X9_isFollowing hS h7) mv_X9_isFollowing (stM_o hS) rfl rfl q2400 dX9_spare_47 rfl rfl (Nat.le_of_ble_eq_true rfl) rfl ?_
            refine j_if_eq (pc := 50) 59 C dX9_spare_50 (by decide) (fun h8 => ?_) (fun h8 => ?_)
            · have hk := it_t h8 hk
              refine j_iconst (pc := 59) (v := nI 0) C dX9_spare_59 (by decide) ?_
              refine j_ior (pc := 60) C dX9_spare_60 ?_
              refine j_istore_n (pc := 61) C dX9_spare_61 rfl (Nat.le_of_ble_eq_true rfl) rfl ?_
              refine j_iinc (pc := 62) (nI 1) C dX9_spare_62 rfl (by decide) (Nat.le_of_ble_eq_true rfl) rfl ?_
              refine j_goto (pc := 65) 19 C dX9_spare_65 (by decide) ?_
              exact j_mask [true, true, true, true] (ih19 _ _ _ hk)
            · have hk := it_f h8 hk
              refine j_iconst (pc := 53) (v := nI 1) C dX9_spare_53 (by decide) ?_
              refine j_iload_n (pc := 54) C dX9_spare_54 rfl rfl ?_
              refine j_ishl (pc := 55) C dX9_spare_55 ?_
              refine j_goto (pc := 56) 60 C dX9_spare_56 (by decide) ?_
              refine j_ior (pc := 60) C dX9_spare_60 ?_
              refine j_istore_n (pc := 61) C dX9_spare_61 rfl (Nat.le_of_ble_eq_true rfl) rfl ?_
              refine j_iinc (pc := 62) (nI 1) C dX9_spare_62 rfl (by decide) (Nat.le_of_ble_eq_true rfl) rfl ?_
              refine j_goto (pc := 65) 19 C dX9_spare_65 (by decide) ?_
              exact j_mask [true, true, true, true] (ih19 _ _ _ hk)
    exact j_mask [true, true, true, true] (L19 _ _ _ _ _ hk)
  · have hk := it_t h2 hk
    refine j_aload_n (pc := 8) C dX9_spare_8 rfl rfl ?_
    refine j_ldc (pc := 9) (v := (-1000001)) C q2110 dX9_spare_9 ?_
    obtain ⟨r11, I11, h9, hk⟩ := bd2_some hk
    refine j_callV (pc := 11) C (ct_X9_finding hS h9) mv_X9_finding (stM_o hS) rfl rfl q2111 dX9_spare_11 rfl rfl (Nat.le_of_ble_eq_true rfl) rfl ?_
    exact j_iretW (pc := 14) C dX9_spare_14 (Nat.le_of_ble_eq_true rfl) (Nat.le_of_ble_eq_true rfl) hk
def f_X9_allFollow_L5 (F : Nat) (x1 : Int32) (x2 : Int32) : Nat → Int32 → Int32 → II → Option (Int32 × II)
  | 0, _, _, _ => none
  | n5 + 1, x3, x4, I => oix (nI 0) 366 fun i12 => if (I 28 i12) ≤ x4 then og (x3 = 0 ∨ x3 = 1) (some (x3, I)) else if x3 = 0 then og (x3 = 0 ∨ x3 = 1) (some (x3, I)) else (f_X9_has x2 x4).bind fun r23 => if r23 = 0 then (f_X9_allFollow_L5 F x1 x2 n5) (nI 1) (x4 + (nI 1)) I else bd2 (f_X9_isFollowing F x1 x4 I) fun r33 I33 => if r33 = 0 then (f_X9_allFollow_L5 F x1 x2 n5) (nI 0) (x4 + (nI 1)) I33 else (f_X9_allFollow_L5 F x1 x2 n5) (nI 1) (x4 + (nI 1)) I33
def f_X9_allFollow (F : Nat) (x1 : Int32) (x2 : Int32) (I : II) : Option (Int32 × II) := f_X9_allFollow_L5 F x1 x2 F (nI 1) (nI 0) I
abbrev rm_X9_allFollow : Room := { frames := 17, cells := 0, slots := 0, locals := 397 }
theorem mv_X9_allFollow : MV yX9_allFollow cX9_allFollow 5 (some .boolean) 2 := ⟨q2415, qs85, q106, q2416, by decide +kernel⟩
set_option maxHeartbeats 4000000 in
theorem ct_X9_allFollow {G : WG} {l : Launch} {sh : SH} (hS : StM sh) {I : II} {F : Nat} {x1 : Int32} {x2 : Int32} {r : Int32} {I9 : II} (hk : f_X9_allFollow F x1 x2 I = some (r, I9)) : CT G l yX9_allFollow (ws_ yX9_allFollow cX9_allFollow 5 (some .boolean)) rm_X9_allFollow [.ref (wad G 27), .int x1, .int x2] (sh, I) (.returned (some (.int r))) (sh, I9) := by
  refine CT.ofJ "NineDemandsModel" rfl (by decide) (Nat.le_of_ble_eq_true rfl) ?_
  intro p e s m args below meth c C
  unfold f_X9_allFollow at hk
  refine j_lv (lv' := [some (.ref (wad G 27)), some (.int x1), some (.int x2), none, none]) rfl ?_
  refine j_iconst (pc := 0) (v := nI 1) C dX9_allFollow_0 (by decide) ?_
  refine j_istore_n (pc := 1) C dX9_allFollow_1 rfl (Nat.le_of_ble_eq_true rfl) rfl ?_
  refine j_iconst (pc := 2) (v := nI 0) C dX9_allFollow_2 (by decide) ?_
  refine j_istore (pc := 3) C dX9_allFollow_3 (Nat.le_of_ble_eq_true rfl) rfl ?_
  have L5 : ∀ (x1 : Int32) (x2 : Int32) (n5 : Nat) (x3 : Int32) (x4 : Int32) (I : II), f_X9_allFollow_L5 F x1 x2 n5 x3 x4 I = some (r, I9) → J G p l e rm_X9_allFollow s m args below meth c 5 (.returned (some (.int r))) (sh, I9) (rm_X9_allFollow).cells (rm_X9_allFollow).slots (sh, I) 0 0 5 [some (.ref (wad G 27)), some (.int x1), some (.int x2), some (.int x3), some (.int x4)] [] := by
    intro x1 x2 n5
    induction n5 with
    | zero => intro x3 x4 I hk; rw [f_X9_allFollow_L5] at hk; cases hk
    | succ n5 ih5 =>
      intro x3 x4 I hk
      rw [f_X9_allFollow_L5] at hk
      generalize f_X9_allFollow_L5 F x1 x2 n5 = k5 at ih5 hk
      refine j_iload (pc := 5) C dX9_allFollow_5 rfl ?_
      refine j_aload_n (pc := 7) C dX9_allFollow_7 rfl rfl ?_
      refine j_getR (pc := 8) C fd_10_0 q2000 (stM_o hS) (stM_r0 hS) dX9_allFollow_8 ?_
      refine j_iconst (pc := 11) (v := nI 0) C dX9_allFollow_11 (by decide) ?_
      obtain ⟨i12, e12, h1, hk⟩ := oix_ex hk
      refine j_iald (pc := 12) C (stM_a28 hS) h1 e12 dX9_allFollow_12 ?_
      refine j_icmp_ge (pc := 13) 51 C dX9_allFollow_13 (by decide) (fun h2 => ?_) (fun h2 => ?_)
      · have hk := it_t h2 hk
        refine j_iload_n (pc := 51) C dX9_allFollow_51 rfl rfl ?_
        obtain ⟨h3, hk⟩ := og_some hk
        exact j_zretW (pc := 52) C dX9_allFollow_52 (Nat.le_of_ble_eq_true rfl) (Nat.le_of_ble_eq_true rfl) (isB.nar h3) hk
      · have hk := it_f h2 hk
        refine j_iload_n (pc := 16) C dX9_allFollow_16 rfl rfl ?_
        refine j_if_eq (pc := 17) 51 C dX9_allFollow_17 (by decide) (fun h4 => ?_) (fun h4 => ?_)
        · have hk := it_t h4 hk
          refine j_iload_n (pc := 51) C dX9_allFollow_51 rfl rfl ?_
          obtain ⟨h5, hk⟩ := og_some hk
          exact j_zretW (pc := 52) C dX9_allFollow_52 (Nat.le_of_ble_eq_true rfl) (Nat.le_of_ble_eq_true rfl) (isB.nar h5) hk
        · have hk := it_f h4 hk
          refine j_iload_n (pc := 20) C dX9_allFollow_20 rfl rfl ?_
          refine j_iload (pc := 21) C dX9_allFollow_21 rfl ?_
          obtain ⟨r23, h6, hk⟩ := ob_some hk
          refine j_callS (pc := 23) C (ct_X9_has h6) ms_X9_has q2270 dX9_allFollow_23 rfl rfl (Nat.le_of_ble_eq_true rfl) rfl ?_
          refine j_if_eq (pc := 26) 39 C dX9_allFollow_26 (by decide) (fun h7 => ?_) (fun h7 => ?_)
          · have hk := it_t h7 hk
            refine j_iconst (pc := 39) (v := nI 1) C dX9_allFollow_39 (by decide) ?_
            refine j_goto (pc := 40) 44 C dX9_allFollow_40 (by decide) ?_
            refine j_istore_n (pc := 44) C dX9_allFollow_44 rfl (Nat.le_of_ble_eq_true rfl) rfl ?_
            refine j_iinc (pc := 45) (nI 1) C dX9_allFollow_45 rfl (by decide) (Nat.le_of_ble_eq_true rfl) rfl ?_
            refine j_goto (pc := 48) 5 C dX9_allFollow_48 (by decide) ?_
            exact j_mask [true, true, true, true, true] (ih5 _ _ _ hk)
          · have hk := it_f h7 hk
            refine j_aload_n (pc := 29) C dX9_allFollow_29 rfl rfl ?_
            refine j_iload_n (pc := 30) C dX9_allFollow_30 rfl rfl ?_
            refine j_iload (pc := 31) C dX9_allFollow_31 rfl ?_
            obtain ⟨r33, I33, h8, hk⟩ := bd2_some hk
            refine j_callV (pc := 33) C (ct_X9_isFollowing hS h8) mv_X9_isFollowing (stM_o hS) rfl rfl q2400 dX9_allFollow_33 rfl rfl (Nat.le_of_ble_eq_true rfl) rfl ?_
            refine j_if_eq (pc := 36) 43 C dX9_allFollow_36 (by decide) (fun h9 => ?_) (fun h9 => ?_)
            · have hk := it_t h9 hk
              refine j_iconst (pc := 43) (v := nI 0) C dX9_allFollow_43 (by decide) ?_
              refine j_istore_n (pc := 44) C dX9_allFollow_44 rfl (Nat.le_of_ble_eq_true rfl) rfl ?_
              refine j_iinc (pc := 45) (nI 1) C dX9_allFollow_45 rfl (by decide) (Nat.le_of_ble_eq_true rfl) rfl ?_
              refine j_goto (pc := 48) 5 C dX9_allFollow_48 (by decide) ?_
              exact j_mask [true, true, true, true, true] (ih5 _ _ _ hk)
            · have hk := it_f h9 hk
              refine j_iconst (pc := 39) (v := nI 1) C dX9_allFollow_39 (by decide) ?_
              refine j_goto (pc := 40) 44 C dX9_allFollow_40 (by decide) ?_
              refine j_istore_n (pc := 44) C dX9_allFollow_44 rfl (Nat.le_of_ble_eq_true rfl) rfl ?_
              refine j_iinc (pc := 45) (nI 1) C dX9_allFollow_45 rfl (by decide) (Nat.le_of_ble_eq_true rfl) rfl ?_
              refine j_goto (pc := 48) 5 C dX9_allFollow_48 (by decide) ?_
              exact j_mask [true, true, true, true, true] (ih5 _ _ _ hk)
  exact j_mask [true, true, true, true, true] (L5 _ _ _ _ _ _ hk)
def f_X9_same_J16 (F : Nat) (I : II) : Option (Int32 × II) := bd2 (f_X9_finding (-1000001) I) fun r19 I19 => some (r19, I19)
def f_X9_same (F : Nat) (x1 : Int32) (x2 : Int32) (I : II) : Option (Int32 × II) := (f_X9_isSet x1 I).bind fun r2 => if r2 = 0 then f_X9_same_J16 F I else (f_X9_isSet x2 I).bind fun r10 => if r10 = 0 then f_X9_same_J16 F I else bd2 (f_X9_allFollow F x1 x2 I) fun r26 I26 => if r26 = 0 then some ((nI 0), I26) else bd2 (f_X9_allFollow F x2 x1 I26) fun r35 I35 => if r35 = 0 then some ((nI 0), I35) else some ((nI 1), I35)
abbrev rm_X9_same : Room := { frames := 18, cells := 0, slots := 0, locals := 421 }
theorem mv_X9_same : MV yX9_same cX9_same 3 (some .int) 2 := ⟨q2410, q2411, q106, q2412, by decide +kernel⟩
set_option maxHeartbeats 4000000 in
theorem ct_X9_same {G : WG} {l : Launch} {sh : SH} (hS : StM sh) {I : II} {F : Nat} {x1 : Int32} {x2 : Int32} {r : Int32} {I9 : II} (hk : f_X9_same F x1 x2 I = some (r, I9)) : CT G l yX9_same (ws_ yX9_same cX9_same 3 (some .int)) rm_X9_same [.ref (wad G 27), .int x1, .int x2] (sh, I) (.returned (some (.int r))) (sh, I9) := by
  refine CT.ofJ "NineDemandsModel" rfl (by decide) (Nat.le_of_ble_eq_true rfl) ?_
  intro p e s m args below meth c C
  unfold f_X9_same at hk
  refine j_lv (lv' := [some (.ref (wad G 27)), some (.int x1), some (.int x2)]) rfl ?_
  refine j_aload_n (pc := 0) C dX9_same_0 rfl rfl ?_
  refine j_iload_n (pc := 1) C dX9_same_1 rfl rfl ?_
  obtain ⟨r2, h1, hk⟩ := ob_some hk
  refine j_callV (pc := 2) C (ct_X9_isSet hS h1) mv_X9_isSet (stM_o hS) rfl rfl q2289 dX9_same_2 rfl rfl (Nat.le_of_ble_eq_true rfl) rfl ?_
  have Jn16 : ∀ (I : II), f_X9_same_J16 F I = some (r, I9) → J G p l e rm_X9_same s m args below meth c 3 (.returned (some (.int r))) (sh, I9) (rm_X9_same).cells (rm_X9_same).slots (sh, I) 0 0 16 [some (.ref (wad G 27)), none, none] [] := by
    intro I hk
    unfold f_X9_same_J16 at hk
    refine j_aload_n (pc := 16) C dX9_same_16 rfl rfl ?_
    refine j_ldc (pc := 17) (v := (-1000001)) C q2110 dX9_same_17 ?_
    obtain ⟨r19, I19, h2, hk⟩ := bd2_some hk
    refine j_callV (pc := 19) C (ct_X9_finding hS h2) mv_X9_finding (stM_o hS) rfl rfl q2111 dX9_same_19 rfl rfl (Nat.le_of_ble_eq_true rfl) rfl ?_
    exact j_iretW (pc := 22) C dX9_same_22 (Nat.le_of_ble_eq_true rfl) (Nat.le_of_ble_eq_true rfl) hk
  refine j_if_eq (pc := 5) 16 C dX9_same_5 (by decide) (fun h3 => ?_) (fun h3 => ?_)
  · have hk := it_t h3 hk
    exact j_mask [true, false, false] (Jn16 _ hk)
  · have hk := it_f h3 hk
    refine j_aload_n (pc := 8) C dX9_same_8 rfl rfl ?_
    refine j_iload_n (pc := 9) C dX9_same_9 rfl rfl ?_
    obtain ⟨r10, h4, hk⟩ := ob_some hk
    refine j_callV (pc := 10) C (ct_X9_isSet hS h4) mv_X9_isSet (stM_o hS) rfl rfl q2289 dX9_same_10 rfl rfl (Nat.le_of_ble_eq_true rfl) rfl ?_
    refine j_if_ne (pc := 13) 23 C dX9_same_13 (by decide) (fun h5 => ?_) (fun h5 => ?_)
    · have hk := it_f h5 hk
      refine j_aload_n (pc := 23) C dX9_same_23 rfl rfl ?_
      refine j_iload_n (pc := 24) C dX9_same_24 rfl rfl ?_
      refine j_iload_n (pc := 25) C dX9_same_25 rfl rfl ?_
      obtain ⟨r26, I26, h6, hk⟩ := bd2_some hk
      refine j_callV (pc := 26) C (ct_X9_allFollow hS h6) mv_X9_allFollow (stM_o hS) rfl rfl q2413 dX9_same_26 rfl rfl (Nat.le_of_ble_eq_true rfl) rfl ?_
      refine j_if_eq (pc := 29) 45 C dX9_same_29 (by decide) (fun h7 => ?_) (fun h7 => ?_)
      · have hk := it_t h7 hk
        refine j_iconst (pc := 45) (v := nI 0) C dX9_same_45 (by decide) ?_
        exact j_iretW (pc := 46) C dX9_same_46 (Nat.le_of_ble_eq_true rfl) (Nat.le_of_ble_eq_true rfl) hk
      · have hk := it_f h7 hk
        refine j_aload_n (pc := 32) C dX9_same_32 rfl rfl ?_
        refine j_iload_n (pc := 33) C dX9_same_33 rfl rfl ?_
        refine j_iload_n (pc := 34) C dX9_same_34 rfl rfl ?_
        obtain ⟨r35, I35, h8, hk⟩ := bd2_some hk
        refine j_callV (pc := 35) C (ct_X9_allFollow hS h8) mv_X9_allFollow (stM_o hS) rfl rfl q2413 dX9_same_35 rfl rfl (Nat.le_of_ble_eq_true rfl) rfl ?_
        refine j_if_eq (pc := 38) 45 C dX9_same_38 (by decide) (fun h9 => ?_) (fun h9 => ?_)
        · have hk := it_t h9 hk
          refine j_iconst (pc := 45) (v := nI 0) C dX9_same_45 (by decide) ?_
          exact j_iretW (pc := 46) C dX9_same_46 (Nat.le_of_ble_eq_true rfl) (Nat.le_of_ble_eq_true rfl) hk
        · have hk := it_f h9 hk
          refine j_iconst (pc := 41) (v := nI 1) C dX9_same_41 (by decide) ?_
          refine j_goto (pc := 42) 46 C dX9_same_42 (by decide) ?_
          exact j_iretW (pc := 46) C dX9_same_46 (Nat.le_of_ble_eq_true rfl) (Nat.le_of_ble_eq_true rfl) hk
    · have hk := it_t h5 hk
      exact j_mask [true, false, false] (Jn16 _ hk)
def f_X9_began (x1 : Int32) (I : II) : Option II := if (nI 40) ≤ (I 27 27) then some I else oix (I 27 27) 40 fun i18 => some (up2 (up2 I 43 i18 x1) 27 27 (((up2 I 43 i18 x1) 27 27) + (nI 1)))
abbrev rm_X9_began : Room := { frames := 0, cells := 0, slots := 0, locals := 0 }
theorem mv_X9_began : MV yX9_began cX9_began 2 none 1 := ⟨q2438, qs89, q106, q2439, by decide +kernel⟩
set_option maxHeartbeats 4000000 in
theorem ct_X9_began {G : WG} {l : Launch} {sh : SH} (hS : StM sh) {I : II} {x1 : Int32} {I9 : II} (hk : f_X9_began x1 I = some I9) : CT G l yX9_began (ws_ yX9_began cX9_began 2 none) rm_X9_began [.ref (wad G 27), .int x1] (sh, I) (.returned none) (sh, I9) := by
  refine CT.ofJ "NineDemandsModel" rfl (by decide) (Nat.le_of_ble_eq_true rfl) ?_
  intro p e s m args below meth c C
  unfold f_X9_began at hk
  refine j_lv (lv' := [some (.ref (wad G 27)), some (.int x1)]) rfl ?_
  refine j_aload_n (pc := 0) C dX9_began_0 rfl rfl ?_
  refine j_getI (pc := 1) C fd_10_27 q2027 (stM_o hS) dX9_began_1 ?_
  refine j_bipush (pc := 4) (v := nI 40) C dX9_began_4 (by decide) ?_
  refine j_icmp_ge (pc := 6) 29 C dX9_began_6 (by decide) (fun h1 => ?_) (fun h1 => ?_)
  · have hk := it_t h1 hk
    exact j_vretW (pc := 29) C dX9_began_29 (Nat.le_of_ble_eq_true rfl) (Nat.le_of_ble_eq_true rfl) hk
  · have hk := it_f h1 hk
    refine j_aload_n (pc := 9) C dX9_began_9 rfl rfl ?_
    refine j_getR (pc := 10) C fd_10_26 q2026 (stM_o hS) (stM_r26 hS) dX9_began_10 ?_
    refine j_aload_n (pc := 13) C dX9_began_13 rfl rfl ?_
    refine j_getI (pc := 14) C fd_10_27 q2027 (stM_o hS) dX9_began_14 ?_
    refine j_iload_n (pc := 17) C dX9_began_17 rfl rfl ?_
    obtain ⟨i18, e18, h2, hk⟩ := oix_ex hk
    refine j_iast (pc := 18) C (stM_a43 hS) h2 e18 dX9_began_18 ?_
    refine j_aload_n (pc := 19) C dX9_began_19 rfl rfl ?_
    refine j_dup (pc := 20) C dX9_began_20 rfl ?_
    refine j_getI (pc := 21) C fd_10_27 q2027 (stM_o hS) dX9_began_21 ?_
    refine j_iconst (pc := 24) (v := nI 1) C dX9_began_24 (by decide) ?_
    refine j_iadd (pc := 25) C dX9_began_25 ?_
    refine j_putI (pc := 26) C fd_10_27 (C.2.2.2.2.1 _ q2027) (stM_o hS) rfl rfl dX9_began_26 ?_
    exact j_vretW (pc := 29) C dX9_began_29 (Nat.le_of_ble_eq_true rfl) (Nat.le_of_ble_eq_true rfl) hk
def f_X9_hasOwn (x0 : Int32) (x1 : Int32) : Option Int32 := if x0 = nI 0 then some (nI 1) else if x0 = nI 1 then if x1 = (nI 1) then some (nI 1) else some (nI 0) else if x0 = nI 2 then if x1 = 0 then some (nI 1) else if x1 = (nI 3) then some (nI 1) else some (nI 0) else if x0 = nI 3 then if x1 = (nI 2) then some (nI 1) else some (nI 0) else if x0 = nI 4 then if x1 = (nI 1) then some (nI 1) else if x1 = (nI 3) then some (nI 1) else some (nI 0) else if x1 = 0 then some (nI 1) else if x1 = (nI 2) then some (nI 1) else some (nI 0)
abbrev rm_X9_hasOwn : Room := { frames := 0, cells := 0, slots := 0, locals := 0 }
theorem ms_X9_hasOwn : MS yX9_hasOwn cX9_hasOwn 2 (some .boolean) 2 := ⟨q2430, q106, q2431, by decide +kernel⟩
set_option maxHeartbeats 4000000 in
theorem ct_X9_hasOwn {G : WG} {l : Launch} {sh : SH} {I : II} {x0 : Int32} {x1 : Int32} {r : Int32} (hk : f_X9_hasOwn x0 x1 = some r) : CT G l yX9_hasOwn (ws_ yX9_hasOwn cX9_hasOwn 2 (some .boolean)) rm_X9_hasOwn [.int x0, .int x1] (sh, I) (.returned (some (.int r))) (sh, I) := by
  refine CT.ofJ "NineDemandsModel" rfl (by decide) (Nat.le_of_ble_eq_true rfl) ?_
  intro p e s m args below meth c C
  unfold f_X9_hasOwn at hk
  refine j_lv (lv' := [some (.int x0), some (.int x1)]) rfl ?_
  refine j_iload_n (pc := 0) C dX9_hasOwn_0 rfl rfl ?_
  by_cases h1 : x0 = nI 0
  · have hk := it_t h1 hk
    refine j_tableIn (pc := 1) 36 0 C dX9_hasOwn_1 (sw_in h1 (by decide)) (by decide) (by decide) rfl (by decide) ?_
    refine j_iconst (pc := 36) (v := nI 1) C dX9_hasOwn_36 (by decide) ?_
    exact j_zretR (pc := 37) C dX9_hasOwn_37 (Nat.le_of_ble_eq_true rfl) (Nat.le_of_ble_eq_true rfl) rfl hk
  have hk := it_f h1 hk
  by_cases h2 : x0 = nI 1
  · have hk := it_t h2 hk
    refine j_tableIn (pc := 1) 38 1 C dX9_hasOwn_1 (sw_in h2 (by decide)) (by decide) (by decide) rfl (by decide) ?_
    refine j_iload_n (pc := 38) C dX9_hasOwn_38 rfl rfl ?_
    refine j_iconst (pc := 39) (v := nI 1) C dX9_hasOwn_39 (by decide) ?_
    refine j_icmp_ne (pc := 40) 47 C dX9_hasOwn_40 (by decide) (fun h3 => ?_) (fun h3 => ?_)
    · have hk := it_f h3 hk
      refine j_iconst (pc := 47) (v := nI 0) C dX9_hasOwn_47 (by decide) ?_
      exact j_zretR (pc := 48) C dX9_hasOwn_48 (Nat.le_of_ble_eq_true rfl) (Nat.le_of_ble_eq_true rfl) rfl hk
    · have hk := it_t h3 hk
      refine j_iconst (pc := 43) (v := nI 1) C dX9_hasOwn_43 (by decide) ?_
      refine j_goto (pc := 44) 48 C dX9_hasOwn_44 (by decide) ?_
      exact j_zretR (pc := 48) C dX9_hasOwn_48 (Nat.le_of_ble_eq_true rfl) (Nat.le_of_ble_eq_true rfl) rfl hk
  have hk := it_f h2 hk
  by_cases h4 : x0 = nI 2
  · have hk := it_t h4 hk
    refine j_tableIn (pc := 1) 49 2 C dX9_hasOwn_1 (sw_in h4 (by decide)) (by decide) (by decide) rfl (by decide) ?_
    refine j_iload_n (pc := 49) C dX9_hasOwn_49 rfl rfl ?_
    refine j_if_eq (pc := 50) 58 C dX9_hasOwn_50 (by decide) (fun h5 => ?_) (fun h5 => ?_)
    · have hk := it_t h5 hk
      refine j_iconst (pc := 58) (v := nI 1) C dX9_hasOwn_58 (by decide) ?_
      refine j_goto (pc := 59) 63 C dX9_hasOwn_59 (by decide) ?_
      exact j_zretR (pc := 63) C dX9_hasOwn_63 (Nat.le_of_ble_eq_true rfl) (Nat.le_of_ble_eq_true rfl) rfl hk
    · have hk := it_f h5 hk
      refine j_iload_n (pc := 53) C dX9_hasOwn_53 rfl rfl ?_
      refine j_iconst (pc := 54) (v := nI 3) C dX9_hasOwn_54 (by decide) ?_
      refine j_icmp_ne (pc := 55) 62 C dX9_hasOwn_55 (by decide) (fun h6 => ?_) (fun h6 => ?_)
      · have hk := it_f h6 hk
        refine j_iconst (pc := 62) (v := nI 0) C dX9_hasOwn_62 (by decide) ?_
        exact j_zretR (pc := 63) C dX9_hasOwn_63 (Nat.le_of_ble_eq_true rfl) (Nat.le_of_ble_eq_true rfl) rfl hk
      · have hk := it_t h6 hk
        refine j_iconst (pc := 58) (v := nI 1) C dX9_hasOwn_58 (by decide) ?_
        refine j_goto (pc := 59) 63 C dX9_hasOwn_59 (by decide) ?_
        exact j_zretR (pc := 63) C dX9_hasOwn_63 (Nat.le_of_ble_eq_true rfl) (Nat.le_of_ble_eq_true rfl) rfl hk
  have hk := it_f h4 hk
  by_cases h7 : x0 = nI 3
  · have hk := it_t h7 hk
    refine j_tableIn (pc := 1) 64 3 C dX9_hasOwn_1 (sw_in h7 (by decide)) (by decide) (by decide) rfl (by decide) ?_
    refine j_iload_n (pc := 64) C dX9_hasOwn_64 rfl rfl ?_
    refine j_iconst (pc := 65) (v := nI 2) C dX9_hasOwn_65 (by decide) ?_
    refine j_icmp_ne (pc := 66) 73 C dX9_hasOwn_66 (by decide) (fun h8 => ?_) (fun h8 => ?_)
    · have hk := it_f h8 hk
      refine j_iconst (pc := 73) (v := nI 0) C dX9_hasOwn_73 (by decide) ?_
      exact j_zretR (pc := 74) C dX9_hasOwn_74 (Nat.le_of_ble_eq_true rfl) (Nat.le_of_ble_eq_true rfl) rfl hk
    · have hk := it_t h8 hk
      refine j_iconst (pc := 69) (v := nI 1) C dX9_hasOwn_69 (by decide) ?_
      refine j_goto (pc := 70) 74 C dX9_hasOwn_70 (by decide) ?_
      exact j_zretR (pc := 74) C dX9_hasOwn_74 (Nat.le_of_ble_eq_true rfl) (Nat.le_of_ble_eq_true rfl) rfl hk
  have hk := it_f h7 hk
  by_cases h9 : x0 = nI 4
  · have hk := it_t h9 hk
    refine j_tableIn (pc := 1) 75 4 C dX9_hasOwn_1 (sw_in h9 (by decide)) (by decide) (by decide) rfl (by decide) ?_
    refine j_iload_n (pc := 75) C dX9_hasOwn_75 rfl rfl ?_
    refine j_iconst (pc := 76) (v := nI 1) C dX9_hasOwn_76 (by decide) ?_
    refine j_icmp_eq (pc := 77) 85 C dX9_hasOwn_77 (by decide) (fun h10 => ?_) (fun h10 => ?_)
    · have hk := it_t h10 hk
      refine j_iconst (pc := 85) (v := nI 1) C dX9_hasOwn_85 (by decide) ?_
      refine j_goto (pc := 86) 90 C dX9_hasOwn_86 (by decide) ?_
      exact j_zretR (pc := 90) C dX9_hasOwn_90 (Nat.le_of_ble_eq_true rfl) (Nat.le_of_ble_eq_true rfl) rfl hk
    · have hk := it_f h10 hk
      refine j_iload_n (pc := 80) C dX9_hasOwn_80 rfl rfl ?_
      refine j_iconst (pc := 81) (v := nI 3) C dX9_hasOwn_81 (by decide) ?_
      refine j_icmp_ne (pc := 82) 89 C dX9_hasOwn_82 (by decide) (fun h11 => ?_) (fun h11 => ?_)
      · have hk := it_f h11 hk
        refine j_iconst (pc := 89) (v := nI 0) C dX9_hasOwn_89 (by decide) ?_
        exact j_zretR (pc := 90) C dX9_hasOwn_90 (Nat.le_of_ble_eq_true rfl) (Nat.le_of_ble_eq_true rfl) rfl hk
      · have hk := it_t h11 hk
        refine j_iconst (pc := 85) (v := nI 1) C dX9_hasOwn_85 (by decide) ?_
        refine j_goto (pc := 86) 90 C dX9_hasOwn_86 (by decide) ?_
        exact j_zretR (pc := 90) C dX9_hasOwn_90 (Nat.le_of_ble_eq_true rfl) (Nat.le_of_ble_eq_true rfl) rfl hk
  have hk := it_f h9 hk
  refine j_tableOut (pc := 1) 91 C dX9_hasOwn_1 (sw_out (lo := 0) (hi := 4) (by decide) (fun j a1 a2 => by
    have a3 : j = 0 ∨ j = 1 ∨ j = 2 ∨ j = 3 ∨ j = 4 := by omega
    rcases a3 with rfl | rfl | rfl | rfl | rfl
    · exact h1
    · exact h2
    · exact h4
    · exact h7
    · exact h9)) (by decide) ?_
  refine j_iload_n (pc := 91) C dX9_hasOwn_91 rfl rfl ?_
  refine j_if_eq (pc := 92) 100 C dX9_hasOwn_92 (by decide) (fun h12 => ?_) (fun h12 => ?_)
  · have hk := it_t h12 hk
    refine j_iconst (pc := 100) (v := nI 1) C dX9_hasOwn_100 (by decide) ?_
    refine j_goto (pc := 101) 105 C dX9_hasOwn_101 (by decide) ?_
    exact j_zretR (pc := 105) C dX9_hasOwn_105 (Nat.le_of_ble_eq_true rfl) (Nat.le_of_ble_eq_true rfl) rfl hk
  · have hk := it_f h12 hk
    refine j_iload_n (pc := 95) C dX9_hasOwn_95 rfl rfl ?_
    refine j_iconst (pc := 96) (v := nI 2) C dX9_hasOwn_96 (by decide) ?_
    refine j_icmp_ne (pc := 97) 104 C dX9_hasOwn_97 (by decide) (fun h13 => ?_) (fun h13 => ?_)
    · have hk := it_f h13 hk
      refine j_iconst (pc := 104) (v := nI 0) C dX9_hasOwn_104 (by decide) ?_
      exact j_zretR (pc := 105) C dX9_hasOwn_105 (Nat.le_of_ble_eq_true rfl) (Nat.le_of_ble_eq_true rfl) rfl hk
    · have hk := it_t h13 hk
      refine j_iconst (pc := 100) (v := nI 1) C dX9_hasOwn_100 (by decide) ?_
      refine j_goto (pc := 101) 105 C dX9_hasOwn_101 (by decide) ?_
      exact j_zretR (pc := 105) C dX9_hasOwn_105 (Nat.le_of_ble_eq_true rfl) (Nat.le_of_ble_eq_true rfl) rfl hk
def fb_X9_body (F : Nat) (c_X9_bodyFrom : Int32 → Int32 → Int32 → II → Option (Int32 × II)) (c_X9_voiced : Int32 → Int32 → II → Option (Int32 × II)) (x1 : Int32) (x2 : Int32) (x3 : Int32) (I : II) : Option (Int32 × II) := oix ((nI 30) + (I 27 28)) 366 fun i11 => if (((nI 4) * x1) + x2) = nI 0 then (f_X9_began (nI 10) I).bind fun I119 => some ((x3 + (I119 27 28)), I119) else if (((nI 4) * x1) + x2) = nI 1 then (f_X9_began (nI 11) I).bind fun I132 => bd2 (c_X9_voiced (nI 0) x3 I132) fun r138 I138 => some ((r138 * (nI 2)), I138) else if (((nI 4) * x1) + x2) = nI 2 then (f_X9_began (nI 12) I).bind fun I147 => some ((x3 - (I 28 i11)), I147) else if (((nI 4) * x1) + x2) = nI 3 then (f_X9_began (nI 13) I).bind fun I158 => bd2 (c_X9_voiced (nI 1) x3 I158) fun r164 I164 => bd2 (c_X9_voiced (nI 2) x3 I164) fun r174 I174 => some ((r164 ^^^ r174), I174) else if (((nI 4) * x1) + x2) = nI 4 then (f_X9_began (nI 61) I).bind fun I312 => bd2 (c_X9_bodyFrom (nI 0) (nI 2) x3 I312) fun r319 I319 => bd2 (c_X9_voiced (nI 0) (nI 1) I319) fun r329 I329 => some ((r319 * r329), I329) else if (((nI 4) * x1) + x2) = nI 5 then (f_X9_began (nI 20) I).bind fun I182 => bd2 (c_X9_bodyFrom (nI 0) (nI 1) x3 I182) fun r189 I189 => bd2 (c_X9_voiced (nI 2) x3 I189) fun r199 I199 => some ((r189 + r199), I199) else if (((nI 4) * x1) + x2) = nI 6 then (f_X9_began (nI 61) I).bind fun I312 => bd2 (c_X9_bodyFrom (nI 0) (nI 2) x3 I312) fun r319 I319 => bd2 (c_X9_voiced (nI 0) (nI 1) I319) fun r329 I329 => some ((r319 * r329), I329) else if (((nI 4) * x1) + x2) = nI 7 then (f_X9_began (nI 61) I).bind fun I312 => bd2 (c_X9_bodyFrom (nI 0) (nI 2) x3 I312) fun r319 I319 => bd2 (c_X9_voiced (nI 0) (nI 1) I319) fun r329 I329 => some ((r319 * r329), I329) else if (((nI 4) * x1) + x2) = nI 8 then (f_X9_began (nI 30) I).bind fun I207 => bd2 (c_X9_bodyFrom (nI 1) (nI 0) x3 I207) fun r214 I214 => some ((r214 - (nI 1)), I214) else if (((nI 4) * x1) + x2) = nI 9 then (f_X9_began (nI 61) I).bind fun I312 => bd2 (c_X9_bodyFrom (nI 0) (nI 2) x3 I312) fun r319 I319 => bd2 (c_X9_voiced (nI 0) (nI 1) I319) fun r329 I329 => some ((r319 * r329), I329) else if (((nI 4) * x1) + x2) = nI 10 then (f_X9_began (nI 61) I).bind fun I312 => bd2 (c_X9_bodyFrom (nI 0) (nI 2) x3 I312) fun r319 I319 => bd2 (c_X9_voiced (nI 0) (nI 1) I319) fun r329 I329 => some ((r319 * r329), I329) else if (((nI 4) * x1) + x2) = nI 11 then (f_X9_began (nI 31) I).bind fun I223 => bd2 (c_X9_bodyFrom (nI 1) (nI 3) (x3 + (nI 1)) I223) fun r232 I232 => some (r232, I232) else if (((nI 4) * x1) + x2) = nI 12 then (f_X9_began (nI 61) I).bind fun I312 => bd2 (c_X9_bodyFrom (nI 0) (nI 2) x3 I312) fun r319 I319 => bd2 (c_X9_voiced (nI 0) (nI 1) I319) fun r329 I329 => some ((r319 * r329), I329) else if (((nI 4) * x1) + x2) = nI 13 then (f_X9_began (nI 61) I).bind fun I312 => bd2 (c_X9_bodyFrom (nI 0) (nI 2) x3 I312) fun r319 I319 => bd2 (c_X9_voiced (nI 0) (nI 1) I319) fun r329 I329 => some ((r319 * r329), I329) else if (((nI 4) * x1) + x2) = nI 14 then (f_X9_began (nI 40) I).bind fun I239 => bd2 (c_X9_bodyFrom (nI 1) (nI 2) x3 I239) fun r246 I246 => some ((-r246), I246) else if (((nI 4) * x1) + x2) = nI 15 then (f_X9_began (nI 61) I).bind fun I312 => bd2 (c_X9_bodyFrom (nI 0) (nI 2) x3 I312) fun r319 I319 => bd2 (c_X9_voiced (nI 0) (nI 1) I319) fun r329 I329 => some ((r319 * r329), I329) else if (((nI 4) * x1) + x2) = nI 16 then (f_X9_began (nI 61) I).bind fun I312 => bd2 (c_X9_bodyFrom (nI 0) (nI 2) x3 I312) fun r319 I319 => bd2 (c_X9_voiced (nI 0) (nI 1) I319) fun r329 I329 => some ((r319 * r329), I329) else if (((nI 4) * x1) + x2) = nI 17 then (f_X9_began (nI 51) I).bind fun I279 => bd2 (c_X9_bodyFrom (nI 1) (nI 1) (x3 - (I 28 i11)) I279) fun r289 I289 => some (r289, I289) else if (((nI 4) * x1) + x2) = nI 18 then (f_X9_began (nI 61) I).bind fun I312 => bd2 (c_X9_bodyFrom (nI 0) (nI 2) x3 I312) fun r319 I319 => bd2 (c_X9_voiced (nI 0) (nI 1) I319) fun r329 I329 => some ((r319 * r329), I329) else if (((nI 4) * x1) + x2) = nI 19 then (f_X9_began (nI 50) I).bind fun I254 => bd2 (c_X9_voiced (nI 2) x3 I254) fun r260 I260 => bd2 (c_X9_bodyFrom (nI 1) (nI 3) x3 I260) fun r271 I271 => some ((r260 - r271), I271) else if (((nI 4) * x1) + x2) = nI 20 then (f_X9_began (nI 60) I).bind fun I296 => bd2 (c_X9_bodyFrom (nI 0) (nI 0) x3 I296) fun r303 I303 => some ((r303 ^^^ (nI 5)), I303) else (f_X9_began (nI 61) I).bind fun I312 => bd2 (c_X9_bodyFrom (nI 0) (nI 2) x3 I312) fun r319 I319 => bd2 (c_X9_voiced (nI 0) (nI 1) I319) fun r329 I329 => some ((r319 * r329), I329)
theorem mv_X9_body : MV yX9_body cX9_body 6 (some .int) 3 := ⟨q2434, qs88, q106, q2435, by decide +kernel⟩
def f_X9_bodyFrom_L3 (F : Nat) (c_X9_body : Int32 → Int32 → Int32 → II → Option (Int32 × II)) (x2 : Int32) (x3 : Int32) : Nat → Int32 → II → Option (Int32 × II)
  | 0, _, _ => none
  | n3 + 1, x4, I => (f_X9_hasOwn x4 x2).bind fun r6 => if r6 = 0 then (f_X9_above x4).bind fun r14 => (f_X9_bodyFrom_L3 F c_X9_body x2 x3 n3) r14 I else bd2 (c_X9_body x4 x2 x3 I) fun r27 I27 => some (r27, I27)
def fb_X9_bodyFrom (F : Nat) (c_X9_body : Int32 → Int32 → Int32 → II → Option (Int32 × II)) (x1 : Int32) (x2 : Int32) (x3 : Int32) (I : II) : Option (Int32 × II) := f_X9_bodyFrom_L3 F c_X9_body x2 x3 F x1 I
theorem mv_X9_bodyFrom : MV yX9_bodyFrom cX9_bodyFrom 5 (some .int) 3 := ⟨q2427, qs87, q106, q2428, by decide +kernel⟩
def fb_X9_voiced (F : Nat) (c_X9_bodyFrom : Int32 → Int32 → Int32 → II → Option (Int32 × II)) (x1 : Int32) (x2 : Int32) (I : II) : Option (Int32 × II) := (f_X9_kindOf (I 27 28) I).bind fun r6 => bd2 (c_X9_bodyFrom r6 x1 x2 I) fun r11 I11 => some (r11, I11)
theorem mv_X9_voiced : MV yX9_voiced cX9_voiced 3 (some .int) 2 := ⟨q2423, qs86, q106, q2424, by decide +kernel⟩
set_option maxHeartbeats 4000000 in
theorem ctb_X9_body {G : WG} {l : Launch} {sh : SH} (hS : StM sh) {Rf Rl : Nat} {fc_X9_bodyFrom lc_X9_bodyFrom : Nat} {fc_X9_voiced lc_X9_voiced : Nat} {c_X9_bodyFrom : Int32 → Int32 → Int32 → II → Option (Int32 × II)} {c_X9_voiced : Int32 → Int32 → II → Option (Int32 × II)} {F : Nat} (hc_X9_bodyFrom : ∀ {x1 : Int32} {x2 : Int32} {x3 : Int32} {I : II} {r : Int32} {I9 : II}, c_X9_bodyFrom x1 x2 x3 I = some (r, I9) → CT G l yX9_bodyFrom (ws_ yX9_bodyFrom cX9_bodyFrom 5 (some .int)) (rmZ fc_X9_bodyFrom lc_X9_bodyFrom) [.ref (wad G 27), .int x1, .int x2, .int x3] (sh, I) (.returned (some (.int r))) (sh, I9)) (hc_X9_voiced : ∀ {x1 : Int32} {x2 : Int32} {I : II} {r : Int32} {I9 : II}, c_X9_voiced x1 x2 I = some (r, I9) → CT G l yX9_voiced (ws_ yX9_voiced cX9_voiced 3 (some .int)) (rmZ fc_X9_voiced lc_X9_voiced) [.ref (wad G 27), .int x1, .int x2] (sh, I) (.returned (some (.int r))) (sh, I9)) (hr_X9_began : rmOK rm_X9_began (rmZ Rf Rl) 2 0 0 = true) (hr_X9_voiced : rmOK (rmZ fc_X9_voiced lc_X9_voiced) (rmZ Rf Rl) 3 0 0 = true) (hr_X9_bodyFrom : rmOK (rmZ fc_X9_bodyFrom lc_X9_bodyFrom) (rmZ Rf Rl) 5 0 0 = true) {I : II} {x1 : Int32} {x2 : Int32} {x3 : Int32} {r : Int32} {I9 : II} (hk : fb_X9_body F c_X9_bodyFrom c_X9_voiced x1 x2 x3 I = some (r, I9)) : CT G l yX9_body (ws_ yX9_body cX9_body 6 (some .int)) (rmZ Rf Rl) [.ref (wad G 27), .int x1, .int x2, .int x3] (sh, I) (.returned (some (.int r))) (sh, I9) := by
  refine CT.ofJ "NineDemandsModel" rfl (by decide) (Nat.le_of_ble_eq_true rfl) ?_
  intro p e s m args below meth c C
  unfold fb_X9_body at hk
  refine j_lv (lv' := [some (.ref (wad G 27)), some (.int x1), some (.int x2), some (.int x3), none, none]) rfl ?_
  refine j_aload_n (pc := 0) C dX9_body_0 rfl rfl ?_
  refine j_getR (pc := 1) C fd_10_0 q2000 (stM_o hS) (stM_r0 hS) dX9_body_1 ?_
  refine j_bipush (pc := 4) (v := nI 30) C dX9_body_4 (by decide) ?_
  refine j_aload_n (pc := 6) C dX9_body_6 rfl rfl ?_
  refine j_getI (pc := 7) C fd_10_28 q2028 (stM_o hS) dX9_body_7 ?_
  refine j_iadd (pc := 10) C dX9_body_10 ?_
  obtain ⟨i11, e11, h1, hk⟩ := oix_ex hk
  refine j_iald (pc := 11) C (stM_a28 hS) h1 e11 dX9_body_11 ?_
  refine j_istore (pc := 12) C dX9_body_12 (Nat.le_of_ble_eq_true rfl) rfl ?_
  refine j_iconst (pc := 14) (v := nI 4) C dX9_body_14 (by decide) ?_
  refine j_iload_n (pc := 15) C dX9_body_15 rfl rfl ?_
  refine j_imul (pc := 16) C dX9_body_16 ?_
  refine j_iload_n (pc := 17) C dX9_body_17 rfl rfl ?_
  refine j_iadd (pc := 18) C dX9_body_18 ?_
  by_cases h2 : (((nI 4) * x1) + x2) = nI 0
  · have hk := it_t h2 hk
    refine j_tableIn (pc := 19) 116 0 C dX9_body_19 (sw_in h2 (by decide)) (by decide) (by decide) rfl (by decide) ?_
    refine j_aload_n (pc := 116) C dX9_body_116 rfl rfl ?_
    refine j_bipush (pc := 117) (v := nI 10) C dX9_body_117 (by decide) ?_
    obtain ⟨I119, h3, hk⟩ := ob_some hk
    refine j_callV (pc := 119) C (ct_X9_began hS h3) mv_X9_began (stM_o hS) rfl rfl q2436 dX9_body_119 rfl rfl (Nat.le_of_ble_eq_true rfl) hr_X9_began ?_
    refine j_iload_n (pc := 122) C dX9_body_122 rfl rfl ?_
    refine j_aload_n (pc := 123) C dX9_body_123 rfl rfl ?_
    refine j_getI (pc := 124) C fd_10_28 q2028 (stM_o hS) dX9_body_124 ?_
    refine j_iadd (pc := 127) C dX9_body_127 ?_
    exact j_iretW (pc := 128) C dX9_body_128 (Nat.zero_le _) (Nat.zero_le _) hk
  have hk := it_f h2 hk
  by_cases h4 : (((nI 4) * x1) + x2) = nI 1
  · have hk := it_t h4 hk
    refine j_tableIn (pc := 19) 129 1 C dX9_body_19 (sw_in h4 (by decide)) (by decide) (by decide) rfl (by decide) ?_
    refine j_aload_n (pc := 129) C dX9_body_129 rfl rfl ?_
    refine j_bipush (pc := 130) (v := nI 11) C dX9_body_130 (by decide) ?_
    obtain ⟨I132, h5, hk⟩ := ob_some hk
    refine j_callV (pc := 132) C (ct_X9_began hS h5) mv_X9_began (stM_o hS) rfl rfl q2436 dX9_body_132 rfl rfl (Nat.le_of_ble_eq_true rfl) hr_X9_began ?_
    refine j_aload_n (pc := 135) C dX9_body_135 rfl rfl ?_
    refine j_iconst (pc := 136) (v := nI 0) C dX9_body_136 (by decide) ?_
    refine j_iload_n (pc := 137) C dX9_body_137 rfl rfl ?_
    obtain ⟨r138, I138, h6, hk⟩ := bd2_some hk
    refine j_callV (pc := 138) C (hc_X9_voiced h6) mv_X9_voiced (stM_o hS) rfl rfl q2421 dX9_body_138 rfl rfl (Nat.le_of_ble_eq_true rfl) hr_X9_voiced ?_
    refine j_iconst (pc := 141) (v := nI 2) C dX9_body_141 (by decide) ?_
    refine j_imul (pc := 142) C dX9_body_142 ?_
    exact j_iretW (pc := 143) C dX9_body_143 (Nat.zero_le _) (Nat.zero_le _) hk
  have hk := it_f h4 hk
  by_cases h7 : (((nI 4) * x1) + x2) = nI 2
  · have hk := it_t h7 hk
    refine j_tableIn (pc := 19) 144 2 C dX9_body_19 (sw_in h7 (by decide)) (by decide) (by decide) rfl (by decide) ?_
    refine j_aload_n (pc := 144) C dX9_body_144 rfl rfl ?_
    refine j_bipush (pc := 145) (v := nI 12) C dX9_body_145 (by decide) ?_
    obtain ⟨I147, h8, hk⟩ := ob_some hk
    refine j_callV (pc := 147) C (ct_X9_began hS h8) mv_X9_began (stM_o hS) rfl rfl q2436 dX9_body_147 rfl rfl (Nat.le_of_ble_eq_true rfl) hr_X9_began ?_
    refine j_iload_n (pc := 150) C dX9_body_150 rfl rfl ?_
    refine j_iload (pc := 151) C dX9_body_151 rfl ?_
    refine j_isub (pc := 153) C dX9_body_153 ?_
    exact j_iretW (pc := 154) C dX9_body_154 (Nat.zero_le _) (Nat.zero_le _) hk
  have hk := it_f h7 hk
  by_cases h9 : (((nI 4) * x1) + x2) = nI 3
  · have hk := it_t h9 hk
    refine j_tableIn (pc := 19) 155 3 C dX9_body_19 (sw_in h9 (by decide)) (by decide) (by decide) rfl (by decide) ?_
    refine j_aload_n (pc := 155) C dX9_body_155 rfl rfl ?_
    refine j_bipush (pc := 156) (v := nI 13) C dX9_body_156 (by decide) ?_
    obtain ⟨I158, h10, hk⟩ := ob_some hk
    refine j_callV (pc := 158) C (ct_X9_began hS h10) mv_X9_began (stM_o hS) rfl rfl q2436 dX9_body_158 rfl rfl (Nat.le_of_ble_eq_true rfl) hr_X9_began ?_
    refine j_aload_n (pc := 161) C dX9_body_161 rfl rfl ?_
    refine j_iconst (pc := 162) (v := nI 1) C dX9_body_162 (by decide) ?_
    refine j_iload_n (pc := 163) C dX9_body_163 rfl rfl ?_
    obtain ⟨r164, I164, h11, hk⟩ := bd2_some hk
    refine j_callV (pc := 164) C (hc_X9_voiced h11) mv_X9_voiced (stM_o hS) rfl rfl q2421 dX9_body_164 rfl rfl (Nat.le_of_ble_eq_true rfl) hr_X9_voiced ?_
    refine j_istore (pc := 167) C dX9_body_167 (Nat.le_of_ble_eq_true rfl) rfl ?_
    refine j_iload (pc := 169) C dX9_body_169 rfl ?_
    refine j_aload_n (pc := 171) C dX9_body_171 rfl rfl ?_
    refine j_iconst (pc := 172) (v := nI 2) C dX9_body_172 (by decide) ?_
    refine j_iload_n (pc := 173) C dX9_body_173 rfl rfl ?_
    obtain ⟨r174, I174, h12, hk⟩ := bd2_some hk
    refine j_callV (pc := 174) C (hc_X9_voiced h12) mv_X9_voiced (stM_o hS) rfl rfl q2421 dX9_body_174 rfl rfl (Nat.le_of_ble_eq_true rfl) hr_X9_voiced ?_
    refine j_ixor (pc := 177) C dX9_body_177 ?_
    exact j_iretW (pc := 178) C dX9_body_178 (Nat.zero_le _) (Nat.zero_le _) hk
  have hk := it_f h9 hk
  by_cases h13 : (((nI 4) * x1) + x2) = nI 4
  · have hk := it_t h13 hk
    refine j_tableIn (pc := 19) 309 4 C dX9_body_19 (sw_in h13 (by decide)) (by decide) (by decide) rfl (by decide) ?_
    refine j_aload_n (pc := 309) C dX9_body_309 rfl rfl ?_
    refine j_bipush (pc := 310) (v := nI 61) C dX9_body_310 (by decide) ?_
    obtain ⟨I312, h14, hk⟩ := ob_some hk
    refine j_callV (pc := 312) C (ct_X9_began hS h14) mv_X9_began (stM_o hS) rfl rfl q2436 dX9_body_312 rfl rfl (Nat.le_of_ble_eq_true rfl) hr_X9_began ?_
    refine j_aload_n (pc := 315) C dX9_body_315 rfl rfl ?_
    refine j_iconst (pc := 316) (v := nI 0) C dX9_body_316 (by decide) ?_
    refine j_iconst (pc := 317) (v := nI 2) C dX9_body_317 (by decide) ?_
    refine j_iload_n (pc := 318) C dX9_body_318 rfl rfl ?_
    obtain ⟨r319, I319, h15, hk⟩ := bd2_some hk
    refine j_callV (pc := 319) C (hc_X9_bodyFrom h15) mv_X9_bodyFrom (stM_o hS) rfl rfl q2425 dX9_body_319 rfl rfl (Nat.le_of_ble_eq_true rfl) hr_X9_bodyFrom ?_
    refine j_istore (pc := 322) C dX9_body_322 (Nat.le_of_ble_eq_true rfl) rfl ?_
    refine j_iload (pc := 324) C dX9_body_324 rfl ?_
    refine j_aload_n (pc := 326) C dX9_body_326 rfl rfl ?_
    refine j_iconst (pc := 327) (v := nI 0) C dX9_body_327 (by decide) ?_
    refine j_iconst (pc := 328) (v := nI 1) C dX9_body_328 (by decide) ?_
    obtain ⟨r329, I329, h16, hk⟩ := bd2_some hk
    refine j_callV (pc := 329) C (hc_X9_voiced h16) mv_X9_voiced (stM_o hS) rfl rfl q2421 dX9_body_329 rfl rfl (Nat.le_of_ble_eq_true rfl) hr_X9_voiced ?_
    refine j_imul (pc := 332) C dX9_body_332 ?_
    exact j_iretW (pc := 333) C dX9_body_333 (Nat.zero_le _) (Nat.zero_le _) hk
  have hk := it_f h13 hk
  by_cases h17 : (((nI 4) * x1) + x2) = nI 5
  · have hk := it_t h17 hk
    refine j_tableIn (pc := 19) 179 5 C dX9_body_19 (sw_in h17 (by decide)) (by decide) (by decide) rfl (by decide) ?_
    refine j_aload_n (pc := 179) C dX9_body_179 rfl rfl ?_
    refine j_bipush (pc := 180) (v := nI 20) C dX9_body_180 (by decide) ?_
    obtain ⟨I182, h18, hk⟩ := ob_some hk
    refine j_callV (pc := 182) C (ct_X9_began hS h18) mv_X9_began (stM_o hS) rfl rfl q2436 dX9_body_182 rfl rfl (Nat.le_of_ble_eq_true rfl) hr_X9_began ?_
    refine j_aload_n (pc := 185) C dX9_body_185 rfl rfl ?_
    refine j_iconst (pc := 186) (v := nI 0) C dX9_body_186 (by decide) ?_
    refine j_iconst (pc := 187) (v := nI 1) C dX9_body_187 (by decide) ?_
    refine j_iload_n (pc := 188) C dX9_body_188 rfl rfl ?_
    obtain ⟨r189, I189, h19, hk⟩ := bd2_some hk
    refine j_callV (pc := 189) C (hc_X9_bodyFrom h19) mv_X9_bodyFrom (stM_o hS) rfl rfl q2425 dX9_body_189 rfl rfl (Nat.le_of_ble_eq_true rfl) hr_X9_bodyFrom ?_
    refine j_istore (pc := 192) C dX9_body_192 (Nat.le_of_ble_eq_true rfl) rfl ?_
    refine j_iload (pc := 194) C dX9_body_194 rfl ?_
    refine j_aload_n (pc := 196) C dX9_body_196 rfl rfl ?_
    refine j_iconst (pc := 197) (v := nI 2) C dX9_body_197 (by decide) ?_
    refine j_iload_n (pc := 198) C dX9_body_198 rfl rfl ?_
    obtain ⟨r199, I199, h20, hk⟩ := bd2_some hk
    refine j_callV (pc := 199) C (hc_X9_voiced h20) mv_X9_voiced (stM_o hS) rfl rfl q2421 dX9_body_199 rfl rfl (Nat.le_of_ble_eq_true rfl) hr_X9_voiced ?_
    refine j_iadd (pc := 202) C dX9_body_202 ?_
    exact j_iretW (pc := 203) C dX9_body_203 (Nat.zero_le _) (Nat.zero_le _) hk
  have hk := it_f h17 hk
  by_cases h21 : (((nI 4) * x1) + x2) = nI 6
  · have hk := it_t h21 hk
    refine j_tableIn (pc := 19) 309 6 C dX9_body_19 (sw_in h21 (by decide)) (by decide) (by decide) rfl (by decide) ?_
    refine j_aload_n (pc := 309) C dX9_body_309 rfl rfl ?_
    refine j_bipush (pc := 310) (v := nI 61) C dX9_body_310 (by decide) ?_
    obtain ⟨I312, h22, hk⟩ := ob_some hk
    refine j_callV (pc := 312) C (ct_X9_began hS h22) mv_X9_began (stM_o hS) rfl rfl q2436 dX9_body_312 rfl rfl (Nat.le_of_ble_eq_true rfl) hr_X9_began ?_
    refine j_aload_n (pc := 315) C dX9_body_315 rfl rfl ?_
    refine j_iconst (pc := 316) (v := nI 0) C dX9_body_316 (by decide) ?_
    refine j_iconst (pc := 317) (v := nI 2) C dX9_body_317 (by decide) ?_
    refine j_iload_n (pc := 318) C dX9_body_318 rfl rfl ?_
    obtain ⟨r319, I319, h23, hk⟩ := bd2_some hk
    refine j_callV (pc := 319) C (hc_X9_bodyFrom h23) mv_X9_bodyFrom (stM_o hS) rfl rfl q2425 dX9_body_319 rfl rfl (Nat.le_of_ble_eq_true rfl) hr_X9_bodyFrom ?_
    refine j_istore (pc := 322) C dX9_body_322 (Nat.le_of_ble_eq_true rfl) rfl ?_
    refine j_iload (pc := 324) C dX9_body_324 rfl ?_
    refine j_aload_n (pc := 326) C dX9_body_326 rfl rfl ?_
    refine j_iconst (pc := 327) (v := nI 0) C dX9_body_327 (by decide) ?_
    refine j_iconst (pc := 328) (v := nI 1) C dX9_body_328 (by decide) ?_
    obtain ⟨r329, I329, h24, hk⟩ := bd2_some hk
    refine j_callV (pc := 329) C (hc_X9_voiced h24) mv_X9_voiced (stM_o hS) rfl rfl q2421 dX9_body_329 rfl rfl (Nat.le_of_ble_eq_true rfl) hr_X9_voiced ?_
    refine j_imul (pc := 332) C dX9_body_332 ?_
    exact j_iretW (pc := 333) C dX9_body_333 (Nat.zero_le _) (Nat.zero_le _) hk
  have hk := it_f h21 hk
  by_cases h25 : (((nI 4) * x1) + x2) = nI 7
  · have hk := it_t h25 hk
    refine j_tableIn (pc := 19) 309 7 C dX9_body_19 (sw_in h25 (by decide)) (by decide) (by decide) rfl (by decide) ?_
    refine j_aload_n (pc := 309) C dX9_body_309 rfl rfl ?_
    refine j_bipush (pc := 310) (v := nI 61) C dX9_body_310 (by decide) ?_
    obtain ⟨I312, h26, hk⟩ := ob_some hk
    refine j_callV (pc := 312) C (ct_X9_began hS h26) mv_X9_began (stM_o hS) rfl rfl q2436 dX9_body_312 rfl rfl (Nat.le_of_ble_eq_true rfl) hr_X9_began ?_
    refine j_aload_n (pc := 315) C dX9_body_315 rfl rfl ?_
    refine j_iconst (pc := 316) (v := nI 0) C dX9_body_316 (by decide) ?_
    refine j_iconst (pc := 317) (v := nI 2) C dX9_body_317 (by decide) ?_
    refine j_iload_n (pc := 318) C dX9_body_318 rfl rfl ?_
    obtain ⟨r319, I319, h27, hk⟩ := bd2_some hk
    refine j_callV (pc := 319) C (hc_X9_bodyFrom h27) mv_X9_bodyFrom (stM_o hS) rfl rfl q2425 dX9_body_319 rfl rfl (Nat.le_of_ble_eq_true rfl) hr_X9_bodyFrom ?_
    refine j_istore (pc := 322) C dX9_body_322 (Nat.le_of_ble_eq_true rfl) rfl ?_
    refine j_iload (pc := 324) C dX9_body_324 rfl ?_
    refine j_aload_n (pc := 326) C dX9_body_326 rfl rfl ?_
    refine j_iconst (pc := 327) (v := nI 0) C dX9_body_327 (by decide) ?_
    refine j_iconst (pc := 328) (v := nI 1) C dX9_body_328 (by decide) ?_
    obtain ⟨r329, I329, h28, hk⟩ := bd2_some hk
    refine j_callV (pc := 329) C (hc_X9_voiced h28) mv_X9_voiced (stM_o hS) rfl rfl q2421 dX9_body_329 rfl rfl (Nat.le_of_ble_eq_true rfl) hr_X9_voiced ?_
    refine j_imul (pc := 332) C dX9_body_332 ?_
    exact j_iretW (pc := 333) C dX9_body_333 (Nat.zero_le _) (Nat.zero_le _) hk
  have hk := it_f h25 hk
  by_cases h29 : (((nI 4) * x1) + x2) = nI 8
  · have hk := it_t h29 hk
    refine j_tableIn (pc := 19) 204 8 C dX9_body_19 (sw_in h29 (by decide)) (by decide) (by decide) rfl (by decide) ?_
    refine j_aload_n (pc := 204) C dX9_body_204 rfl rfl ?_
    refine j_bipush (pc := 205) (v := nI 30) C dX9_body_205 (by decide) ?_
    obtain ⟨I207, h30, hk⟩ := ob_some hk
    refine j_callV (pc := 207) C (ct_X9_began hS h30) mv_X9_began (stM_o hS) rfl rfl q2436 dX9_body_207 rfl rfl (Nat.le_of_ble_eq_true rfl) hr_X9_began ?_
    refine j_aload_n (pc := 210) C dX9_body_210 rfl rfl ?_
    refine j_iconst (pc := 211) (v := nI 1) C dX9_body_211 (by decide) ?_
    refine j_iconst (pc := 212) (v := nI 0) C dX9_body_212 (by decide) ?_
    refine j_iload_n (pc := 213) C dX9_body_213 rfl rfl ?_
    obtain ⟨r214, I214, h31, hk⟩ := bd2_some hk
    refine j_callV (pc := 214) C (hc_X9_bodyFrom h31) mv_X9_bodyFrom (stM_o hS) rfl rfl q2425 dX9_body_214 rfl rfl (Nat.le_of_ble_eq_true rfl) hr_X9_bodyFrom ?_
    refine j_iconst (pc := 217) (v := nI 1) C dX9_body_217 (by decide) ?_
    refine j_isub (pc := 218) C dX9_body_218 ?_
    exact j_iretW (pc := 219) C dX9_body_219 (Nat.zero_le _) (Nat.zero_le _) hk
  have hk := it_f h29 hk
  by_cases h32 : (((nI 4) * x1) + x2) = nI 9
  · have hk := it_t h32 hk
    refine j_tableIn (pc := 19) 309 9 C dX9_body_19 (sw_in h32 (by decide)) (by decide) (by decide) rfl (by decide) ?_
    refine j_aload_n (pc := 309) C dX9_body_309 rfl rfl ?_
    refine j_bipush (pc := 310) (v := nI 61) C dX9_body_310 (by decide) ?_
    obtain ⟨I312, h33, hk⟩ := ob_some hk
    refine j_callV (pc := 312) C (ct_X9_began hS h33) mv_X9_began (stM_o hS) rfl rfl q2436 dX9_body_312 rfl rfl (Nat.le_of_ble_eq_true rfl) hr_X9_began ?_
    refine j_aload_n (pc := 315) C dX9_body_315 rfl rfl ?_
    refine j_iconst (pc := 316) (v := nI 0) C dX9_body_316 (by decide) ?_
    refine j_iconst (pc := 317) (v := nI 2) C dX9_body_317 (by decide) ?_
    refine j_iload_n (pc := 318) C dX9_body_318 rfl rfl ?_
    obtain ⟨r319, I319, h34, hk⟩ := bd2_some hk
    refine j_callV (pc := 319) C (hc_X9_bodyFrom h34) mv_X9_bodyFrom (stM_o hS) rfl rfl q2425 dX9_body_319 rfl rfl (Nat.le_of_ble_eq_true rfl) hr_X9_bodyFrom ?_
    refine j_istore (pc := 322) C dX9_body_322 (Nat.le_of_ble_eq_true rfl) rfl ?_
    refine j_iload (pc := 324) C dX9_body_324 rfl ?_
    refine j_aload_n (pc := 326) C dX9_body_326 rfl rfl ?_
    refine j_iconst (pc := 327) (v := nI 0) C dX9_body_327 (by decide) ?_
    refine j_iconst (pc := 328) (v := nI 1) C dX9_body_328 (by decide) ?_
    obtain ⟨r329, I329, h35, hk⟩ := bd2_some hk
    refine j_callV (pc := 329) C (hc_X9_voiced h35) mv_X9_voiced (stM_o hS) rfl rfl q2421 dX9_body_329 rfl rfl (Nat.le_of_ble_eq_true rfl) hr_X9_voiced ?_
    refine j_imul (pc := 332) C dX9_body_332 ?_
    exact j_iretW (pc := 333) C dX9_body_333 (Nat.zero_le _) (Nat.zero_le _) hk
  have hk := it_f h32 hk
  by_cases h36 : (((nI 4) * x1) + x2) = nI 10
  · have hk := it_t h36 hk
    refine j_tableIn (pc := 19) 309 10 C dX9_body_19 (sw_in h36 (by decide)) (by decide) (by decide) rfl (by decide) ?_
    refine j_aload_n (pc := 309) C dX9_body_309 rfl rfl ?_
    refine j_bipush (pc := 310) (v := nI 61) C dX9_body_310 (by decide) ?_
    obtain ⟨I312, h37, hk⟩ := ob_some hk
    refine j_callV (pc := 312) C (ct_X9_began hS h37) mv_X9_began (stM_o hS) rfl rfl q2436 dX9_body_312 rfl rfl (Nat.le_of_ble_eq_true rfl) hr_X9_began ?_
    refine j_aload_n (pc := 315) C dX9_body_315 rfl rfl ?_
    refine j_iconst (pc := 316) (v := nI 0) C dX9_body_316 (by decide) ?_
    refine j_iconst (pc := 317) (v := nI 2) C dX9_body_317 (by decide) ?_
    refine j_iload_n (pc := 318) C dX9_body_318 rfl rfl ?_
    obtain ⟨r319, I319, h38, hk⟩ := bd2_some hk
    refine j_callV (pc := 319) C (hc_X9_bodyFrom h38) mv_X9_bodyFrom (stM_o hS) rfl rfl q2425 dX9_body_319 rfl rfl (Nat.le_of_ble_eq_true rfl) hr_X9_bodyFrom ?_
    refine j_istore (pc := 322) C dX9_body_322 (Nat.le_of_ble_eq_true rfl) rfl ?_
    refine j_iload (pc := 324) C dX9_body_324 rfl ?_
    refine j_aload_n (pc := 326) C dX9_body_326 rfl rfl ?_
    refine j_iconst (pc := 327) (v := nI 0) C dX9_body_327 (by decide) ?_
    refine j_iconst (pc := 328) (v := nI 1) C dX9_body_328 (by decide) ?_
    obtain ⟨r329, I329, h39, hk⟩ := bd2_some hk
    refine j_callV (pc := 329) C (hc_X9_voiced h39) mv_X9_voiced (stM_o hS) rfl rfl q2421 dX9_body_329 rfl rfl (Nat.le_of_ble_eq_true rfl) hr_X9_voiced ?_
    refine j_imul (pc := 332) C dX9_body_332 ?_
    exact j_iretW (pc := 333) C dX9_body_333 (Nat.zero_le _) (Nat.zero_le _) hk
  have hk := it_f h36 hk
  by_cases h40 : (((nI 4) * x1) + x2) = nI 11
  · have hk := it_t h40 hk
    refine j_tableIn (pc := 19) 220 11 C dX9_body_19 (sw_in h40 (by decide)) (by decide) (by decide) rfl (by decide) ?_
    refine j_aload_n (pc := 220) C dX9_body_220 rfl rfl ?_
    refine j_bipush (pc := 221) (v := nI 31) C dX9_body_221 (by decide) ?_
    obtain ⟨I223, h41, hk⟩ := ob_some hk
    refine j_callV (pc := 223) C (ct_X9_began hS h41) mv_X9_began (stM_o hS) rfl rfl q2436 dX9_body_223 rfl rfl (Nat.le_of_ble_eq_true rfl) hr_X9_began ?_
    refine j_aload_n (pc := 226) C dX9_body_226 rfl rfl ?_
    refine j_iconst (pc := 227) (v := nI 1) C dX9_body_227 (by decide) ?_
    refine j_iconst (pc := 228) (v := nI 3) C dX9_body_228 (by decide) ?_
    refine j_iload_n (pc := 229) C dX9_body_229 rfl rfl ?_
    refine j_iconst (pc := 230) (v := nI 1) C dX9_body_230 (by decide) ?_
    refine j_iadd (pc := 231) C dX9_body_231 ?_
    obtain ⟨r232, I232, h42, hk⟩ := bd2_some hk
    refine j_callV (pc := 232) C (hc_X9_bodyFrom h42) mv_X9_bodyFrom (stM_o hS) rfl rfl q2425 dX9_body_232 rfl rfl (Nat.le_of_ble_eq_true rfl) hr_X9_bodyFrom ?_
    exact j_iretW (pc := 235) C dX9_body_235 (Nat.zero_le _) (Nat.zero_le _) hk
  have hk := it_f h40 hk
  by_cases h43 : (((nI 4) * x1) + x2) = nI 12
  · have hk := it_t h43 hk
    refine j_tableIn (pc := 19) 309 12 C dX9_body_19 (sw_in h43 (by decide)) (by decide) (by decide) rfl (by decide) ?_
    refine j_aload_n (pc := 309) C dX9_body_309 rfl rfl ?_
    refine j_bipush (pc := 310) (v := nI 61) C dX9_body_310 (by decide) ?_
    obtain ⟨I312, h44, hk⟩ := ob_some hk
    refine j_callV (pc := 312) C (ct_X9_began hS h44) mv_X9_began (stM_o hS) rfl rfl q2436 dX9_body_312 rfl rfl (Nat.le_of_ble_eq_true rfl) hr_X9_began ?_
    refine j_aload_n (pc := 315) C dX9_body_315 rfl rfl ?_
    refine j_iconst (pc := 316) (v := nI 0) C dX9_body_316 (by decide) ?_
    refine j_iconst (pc := 317) (v := nI 2) C dX9_body_317 (by decide) ?_
    refine j_iload_n (pc := 318) C dX9_body_318 rfl rfl ?_
    obtain ⟨r319, I319, h45, hk⟩ := bd2_some hk
    refine j_callV (pc := 319) C (hc_X9_bodyFrom h45) mv_X9_bodyFrom (stM_o hS) rfl rfl q2425 dX9_body_319 rfl rfl (Nat.le_of_ble_eq_true rfl) hr_X9_bodyFrom ?_
    refine j_istore (pc := 322) C dX9_body_322 (Nat.le_of_ble_eq_true rfl) rfl ?_
    refine j_iload (pc := 324) C dX9_body_324 rfl ?_
    refine j_aload_n (pc := 326) C dX9_body_326 rfl rfl ?_
    refine j_iconst (pc := 327) (v := nI 0) C dX9_body_327 (by decide) ?_
    refine j_iconst (pc := 328) (v := nI 1) C dX9_body_328 (by decide) ?_
    obtain ⟨r329, I329, h46, hk⟩ := bd2_some hk
    refine j_callV (pc := 329) C (hc_X9_voiced h46) mv_X9_voiced (stM_o hS) rfl rfl q2421 dX9_body_329 rfl rfl (Nat.le_of_ble_eq_true rfl) hr_X9_voiced ?_
    refine j_imul (pc := 332) C dX9_body_332 ?_
    exact j_iretW (pc := 333) C dX9_body_333 (Nat.zero_le _) (Nat.zero_le _) hk
  have hk := it_f h43 hk
  by_cases h47 : (((nI 4) * x1) + x2) = nI 13
  · have hk := it_t h47 hk
    refine j_tableIn (pc := 19) 309 13 C dX9_body_19 (sw_in h47 (by decide)) (by decide) (by decide) rfl (by decide) ?_
    refine j_aload_n (pc := 309) C dX9_body_309 rfl rfl ?_
    refine j_bipush (pc := 310) (v := nI 61) C dX9_body_310 (by decide) ?_
    obtain ⟨I312, h48, hk⟩ := ob_some hk
    refine j_callV (pc := 312) C (ct_X9_began hS h48) mv_X9_began (stM_o hS) rfl rfl q2436 dX9_body_312 rfl rfl (Nat.le_of_ble_eq_true rfl) hr_X9_began ?_
    refine j_aload_n (pc := 315) C dX9_body_315 rfl rfl ?_
    refine j_iconst (pc := 316) (v := nI 0) C dX9_body_316 (by decide) ?_
    refine j_iconst (pc := 317) (v := nI 2) C dX9_body_317 (by decide) ?_
    refine j_iload_n (pc := 318) C dX9_body_318 rfl rfl ?_
    obtain ⟨r319, I319, h49, hk⟩ := bd2_some hk
    refine j_callV (pc := 319) C (hc_X9_bodyFrom h49) mv_X9_bodyFrom (stM_o hS) rfl rfl q2425 dX9_body_319 rfl rfl (Nat.le_of_ble_eq_true rfl) hr_X9_bodyFrom ?_
    refine j_istore (pc := 322) C dX9_body_322 (Nat.le_of_ble_eq_true rfl) rfl ?_
    refine j_iload (pc := 324) C dX9_body_324 rfl ?_
    refine j_aload_n (pc := 326) C dX9_body_326 rfl rfl ?_
    refine j_iconst (pc := 327) (v := nI 0) C dX9_body_327 (by decide) ?_
    refine j_iconst (pc := 328) (v := nI 1) C dX9_body_328 (by decide) ?_
    obtain ⟨r329, I329, h50, hk⟩ := bd2_some hk
    refine j_callV (pc := 329) C (hc_X9_voiced h50) mv_X9_voiced (stM_o hS) rfl rfl q2421 dX9_body_329 rfl rfl (Nat.le_of_ble_eq_true rfl) hr_X9_voiced ?_
    refine j_imul (pc := 332) C dX9_body_332 ?_
    exact j_iretW (pc := 333) C dX9_body_333 (Nat.zero_le _) (Nat.zero_le _) hk
  have hk := it_f h47 hk
  by_cases h51 : (((nI 4) * x1) + x2) = nI 14
  · have hk := it_t h51 hk
    refine j_tableIn (pc := 19) 236 14 C dX9_body_19 (sw_in h51 (by decide)) (by decide) (by decide) rfl (by decide) ?_
    refine j_aload_n (pc := 236) C dX9_body_236 rfl rfl ?_
    refine j_bipush (pc := 237) (v := nI 40) C dX9_body_237 (by decide) ?_
    obtain ⟨I239, h52, hk⟩ := ob_some hk
    refine j_callV (pc := 239) C (ct_X9_began hS h52) mv_X9_began (stM_o hS) rfl rfl q2436 dX9_body_239 rfl rfl (Nat.le_of_ble_eq_true rfl) hr_X9_began ?_
    refine j_aload_n (pc := 242) C dX9_body_242 rfl rfl ?_
    refine j_iconst (pc := 243) (v := nI 1) C dX9_body_243 (by decide) ?_
    refine j_iconst (pc := 244) (v := nI 2) C dX9_body_244 (by decide) ?_
    refine j_iload_n (pc := 245) C dX9_body_245 rfl rfl ?_
    obtain ⟨r246, I246, h53, hk⟩ := bd2_some hk
    refine j_callV (pc := 246) C (hc_X9_bodyFrom h53) mv_X9_bodyFrom (stM_o hS) rfl rfl q2425 dX9_body_246 rfl rfl (Nat.le_of_ble_eq_true rfl) hr_X9_bodyFrom ?_
    refine j_ineg (pc := 249) C dX9_body_249 ?_
    exact j_iretW (pc := 250) C dX9_body_250 (Nat.zero_le _) (Nat.zero_le _) hk
  have hk := it_f h51 hk
  by_cases h54 : (((nI 4) * x1) + x2) = nI 15
  · have hk := it_t h54 hk
    refine j_tableIn (pc := 19) 309 15 C dX9_body_19 (sw_in h54 (by decide)) (by decide) (by decide) rfl (by decide) ?_
    refine j_aload_n (pc := 309) C dX9_body_309 rfl rfl ?_
    refine j_bipush (pc := 310) (v := nI 61) C dX9_body_310 (by decide) ?_
    obtain ⟨I312, h55, hk⟩ := ob_some hk
    refine j_callV (pc := 312) C (ct_X9_began hS h55) mv_X9_began (stM_o hS) rfl rfl q2436 dX9_body_312 rfl rfl (Nat.le_of_ble_eq_true rfl) hr_X9_began ?_
    refine j_aload_n (pc := 315) C dX9_body_315 rfl rfl ?_
    refine j_iconst (pc := 316) (v := nI 0) C dX9_body_316 (by decide) ?_
    refine j_iconst (pc := 317) (v := nI 2) C dX9_body_317 (by decide) ?_
    refine j_iload_n (pc := 318) C dX9_body_318 rfl rfl ?_
    obtain ⟨r319, I319, h56, hk⟩ := bd2_some hk
    refine j_callV (pc := 319) C (hc_X9_bodyFrom h56) mv_X9_bodyFrom (stM_o hS) rfl rfl q2425 dX9_body_319 rfl rfl (Nat.le_of_ble_eq_true rfl) hr_X9_bodyFrom ?_
    refine j_istore (pc := 322) C dX9_body_322 (Nat.le_of_ble_eq_true rfl) rfl ?_
    refine j_iload (pc := 324) C dX9_body_324 rfl ?_
    refine j_aload_n (pc := 326) C dX9_body_326 rfl rfl ?_
    refine j_iconst (pc := 327) (v := nI 0) C dX9_body_327 (by decide) ?_
    refine j_iconst (pc := 328) (v := nI 1) C dX9_body_328 (by decide) ?_
    obtain ⟨r329, I329, h57, hk⟩ := bd2_some hk
    refine j_callV (pc := 329) C (hc_X9_voiced h57) mv_X9_voiced (stM_o hS) rfl rfl q2421 dX9_body_329 rfl rfl (Nat.le_of_ble_eq_true rfl) hr_X9_voiced ?_
    refine j_imul (pc := 332) C dX9_body_332 ?_
    exact j_iretW (pc := 333) C dX9_body_333 (Nat.zero_le _) (Nat.zero_le _) hk
  have hk := it_f h54 hk
  by_cases h58 : (((nI 4) * x1) + x2) = nI 16
  · have hk := it_t h58 hk
    refine j_tableIn (pc := 19) 309 16 C dX9_body_19 (sw_in h58 (by decide)) (by decide) (by decide) rfl (by decide) ?_
    refine j_aload_n (pc := 309) C dX9_body_309 rfl rfl ?_
    refine j_bipush (pc := 310) (v := nI 61) C dX9_body_310 (by decide) ?_
    obtain ⟨I312, h59, hk⟩ := ob_some hk
    refine j_callV (pc := 312) C (ct_X9_began hS h59) mv_X9_began (stM_o hS) rfl rfl q2436 dX9_body_312 rfl rfl (Nat.le_of_ble_eq_true rfl) hr_X9_began ?_
    refine j_aload_n (pc := 315) C dX9_body_315 rfl rfl ?_
    refine j_iconst (pc := 316) (v := nI 0) C dX9_body_316 (by decide) ?_
    refine j_iconst (pc := 317) (v := nI 2) C dX9_body_317 (by decide) ?_
    refine j_iload_n (pc := 318) C dX9_body_318 rfl rfl ?_
    obtain ⟨r319, I319, h60, hk⟩ := bd2_some hk
    refine j_callV (pc := 319) C (hc_X9_bodyFrom h60) mv_X9_bodyFrom (stM_o hS) rfl rfl q2425 dX9_body_319 rfl rfl (Nat.le_of_ble_eq_true rfl) hr_X9_bodyFrom ?_
    refine j_istore (pc := 322) C dX9_body_322 (Nat.le_of_ble_eq_true rfl) rfl ?_
    refine j_iload (pc := 324) C dX9_body_324 rfl ?_
    refine j_aload_n (pc := 326) C dX9_body_326 rfl rfl ?_
    refine j_iconst (pc := 327) (v := nI 0) C dX9_body_327 (by decide) ?_
    refine j_iconst (pc := 328) (v := nI 1) C dX9_body_328 (by decide) ?_
    obtain ⟨r329, I329, h61, hk⟩ := bd2_some hk
    refine j_callV (pc := 329) C (hc_X9_voiced h61) mv_X9_voiced (stM_o hS) rfl rfl q2421 dX9_body_329 rfl rfl (Nat.le_of_ble_eq_true rfl) hr_X9_voiced ?_
    refine j_imul (pc := 332) C dX9_body_332 ?_
    exact j_iretW (pc := 333) C dX9_body_333 (Nat.zero_le _) (Nat.zero_le _) hk
  have hk := it_f h58 hk
  by_cases h62 : (((nI 4) * x1) + x2) = nI 17
  · have hk := it_t h62 hk
    refine j_tableIn (pc := 19) 276 17 C dX9_body_19 (sw_in h62 (by decide)) (by decide) (by decide) rfl (by decide) ?_
    refine j_aload_n (pc := 276) C dX9_body_276 rfl rfl ?_
    refine j_bipush (pc := 277) (v := nI 51) C dX9_body_277 (by decide) ?_
    obtain ⟨I279, h63, hk⟩ := ob_some hk
    refine j_callV (pc := 279) C (ct_X9_began hS h63) mv_X9_began (stM_o hS) rfl rfl q2436 dX9_body_279 rfl rfl (Nat.le_of_ble_eq_true rfl) hr_X9_began ?_
    refine j_aload_n (pc := 282) C dX9_body_282 rfl rfl ?_
    refine j_iconst (pc := 283) (v := nI 1) C dX9_body_283 (by decide) ?_
    refine j_iconst (pc := 284) (v := nI 1) C dX9_body_284 (by decide) ?_
    refine j_iload_n (pc := 285) C dX9_body_285 rfl rfl ?_
    refine j_iload (pc := 286) C dX9_body_286 rfl ?_
    refine j_isub (pc := 288) C dX9_body_288 ?_
    obtain ⟨r289, I289, h64, hk⟩ := bd2_some hk
    refine j_callV (pc := 289) C (hc_X9_bodyFrom h64) mv_X9_bodyFrom (stM_o hS) rfl rfl q2425 dX9_body_289 rfl rfl (Nat.le_of_ble_eq_true rfl) hr_X9_bodyFrom ?_
    exact j_iretW (pc := 292) C dX9_body_292 (Nat.zero_le _) (Nat.zero_le _) hk
  have hk := it_f h62 hk
  by_cases h65 : (((nI 4) * x1) + x2) = nI 18
  · have hk := it_t h65 hk
    refine j_tableIn (pc := 19) 309 18 C dX9_body_19 (sw_in h65 (by decide)) (by decide) (by decide) rfl (by decide) ?_
    refine j_aload_n (pc := 309) C dX9_body_309 rfl rfl ?_
    refine j_bipush (pc := 310) (v := nI 61) C dX9_body_310 (by decide) ?_
    obtain ⟨I312, h66, hk⟩ := ob_some hk
    refine j_callV (pc := 312) C (ct_X9_began hS h66) mv_X9_began (stM_o hS) rfl rfl q2436 dX9_body_312 rfl rfl (Nat.le_of_ble_eq_true rfl) hr_X9_began ?_
    refine j_aload_n (pc := 315) C dX9_body_315 rfl rfl ?_
    refine j_iconst (pc := 316) (v := nI 0) C dX9_body_316 (by decide) ?_
    refine j_iconst (pc := 317) (v := nI 2) C dX9_body_317 (by decide) ?_
    refine j_iload_n (pc := 318) C dX9_body_318 rfl rfl ?_
    obtain ⟨r319, I319, h67, hk⟩ := bd2_some hk
    refine j_callV (pc := 319) C (hc_X9_bodyFrom h67) mv_X9_bodyFrom (stM_o hS) rfl rfl q2425 dX9_body_319 rfl rfl (Nat.le_of_ble_eq_true rfl) hr_X9_bodyFrom ?_
    refine j_istore (pc := 322) C dX9_body_322 (Nat.le_of_ble_eq_true rfl) rfl ?_
    refine j_iload (pc := 324) C dX9_body_324 rfl ?_
    refine j_aload_n (pc := 326) C dX9_body_326 rfl rfl ?_
    refine j_iconst (pc := 327) (v := nI 0) C dX9_body_327 (by decide) ?_
    refine j_iconst (pc := 328) (v := nI 1) C dX9_body_328 (by decide) ?_
    obtain ⟨r329, I329, h68, hk⟩ := bd2_some hk
    refine j_callV (pc := 329) C (hc_X9_voiced h68) mv_X9_voiced (stM_o hS) rfl rfl q2421 dX9_body_329 rfl rfl (Nat.le_of_ble_eq_true rfl) hr_X9_voiced ?_
    refine j_imul (pc := 332) C dX9_body_332 ?_
    exact j_iretW (pc := 333) C dX9_body_333 (Nat.zero_le _) (Nat.zero_le _) hk
  have hk := it_f h65 hk
  by_cases h69 : (((nI 4) * x1) + x2) = nI 19
  · have hk := it_t h69 hk
    refine j_tableIn (pc := 19) 251 19 C dX9_body_19 (sw_in h69 (by decide)) (by decide) (by decide) rfl (by decide) ?_
    refine j_aload_n (pc := 251) C dX9_body_251 rfl rfl ?_
    refine j_bipush (pc := 252) (v := nI 50) C dX9_body_252 (by decide) ?_
    obtain ⟨I254, h70, hk⟩ := ob_some hk
    refine j_callV (pc := 254) C (ct_X9_began hS h70) mv_X9_began (stM_o hS) rfl rfl q2436 dX9_body_254 rfl rfl (Nat.le_of_ble_eq_true rfl) hr_X9_began ?_
    refine j_aload_n (pc := 257) C dX9_body_257 rfl rfl ?_
    refine j_iconst (pc := 258) (v := nI 2) C dX9_body_258 (by decide) ?_
    refine j_iload_n (pc := 259) C dX9_body_259 rfl rfl ?_
    obtain ⟨r260, I260, h71, hk⟩ := bd2_some hk
    refine j_callV (pc := 260) C (hc_X9_voiced h71) mv_X9_voiced (stM_o hS) rfl rfl q2421 dX9_body_260 rfl rfl (Nat.le_of_ble_eq_true rfl) hr_X9_voiced ?_
    refine j_istore (pc := 263) C dX9_body_263 (Nat.le_of_ble_eq_true rfl) rfl ?_
    refine j_iload (pc := 265) C dX9_body_265 rfl ?_
    refine j_aload_n (pc := 267) C dX9_body_267 rfl rfl ?_
    refine j_iconst (pc := 268) (v := nI 1) C dX9_body_268 (by decide) ?_
    refine j_iconst (pc := 269) (v := nI 3) C dX9_body_269 (by decide) ?_
    refine j_iload_n (pc := 270) C dX9_body_270 rfl rfl ?_
    obtain ⟨r271, I271, h72, hk⟩ := bd2_some hk
    refine j_callV (pc := 271) C (hc_X9_bodyFrom h72) mv_X9_bodyFrom (stM_o hS) rfl rfl q2425 dX9_body_271 rfl rfl (Nat.le_of_ble_eq_true rfl) hr_X9_bodyFrom ?_
    refine j_isub (pc := 274) C dX9_body_274 ?_
    exact j_iretW (pc := 275) C dX9_body_275 (Nat.zero_le _) (Nat.zero_le _) hk
  have hk := it_f h69 hk
  by_cases h73 : (((nI 4) * x1) + x2) = nI 20
  · have hk := it_t h73 hk
    refine j_tableIn (pc := 19) 293 20 C dX9_body_19 (sw_in h73 (by decide)) (by decide) (by decide) rfl (by decide) ?_
    refine j_aload_n (pc := 293) C dX9_body_293 rfl rfl ?_
    refine j_bipush (pc := 294) (v := nI 60) C dX9_body_294 (by decide) ?_
    obtain ⟨I296, h74, hk⟩ := ob_some hk
    refine j_callV (pc := 296) C (ct_X9_began hS h74) mv_X9_began (stM_o hS) rfl rfl q2436 dX9_body_296 rfl rfl (Nat.le_of_ble_eq_true rfl) hr_X9_began ?_
    refine j_aload_n (pc := 299) C dX9_body_299 rfl rfl ?_
    refine j_iconst (pc := 300) (v := nI 0) C dX9_body_300 (by decide) ?_
    refine j_iconst (pc := 301) (v := nI 0) C dX9_body_301 (by decide) ?_
    refine j_iload_n (pc := 302) C dX9_body_302 rfl rfl ?_
    obtain ⟨r303, I303, h75, hk⟩ := bd2_some hk
    refine j_callV (pc := 303) C (hc_X9_bodyFrom h75) mv_X9_bodyFrom (stM_o hS) rfl rfl q2425 dX9_body_303 rfl rfl (Nat.le_of_ble_eq_true rfl) hr_X9_bodyFrom ?_
    refine j_iconst (pc := 306) (v := nI 5) C dX9_body_306 (by decide) ?_
    refine j_ixor (pc := 307) C dX9_body_307 ?_
    exact j_iretW (pc := 308) C dX9_body_308 (Nat.zero_le _) (Nat.zero_le _) hk
  have hk := it_f h73 hk
  refine j_tableOut (pc := 19) 309 C dX9_body_19 (sw_out (lo := 0) (hi := 20) (by decide) (fun j a1 a2 => by
    have a3 : j = 0 ∨ j = 1 ∨ j = 2 ∨ j = 3 ∨ j = 4 ∨ j = 5 ∨ j = 6 ∨ j = 7 ∨ j = 8 ∨ j = 9 ∨ j = 10 ∨ j = 11 ∨ j = 12 ∨ j = 13 ∨ j = 14 ∨ j = 15 ∨ j = 16 ∨ j = 17 ∨ j = 18 ∨ j = 19 ∨ j = 20 := by omega
    rcases a3 with rfl | rfl | rfl | rfl | rfl | rfl | rfl | rfl | rfl | rfl | rfl | rfl | rfl | rfl | rfl | rfl | rfl | rfl | rfl | rfl | rfl
    · exact h2
    · exact h4
    · exact h7
    · exact h9
    · exact h13
    · exact h17
    · exact h21
    · exact h25
    · exact h29
    · exact h32
    · exact h36
    · exact h40
    · exact h43
    · exact h47
    · exact h51
    · exact h54
    · exact h58
    · exact h62
    · exact h65
    · exact h69
    · exact h73)) (by decide) ?_
  refine j_aload_n (pc := 309) C dX9_body_309 rfl rfl ?_
  refine j_bipush (pc := 310) (v := nI 61) C dX9_body_310 (by decide) ?_
  obtain ⟨I312, h76, hk⟩ := ob_some hk
  refine j_callV (pc := 312) C (ct_X9_began hS h76) mv_X9_began (stM_o hS) rfl rfl q2436 dX9_body_312 rfl rfl (Nat.le_of_ble_eq_true rfl) hr_X9_began ?_
  refine j_aload_n (pc := 315) C dX9_body_315 rfl rfl ?_
  refine j_iconst (pc := 316) (v := nI 0) C dX9_body_316 (by decide) ?_
  refine j_iconst (pc := 317) (v := nI 2) C dX9_body_317 (by decide) ?_
  refine j_iload_n (pc := 318) C dX9_body_318 rfl rfl ?_
  obtain ⟨r319, I319, h77, hk⟩ := bd2_some hk
  refine j_callV (pc := 319) C (hc_X9_bodyFrom h77) mv_X9_bodyFrom (stM_o hS) rfl rfl q2425 dX9_body_319 rfl rfl (Nat.le_of_ble_eq_true rfl) hr_X9_bodyFrom ?_
  refine j_istore (pc := 322) C dX9_body_322 (Nat.le_of_ble_eq_true rfl) rfl ?_
  refine j_iload (pc := 324) C dX9_body_324 rfl ?_
  refine j_aload_n (pc := 326) C dX9_body_326 rfl rfl ?_
  refine j_iconst (pc := 327) (v := nI 0) C dX9_body_327 (by decide) ?_
  refine j_iconst (pc := 328) (v := nI 1) C dX9_body_328 (by decide) ?_
  obtain ⟨r329, I329, h78, hk⟩ := bd2_some hk
  refine j_callV (pc := 329) C (hc_X9_voiced h78) mv_X9_voiced (stM_o hS) rfl rfl q2421 dX9_body_329 rfl rfl (Nat.le_of_ble_eq_true rfl) hr_X9_voiced ?_
  refine j_imul (pc := 332) C dX9_body_332 ?_
  exact j_iretW (pc := 333) C dX9_body_333 (Nat.zero_le _) (Nat.zero_le _) hk
set_option maxHeartbeats 4000000 in
theorem ctb_X9_bodyFrom {G : WG} {l : Launch} {sh : SH} (hS : StM sh) {Rf Rl : Nat} {fc_X9_body lc_X9_body : Nat} {c_X9_body : Int32 → Int32 → Int32 → II → Option (Int32 × II)} {F : Nat} (hc_X9_body : ∀ {x1 : Int32} {x2 : Int32} {x3 : Int32} {I : II} {r : Int32} {I9 : II}, c_X9_body x1 x2 x3 I = some (r, I9) → CT G l yX9_body (ws_ yX9_body cX9_body 6 (some .int)) (rmZ fc_X9_body lc_X9_body) [.ref (wad G 27), .int x1, .int x2, .int x3] (sh, I) (.returned (some (.int r))) (sh, I9)) (hr_X9_hasOwn : rmOK rm_X9_hasOwn (rmZ Rf Rl) 2 0 0 = true) (hr_X9_body : rmOK (rmZ fc_X9_body lc_X9_body) (rmZ Rf Rl) 6 0 0 = true) (hr_X9_above : rmOK rm_X9_above (rmZ Rf Rl) 1 0 0 = true) {I : II} {x1 : Int32} {x2 : Int32} {x3 : Int32} {r : Int32} {I9 : II} (hk : fb_X9_bodyFrom F c_X9_body x1 x2 x3 I = some (r, I9)) : CT G l yX9_bodyFrom (ws_ yX9_bodyFrom cX9_bodyFrom 5 (some .int)) (rmZ Rf Rl) [.ref (wad G 27), .int x1, .int x2, .int x3] (sh, I) (.returned (some (.int r))) (sh, I9) := by
  refine CT.ofJ "NineDemandsModel" rfl (by decide) (Nat.le_of_ble_eq_true rfl) ?_
  intro p e s m args below meth c C
  unfold fb_X9_bodyFrom at hk
  refine j_lv (lv' := [some (.ref (wad G 27)), some (.int x1), some (.int x2), some (.int x3), none]) rfl ?_
  refine j_iload_n (pc := 0) C dX9_bodyFrom_0 rfl rfl ?_
  refine j_istore (pc := 1) C dX9_bodyFrom_1 (Nat.le_of_ble_eq_true rfl) rfl ?_
  have L3 : ∀ (x2 : Int32) (x3 : Int32) (n3 : Nat) (x4 : Int32) (I : II), f_X9_bodyFrom_L3 F c_X9_body x2 x3 n3 x4 I = some (r, I9) → J G p l e (rmZ Rf Rl) s m args below meth c 5 (.returned (some (.int r))) (sh, I9) (rmZ Rf Rl).cells (rmZ Rf Rl).slots (sh, I) 0 0 3 [some (.ref (wad G 27)), none, some (.int x2), some (.int x3), some (.int x4)] [] := by
    intro x2 x3 n3
    induction n3 with
    | zero => intro x4 I hk; rw [f_X9_bodyFrom_L3] at hk; cases hk
    | succ n3 ih3 =>
      intro x4 I hk
      rw [f_X9_bodyFrom_L3] at hk
      generalize f_X9_bodyFrom_L3 F c_X9_body x2 x3 n3 = k3 at ih3 hk
      refine j_iload (pc := 3) C dX9_bodyFrom_3 rfl ?_
      refine j_iload_n (pc := 5) C dX9_bodyFrom_5 rfl rfl ?_
      obtain ⟨r6, h1, hk⟩ := ob_some hk
      refine j_callS (pc := 6) C (ct_X9_hasOwn h1) ms_X9_hasOwn q2429 dX9_bodyFrom_6 rfl rfl (Nat.le_of_ble_eq_true rfl) hr_X9_hasOwn ?_
      refine j_if_ne (pc := 9) 22 C dX9_bodyFrom_9 (by decide) (fun h2 => ?_) (fun h2 => ?_)
      · have hk := it_f h2 hk
        refine j_aload_n (pc := 22) C dX9_bodyFrom_22 rfl rfl ?_
        refine j_iload (pc := 23) C dX9_bodyFrom_23 rfl ?_
        refine j_iload_n (pc := 25) C dX9_bodyFrom_25 rfl rfl ?_
        refine j_iload_n (pc := 26) C dX9_bodyFrom_26 rfl rfl ?_
        obtain ⟨r27, I27, h3, hk⟩ := bd2_some hk
        refine j_callV (pc := 27) C (hc_X9_body h3) mv_X9_body (stM_o hS) rfl rfl q2432 dX9_bodyFrom_27 rfl rfl (Nat.le_of_ble_eq_true rfl) hr_X9_body ?_
        exact j_iretW (pc := 30) C dX9_bodyFrom_30 (Nat.zero_le _) (Nat.zero_le _) hk
      · have hk := it_t h2 hk
        refine j_iload (pc := 12) C dX9_bodyFrom_12 rfl ?_
        obtain ⟨r14, h4, hk⟩ := ob_some hk
        refine j_callS (pc := 14) C (ct_X9_above h4) ms_X9_above q2235 dX9_bodyFrom_14 rfl rfl (Nat.le_of_ble_eq_true rfl) hr_X9_above ?_
        refine j_istore (pc := 17) C dX9_bodyFrom_17 (Nat.le_of_ble_eq_true rfl) rfl ?_
        refine j_goto (pc := 19) 3 C dX9_bodyFrom_19 (by decide) ?_
        exact j_mask [true, false, true, true, true] (ih3 _ _ hk)
  exact j_mask [true, false, true, true, true] (L3 _ _ _ _ _ hk)
set_option maxHeartbeats 4000000 in
theorem ctb_X9_voiced {G : WG} {l : Launch} {sh : SH} (hS : StM sh) {Rf Rl : Nat} {fc_X9_bodyFrom lc_X9_bodyFrom : Nat} {c_X9_bodyFrom : Int32 → Int32 → Int32 → II → Option (Int32 × II)} {F : Nat} (hc_X9_bodyFrom : ∀ {x1 : Int32} {x2 : Int32} {x3 : Int32} {I : II} {r : Int32} {I9 : II}, c_X9_bodyFrom x1 x2 x3 I = some (r, I9) → CT G l yX9_bodyFrom (ws_ yX9_bodyFrom cX9_bodyFrom 5 (some .int)) (rmZ fc_X9_bodyFrom lc_X9_bodyFrom) [.ref (wad G 27), .int x1, .int x2, .int x3] (sh, I) (.returned (some (.int r))) (sh, I9)) (hr_X9_kindOf : rmOK rm_X9_kindOf (rmZ Rf Rl) 2 0 0 = true) (hr_X9_bodyFrom : rmOK (rmZ fc_X9_bodyFrom lc_X9_bodyFrom) (rmZ Rf Rl) 5 0 0 = true) {I : II} {x1 : Int32} {x2 : Int32} {r : Int32} {I9 : II} (hk : fb_X9_voiced F c_X9_bodyFrom x1 x2 I = some (r, I9)) : CT G l yX9_voiced (ws_ yX9_voiced cX9_voiced 3 (some .int)) (rmZ Rf Rl) [.ref (wad G 27), .int x1, .int x2] (sh, I) (.returned (some (.int r))) (sh, I9) := by
  refine CT.ofJ "NineDemandsModel" rfl (by decide) (Nat.le_of_ble_eq_true rfl) ?_
  intro p e s m args below meth c C
  unfold fb_X9_voiced at hk
  refine j_lv (lv' := [some (.ref (wad G 27)), some (.int x1), some (.int x2)]) rfl ?_
  refine j_aload_n (pc := 0) C dX9_voiced_0 rfl rfl ?_
  refine j_aload_n (pc := 1) C dX9_voiced_1 rfl rfl ?_
  refine j_aload_n (pc := 2) C dX9_voiced_2 rfl rfl ?_
  refine j_getI (pc := 3) C fd_10_28 q2028 (stM_o hS) dX9_voiced_3 ?_
  obtain ⟨r6, h1, hk⟩ := ob_some hk
  refine j_callV (pc := 6) C (ct_X9_kindOf hS h1) mv_X9_kindOf (stM_o hS) rfl rfl q2231 dX9_voiced_6 rfl rfl (Nat.le_of_ble_eq_true rfl) hr_X9_kindOf ?_
  refine j_iload_n (pc := 9) C dX9_voiced_9 rfl rfl ?_
  refine j_iload_n (pc := 10) C dX9_voiced_10 rfl rfl ?_
  obtain ⟨r11, I11, h2, hk⟩ := bd2_some hk
  refine j_callV (pc := 11) C (hc_X9_bodyFrom h2) mv_X9_bodyFrom (stM_o hS) rfl rfl q2425 dX9_voiced_11 rfl rfl (Nat.le_of_ble_eq_true rfl) hr_X9_bodyFrom ?_
  exact j_iretW (pc := 14) C dX9_voiced_14 (Nat.zero_le _) (Nat.zero_le _) hk
def g_X9_body (F : Nat) : Nat → (Int32 → Int32 → Int32 → II → Option (Int32 × II)) × (Int32 → Int32 → Int32 → II → Option (Int32 × II)) × (Int32 → Int32 → II → Option (Int32 × II))
  | 0 => (fun _ _ _ _ => none, fun _ _ _ _ => none, fun _ _ _ => none)
  | d + 1 => (fb_X9_body F (g_X9_body F d).2.1 (g_X9_body F d).2.2, fb_X9_bodyFrom F (g_X9_body F d).1, fb_X9_voiced F (g_X9_body F d).2.1)
def f_X9_body (F d : Nat) : Int32 → Int32 → Int32 → II → Option (Int32 × II) := (g_X9_body F d).1
def f_X9_bodyFrom (F d : Nat) : Int32 → Int32 → Int32 → II → Option (Int32 × II) := (g_X9_body F d).2.1
def f_X9_voiced (F d : Nat) : Int32 → Int32 → II → Option (Int32 × II) := (g_X9_body F d).2.2
theorem f_X9_body_s (F d : Nat) : f_X9_body F (d + 1) = fb_X9_body F (f_X9_bodyFrom F d) (f_X9_voiced F d) := rfl
theorem f_X9_bodyFrom_s (F d : Nat) : f_X9_bodyFrom F (d + 1) = fb_X9_bodyFrom F (f_X9_body F d) := rfl
theorem f_X9_voiced_s (F d : Nat) : f_X9_voiced F (d + 1) = fb_X9_voiced F (f_X9_bodyFrom F d) := rfl
abbrev rm_X9_body (d : Nat) : Room := rmZ (d + 1) (25 * d + 21)
abbrev rm_X9_bodyFrom (d : Nat) : Room := rmZ (d + 1) (25 * d + 21)
abbrev rm_X9_voiced (d : Nat) : Room := rmZ (d + 1) (25 * d + 21)
set_option maxHeartbeats 4000000 in
theorem ctg_X9_body {G : WG} {l : Launch} {sh : SH} (hS : StM sh) (F : Nat) : ∀ d : Nat, (∀ (x1 : Int32) (x2 : Int32) (x3 : Int32) (I : II) (r : Int32) (I9 : II), f_X9_body F d x1 x2 x3 I = some (r, I9) → CT G l yX9_body (ws_ yX9_body cX9_body 6 (some .int)) (rm_X9_body d) [.ref (wad G 27), .int x1, .int x2, .int x3] (sh, I) (.returned (some (.int r))) (sh, I9)) ∧ (∀ (x1 : Int32) (x2 : Int32) (x3 : Int32) (I : II) (r : Int32) (I9 : II), f_X9_bodyFrom F d x1 x2 x3 I = some (r, I9) → CT G l yX9_bodyFrom (ws_ yX9_bodyFrom cX9_bodyFrom 5 (some .int)) (rm_X9_bodyFrom d) [.ref (wad G 27), .int x1, .int x2, .int x3] (sh, I) (.returned (some (.int r))) (sh, I9)) ∧ (∀ (x1 : Int32) (x2 : Int32) (I : II) (r : Int32) (I9 : II), f_X9_voiced F d x1 x2 I = some (r, I9) → CT G l yX9_voiced (ws_ yX9_voiced cX9_voiced 3 (some .int)) (rm_X9_voiced d) [.ref (wad G 27), .int x1, .int x2] (sh, I) (.returned (some (.int r))) (sh, I9)) := by
  intro d
  induction d with
  | zero =>
    refine ⟨?_, ?_, ?_⟩ <;> (intros; rename_i hk; cases hk)
  | succ d ih =>
    obtain ⟨ih_X9_body, ih_X9_bodyFrom, ih_X9_voiced⟩ := ih
    refine ⟨?_, ?_, ?_⟩
    · intro v0 v1 v2 v3 v4 v5 hk
      exact ctb_X9_body (F := F) hS (fun {a0 a1 a2 a3 a4 a5} hk => ih_X9_bodyFrom a0 a1 a2 a3 a4 a5 hk) (fun {a0 a1 a2 a3 a4} hk => ih_X9_voiced a0 a1 a2 a3 a4 hk) (rmOK.i (by dsimp only; omega) (by dsimp only; omega) (by dsimp only; omega) (by dsimp only; omega)) (rmOK.i (by dsimp only; omega) (by dsimp only; omega) (by dsimp only; omega) (by dsimp only; omega)) (rmOK.i (by dsimp only; omega) (by dsimp only; omega) (by dsimp only; omega) (by dsimp only; omega)) hk
    · intro v0 v1 v2 v3 v4 v5 hk
      exact ctb_X9_bodyFrom (F := F) hS (fun {a0 a1 a2 a3 a4 a5} hk => ih_X9_body a0 a1 a2 a3 a4 a5 hk) (rmOK.i (by dsimp only; omega) (by dsimp only; omega) (by dsimp only; omega) (by dsimp only; omega)) (rmOK.i (by dsimp only; omega) (by dsimp only; omega) (by dsimp only; omega) (by dsimp only; omega)) (rmOK.i (by dsimp only; omega) (by dsimp only; omega) (by dsimp only; omega) (by dsimp only; omega)) hk
    · intro v0 v1 v2 v3 v4 hk
      exact ctb_X9_voiced (F := F) hS (fun {a0 a1 a2 a3 a4 a5} hk => ih_X9_bodyFrom a0 a1 a2 a3 a4 a5 hk) (rmOK.i (by dsimp only; omega) (by dsimp only; omega) (by dsimp only; omega) (by dsimp only; omega)) (rmOK.i (by dsimp only; omega) (by dsimp only; omega) (by dsimp only; omega) (by dsimp only; omega)) hk
theorem ct_X9_body {G : WG} {l : Launch} {sh : SH} (hS : StM sh) {F d : Nat} {I : II} {x1 : Int32} {x2 : Int32} {x3 : Int32} {r : Int32} {I9 : II} (hk : f_X9_body F d x1 x2 x3 I = some (r, I9)) : CT G l yX9_body (ws_ yX9_body cX9_body 6 (some .int)) (rm_X9_body d) [.ref (wad G 27), .int x1, .int x2, .int x3] (sh, I) (.returned (some (.int r))) (sh, I9) := (ctg_X9_body hS F d).1 _ _ _ _ _ _ hk
theorem ct_X9_bodyFrom {G : WG} {l : Launch} {sh : SH} (hS : StM sh) {F d : Nat} {I : II} {x1 : Int32} {x2 : Int32} {x3 : Int32} {r : Int32} {I9 : II} (hk : f_X9_bodyFrom F d x1 x2 x3 I = some (r, I9)) : CT G l yX9_bodyFrom (ws_ yX9_bodyFrom cX9_bodyFrom 5 (some .int)) (rm_X9_bodyFrom d) [.ref (wad G 27), .int x1, .int x2, .int x3] (sh, I) (.returned (some (.int r))) (sh, I9) := (ctg_X9_body hS F d).2.1 _ _ _ _ _ _ hk
theorem ct_X9_voiced {G : WG} {l : Launch} {sh : SH} (hS : StM sh) {F d : Nat} {I : II} {x1 : Int32} {x2 : Int32} {r : Int32} {I9 : II} (hk : f_X9_voiced F d x1 x2 I = some (r, I9)) : CT G l yX9_voiced (ws_ yX9_voiced cX9_voiced 3 (some .int)) (rm_X9_voiced d) [.ref (wad G 27), .int x1, .int x2] (sh, I) (.returned (some (.int r))) (sh, I9) := (ctg_X9_body hS F d).2.2 _ _ _ _ _ hk
