/-! the class: walks -/
set_option maxRecDepth 100000
def f_X0_isLess (F : Nat) (sh : SH) (x1 : Int32) (x2 : Int32) (I : II) : Option Int32 := orf (sh.2.2 0 1) fun t1 => ock sh t1 2 <| (f_X2_prices F sh t1 x1 I).bind fun r5 => orf (sh.2.2 0 1) fun t9 => ock sh t9 2 <| (f_X2_prices F sh t9 x2 I).bind fun r13 => if (r5 - r13) = 0 then (f_J17_bitCount x1).bind fun r33 => (f_J17_bitCount x2).bind fun r37 => if r37 ≤ r33 then some (nI 0) else some (nI 1) else if 0 ≤ (r5 - r13) then some (nI 0) else some (nI 1)
abbrev rm_X0_isLess : Room := { frames := 4, cells := 0, slots := 0, locals := 87 }
theorem mv_X0_isLess_ok : callOK yX0_isLess 2 := by decide +kernel
theorem mv_X0_isLess : MV yX0_isLess cX0_isLess 4 (some .boolean) 2 := ⟨q1623, qs40, q91, q1624, mv_X0_isLess_ok⟩
set_option maxHeartbeats 4000000 in
theorem ct_X0_isLess {G : WG} {l : Launch} {sh : SH} (hS : stN sh) {I : II} {F : Nat} {x1 : Int32} {x2 : Int32} {Z : Int32} (hk : f_X0_isLess F sh x1 x2 I = some Z) : CT G l yX0_isLess (ws_ yX0_isLess cX0_isLess 4 (some .boolean)) rm_X0_isLess [.ref (wad G 0), .int x1, .int x2] (sh, I) (.returned (some (.int Z))) (sh, I) := by
  refine CT.ofJ "NineDemands" rfl (by decide) (Nat.le_of_ble_eq_true rfl) ?_
  intro p e s m args below meth c C
  unfold f_X0_isLess at hk
  refine j_lv (lv' := [some (.ref (wad G 0)), some (.int x1), some (.int x2), none]) rfl ?_
  refine j_aload_n (pc := 0) C dX0_isLess_0 rfl rfl ?_
  replace hk := orf_some hk
  obtain ⟨t1, et1, hk⟩ := hk
  refine x_getR (pc := 1) C fd_0_1 (fl1 C q373) (stN_o0 hS).r et1 dX0_isLess_1 ?_
  refine j_iload_n (pc := 4) C dX0_isLess_4 rfl rfl ?_
  replace hk := ock_some hk
  obtain ⟨h1, hk⟩ := hk
  replace hk := ob_some hk
  obtain ⟨r5, h2, hk⟩ := hk
  refine x_callV (pc := 5) C (ct_X2_prices hS h2) mv_X2_prices h1 rfl rfl q1625 dX0_isLess_5 rfl rfl (Nat.le_of_ble_eq_true rfl) rfl ?_
  refine j_aload_n (pc := 8) C dX0_isLess_8 rfl rfl ?_
  replace hk := orf_some hk
  obtain ⟨t9, et9, hk⟩ := hk
  refine x_getR (pc := 9) C fd_0_1 (fl1 C q373) (stN_o0 hS).r et9 dX0_isLess_9 ?_
  refine j_iload_n (pc := 12) C dX0_isLess_12 rfl rfl ?_
  replace hk := ock_some hk
  obtain ⟨h3, hk⟩ := hk
  replace hk := ob_some hk
  obtain ⟨r13, h4, hk⟩ := hk
  refine x_callV (pc := 13) C (ct_X2_prices hS h4) mv_X2_prices h3 rfl rfl q1625 dX0_isLess_13 rfl rfl (Nat.le_of_ble_eq_true rfl) rfl ?_
  refine j_isub (pc := 16) C dX0_isLess_16 ?_
  refine j_istore_n (pc := 17) C dX0_isLess_17 rfl (Nat.le_of_ble_eq_true rfl) rfl ?_
  refine j_iload_n (pc := 18) C dX0_isLess_18 rfl rfl ?_
  refine j_if_eq (pc := 19) 32 C dX0_isLess_19 (by decide) (fun h5 => ?_) (fun h5 => ?_)
  · replace hk := it_t h5 hk
    refine j_iload_n (pc := 32) C dX0_isLess_32 rfl rfl ?_
    replace hk := ob_some hk
    obtain ⟨r33, h6, hk⟩ := hk
    refine j_callS (pc := 33) C (ct_J17_bitCount h6) ms_J17_bitCount q1603 dX0_isLess_33 rfl rfl (Nat.le_of_ble_eq_true rfl) rfl ?_
    refine j_iload_n (pc := 36) C dX0_isLess_36 rfl rfl ?_
    replace hk := ob_some hk
    obtain ⟨r37, h7, hk⟩ := hk
    refine j_callS (pc := 37) C (ct_J17_bitCount h7) ms_J17_bitCount q1603 dX0_isLess_37 rfl rfl (Nat.le_of_ble_eq_true rfl) rfl ?_
    refine j_icmp_ge (pc := 40) 47 C dX0_isLess_40 (by decide) (fun h8 => ?_) (fun h8 => ?_)
    · replace hk := it_t h8 hk
      refine j_iconst (pc := 47) (v := nI 0) C dX0_isLess_47 (by decide) ?_
      obtain rfl := Option.some.inj hk
      exact j_zret (pc := 48) C dX0_isLess_48 (Nat.le_of_ble_eq_true rfl) (Nat.le_of_ble_eq_true rfl) (isB.nar (v := (nI 0)) (by unfold isB; decide))
    · replace hk := it_f h8 hk
      refine j_iconst (pc := 43) (v := nI 1) C dX0_isLess_43 (by decide) ?_
      refine j_goto (pc := 44) 48 C dX0_isLess_44 (by decide) ?_
      obtain rfl := Option.some.inj hk
      exact j_zret (pc := 48) C dX0_isLess_48 (Nat.le_of_ble_eq_true rfl) (Nat.le_of_ble_eq_true rfl) (isB.nar (v := (nI 1)) (by unfold isB; decide))
  · replace hk := it_f h5 hk
    refine j_iload_n (pc := 22) C dX0_isLess_22 rfl rfl ?_
    refine j_if_ge (pc := 23) 30 C dX0_isLess_23 (by decide) (fun h9 => ?_) (fun h9 => ?_)
    · replace hk := it_t h9 hk
      refine j_iconst (pc := 30) (v := nI 0) C dX0_isLess_30 (by decide) ?_
      obtain rfl := Option.some.inj hk
      exact j_zret (pc := 31) C dX0_isLess_31 (Nat.le_of_ble_eq_true rfl) (Nat.le_of_ble_eq_true rfl) (isB.nar (v := (nI 0)) (by unfold isB; decide))
    · replace hk := it_f h9 hk
      refine j_iconst (pc := 26) (v := nI 1) C dX0_isLess_26 (by decide) ?_
      refine j_goto (pc := 27) 31 C dX0_isLess_27 (by decide) ?_
      obtain rfl := Option.some.inj hk
      exact j_zret (pc := 31) C dX0_isLess_31 (Nat.le_of_ble_eq_true rfl) (Nat.le_of_ble_eq_true rfl) (isB.nar (v := (nI 1)) (by unfold isB; decide))
def f_X0_give_J99 (F : Nat) (sh : SH) (s0 : Nat) (I : II) : Option (Int32 × II) := bd2 (f_X0_finds sh s0 I) fun r102 I102 => some (r102, I102)
def f_X0_give_J62 (F : Nat) (sh : SH) (k32 : Int32 → Int32 → II → Option (Int32 × II)) (x1 : Int32) (x2 : Int32) (x3 : Int32) (x4 : Int32) (I : II) : Option (Int32 × II) := bd2 (f_X0_isOut F sh (x1 ^^^ x4) I) fun r67 I67 => if r67 = 0 then k32 x4 (x4 + (nI 1)) I67 else k32 x3 (x4 + (nI 1)) I67
def f_X0_give_L32 (F : Nat) (sh : SH) (x1 : Int32) (x2 : Int32) : Nat → Int32 → Int32 → II → Option (Int32 × II)
  | 0, _, _, _ => none
  | n32 + 1, x3, x4, I => if x1 < x4 then if x2 = 0 then some (x3, I) else orf (sh.2.2 0 1) fun t91 => ock sh t91 2 <| (f_X2_prices F sh t91 x3 I).bind fun r95 => some (r95, I) else if (x4 &&& (x1 ^^^ (-1))) = 0 then if x3 = (-1) then f_X0_give_J62 F sh (f_X0_give_L32 F sh x1 x2 n32) x1 x2 x3 x4 I else (f_X0_isLess F sh x4 x3 I).bind fun r56 => if r56 = 0 then (f_X0_give_L32 F sh x1 x2 n32) x3 (x4 + (nI 1)) I else f_X0_give_J62 F sh (f_X0_give_L32 F sh x1 x2 n32) x1 x2 x3 x4 I else (f_X0_give_L32 F sh x1 x2 n32) x3 (x4 + (nI 1)) I
def f_X0_give_J23 (F : Nat) (sh : SH) (x1 : Int32) (x2 : Int32) (s1 : Int32) (I : II) : Option (Int32 × II) := bd2 (f_X0_need sh s1 (nI 1) I) fun u24 I24 => oex u24 (fun _w24 => f_X0_give_L32 F sh x1 x2 F (-1) (nI 0) I24) (fun w24 => ock sh w24 1 <| f_X0_give_J99 F sh w24 I24)
def f_X0_give_J22 (F : Nat) (sh : SH) (x1 : Int32) (x2 : Int32) (I : II) : Option (Int32 × II) := f_X0_give_J23 F sh x1 x2 (nI 0) I
def f_X0_give (F : Nat) (sh : SH) (x1 : Int32) (x2 : Int32) (I : II) : Option (Int32 × II) := (f_X0_isSet sh x1 I).bind fun r3 => if r3 = 0 then f_X0_give_J22 F sh x1 x2 I else (f_X0_in x2 (nI 0) (nI 1)).bind fun r12 => if r12 = 0 then f_X0_give_J22 F sh x1 x2 I else f_X0_give_J23 F sh x1 x2 (nI 1) I
abbrev rm_X0_give : Room := { frames := 18, cells := 0, slots := 0, locals := 449 }
theorem mv_X0_give_ok : callOK yX0_give 2 := by decide +kernel
theorem mw_X0_give : MW yX0_give cX0_give 5 (some .int) [(0, 98, 99, 8)] 2 := ⟨q1618, q1619, q91, q1620, mv_X0_give_ok⟩
set_option maxHeartbeats 4000000 in
theorem ct_X0_give {G : WG} {l : Launch} {sh : SH} (hS : stN sh) {I : II} {F : Nat} {x1 : Int32} {x2 : Int32} {Z : (Int32 × II)} (hk : f_X0_give F sh x1 x2 I = some Z) : CT G l yX0_give (wsW_ yX0_give cX0_give 5 (some .int) [(0, 98, 99, 8)]) rm_X0_give [.ref (wad G 0), .int x1, .int x2] (sh, I) (.returned (some (.int Z.1))) (sh, Z.2) := by
  refine CT.ofJW "NineDemands" rfl (by decide) (Nat.le_of_ble_eq_true rfl) ?_
  intro p e s m args below meth c C
  unfold f_X0_give at hk
  refine j_lv (lv' := [some (.ref (wad G 0)), some (.int x1), some (.int x2), none, none]) rfl ?_
  refine j_aload_n (pc := 0) C dX0_give_0 rfl rfl ?_
  refine j_aload_n (pc := 1) C dX0_give_1 rfl rfl ?_
  refine j_iload_n (pc := 2) C dX0_give_2 rfl rfl ?_
  replace hk := ob_some hk
  obtain ⟨r3, h1, hk⟩ := hk
  refine x_callV (pc := 3) C (ct_X0_isSet hS h1) mv_X0_isSet (stN_o0 hS).r rfl rfl q1415 dX0_give_3 rfl rfl (Nat.le_of_ble_eq_true rfl) rfl ?_
  have Jn23 : ∀ (x1 : Int32) (x2 : Int32) (s1 : Int32) (I : II), f_X0_give_J23 F sh x1 x2 s1 I = some Z → J G p l e rm_X0_give s m args below meth c 5 (.returned (some (.int Z.1))) (sh, Z.2) (rm_X0_give).cells (rm_X0_give).slots (sh, I) 0 0 23 [some (.ref (wad G 0)), some (.int x1), some (.int x2), none, none] [.int s1, .ref (wad G 0)] := by
    intro x1 x2 s1 I hk
    unfold f_X0_give_J23 at hk
    refine j_iconst (pc := 23) (v := nI 1) C dX0_give_23 (by decide) ?_
    have Jn99 : ∀ (s0 : Nat) (I : II), f_X0_give_J99 F sh s0 I = some Z → J G p l e rm_X0_give s m args below meth c 5 (.returned (some (.int Z.1))) (sh, Z.2) (rm_X0_give).cells (rm_X0_give).slots (sh, I) 0 0 99 [some (.ref (wad G 0)), none, none, none, none] [.ref (wad G s0)] := by
      intro s0 I hk
      unfold f_X0_give_J99 at hk
      refine j_astore_n (pc := 99) C dX0_give_99 rfl (Nat.le_of_ble_eq_true rfl) rfl ?_
      refine j_aload_n (pc := 100) C dX0_give_100 rfl rfl ?_
      refine j_aload_n (pc := 101) C dX0_give_101 rfl rfl ?_
      replace hk := bd2_some hk
      obtain ⟨r102, I102, h2, hk⟩ := hk
      refine x_callV (pc := 102) C (ct_X0_finds hS h2) mv_X0_finds (stN_o0 hS).r rfl rfl q433 dX0_give_102 rfl rfl (Nat.le_of_ble_eq_true rfl) rfl ?_
      obtain rfl := Option.some.inj hk
      exact j_iret (pc := 105) C dX0_give_105 (Nat.le_of_ble_eq_true rfl) (Nat.le_of_ble_eq_true rfl)
    replace hk := bd2_some hk
    obtain ⟨u24, I24, h3, hk⟩ := hk
    cases u24 with
    | inr w24 =>
      replace hk := oex_r hk
      replace hk := ock_some hk
      obtain ⟨h5, hk⟩ := hk
      refine x_callVC [] [] (0, 98, 99, 8) (pc := 24) C (ct_X0_need hS h3) mv_X0_need (stN_o0 hS).r rfl rfl q416 dX0_give_24 rfl rfl (Nat.le_of_ble_eq_true rfl) rfl rfl h5 rfl (by decide) (by decide) q146 (fun z hz => by cases hz) ?_
      exact j_mask [true, false, false, false, false] (Jn99 _ _ hk)
    | inl _w24 =>
      replace hk := oex_l hk
      refine x_callV (pc := 24) C (ct_X0_need hS h3) mv_X0_need (stN_o0 hS).r rfl rfl q416 dX0_give_24 rfl rfl (Nat.le_of_ble_eq_true rfl) rfl ?_
      refine j_iconst (pc := 27) (v := (-1)) C dX0_give_27 (by decide) ?_
      refine j_istore_n (pc := 28) C dX0_give_28 rfl (Nat.le_of_ble_eq_true rfl) rfl ?_
      refine j_iconst (pc := 29) (v := nI 0) C dX0_give_29 (by decide) ?_
      refine j_istore (pc := 30) C dX0_give_30 (Nat.le_of_ble_eq_true rfl) rfl ?_
      have L32 : ∀ (x1 : Int32) (x2 : Int32) (n32 : Nat) (x3 : Int32) (x4 : Int32) (I : II), f_X0_give_L32 F sh x1 x2 n32 x3 x4 I = some Z → J G p l e rm_X0_give s m args below meth c 5 (.returned (some (.int Z.1))) (sh, Z.2) (rm_X0_give).cells (rm_X0_give).slots (sh, I) 0 0 32 [some (.ref (wad G 0)), some (.int x1), some (.int x2), some (.int x3), some (.int x4)] [] := by
        intro x1 x2 n32
        induction n32 with
        | zero => intro x3 x4 I hk; rw [f_X0_give_L32] at hk; cases hk
        | succ n32 ih32 =>
          intro x3 x4 I hk
          rw [f_X0_give_L32] at hk
          generalize f_X0_give_L32 F sh x1 x2 n32 = k32 at ih32 hk
          refine j_iload (pc := 32) C dX0_give_32 rfl ?_
          refine j_iload_n (pc := 34) C dX0_give_34 rfl rfl ?_
          refine j_icmp_gt (pc := 35) 82 C dX0_give_35 (by decide) (fun h6 => ?_) (fun h6 => ?_)
          · replace hk := it_t h6 hk
            refine j_iload_n (pc := 82) C dX0_give_82 rfl rfl ?_
            refine j_if_ne (pc := 83) 90 C dX0_give_83 (by decide) (fun h7 => ?_) (fun h7 => ?_)
            · replace hk := it_f h7 hk
              refine j_aload_n (pc := 90) C dX0_give_90 rfl rfl ?_
              replace hk := orf_some hk
              obtain ⟨t91, et91, hk⟩ := hk
              refine x_getR (pc := 91) C fd_0_1 (fl1 C q373) (stN_o0 hS).r et91 dX0_give_91 ?_
              refine j_iload_n (pc := 94) C dX0_give_94 rfl rfl ?_
              replace hk := ock_some hk
              obtain ⟨h8, hk⟩ := hk
              replace hk := ob_some hk
              obtain ⟨r95, h9, hk⟩ := hk
              refine x_callV (pc := 95) C (ct_X2_prices hS h9) mv_X2_prices h8 rfl rfl q1625 dX0_give_95 rfl rfl (Nat.le_of_ble_eq_true rfl) rfl ?_
              obtain rfl := Option.some.inj hk
              exact j_iret (pc := 98) C dX0_give_98 (Nat.le_of_ble_eq_true rfl) (Nat.le_of_ble_eq_true rfl)
            · replace hk := it_t h7 hk
              refine j_iload_n (pc := 86) C dX0_give_86 rfl rfl ?_
              refine j_goto (pc := 87) 98 C dX0_give_87 (by decide) ?_
              obtain rfl := Option.some.inj hk
              exact j_iret (pc := 98) C dX0_give_98 (Nat.le_of_ble_eq_true rfl) (Nat.le_of_ble_eq_true rfl)
          · replace hk := it_f h6 hk
            refine j_iload (pc := 38) C dX0_give_38 rfl ?_
            refine j_iload_n (pc := 40) C dX0_give_40 rfl rfl ?_
            refine j_iconst (pc := 41) (v := (-1)) C dX0_give_41 (by decide) ?_
            refine j_ixor (pc := 42) C dX0_give_42 ?_
            refine j_iand (pc := 43) C dX0_give_43 ?_
            refine j_if_ne (pc := 44) 76 C dX0_give_44 (by decide) (fun h10 => ?_) (fun h10 => ?_)
            · replace hk := it_f h10 hk
              refine j_iinc (pc := 76) (nI 1) C dX0_give_76 rfl (by decide) (Nat.le_of_ble_eq_true rfl) rfl ?_
              refine j_goto (pc := 79) 32 C dX0_give_79 (by decide) ?_
              exact j_mask [true, true, true, true, true] (ih32 _ _ _ hk)
            · replace hk := it_t h10 hk
              refine j_iload_n (pc := 47) C dX0_give_47 rfl rfl ?_
              refine j_iconst (pc := 48) (v := (-1)) C dX0_give_48 (by decide) ?_
              have Jn62 : ∀ (x3 : Int32) (x4 : Int32) (I : II), f_X0_give_J62 F sh k32 x1 x2 x3 x4 I = some Z → J G p l e rm_X0_give s m args below meth c 5 (.returned (some (.int Z.1))) (sh, Z.2) (rm_X0_give).cells (rm_X0_give).slots (sh, I) 0 0 62 [some (.ref (wad G 0)), some (.int x1), some (.int x2), some (.int x3), some (.int x4)] [] := by
                intro x3 x4 I hk
                unfold f_X0_give_J62 at hk
                refine j_aload_n (pc := 62) C dX0_give_62 rfl rfl ?_
                refine j_iload_n (pc := 63) C dX0_give_63 rfl rfl ?_
                refine j_iload (pc := 64) C dX0_give_64 rfl ?_
                refine j_ixor (pc := 66) C dX0_give_66 ?_
                replace hk := bd2_some hk
                obtain ⟨r67, I67, h11, hk⟩ := hk
                refine x_callV (pc := 67) C (ct_X0_isOut hS h11) mv_X0_isOut (stN_o0 hS).r rfl rfl q1419 dX0_give_67 rfl rfl (Nat.le_of_ble_eq_true rfl) rfl ?_
                refine j_if_ne (pc := 70) 76 C dX0_give_70 (by decide) (fun h12 => ?_) (fun h12 => ?_)
                · replace hk := it_f h12 hk
                  refine j_iinc (pc := 76) (nI 1) C dX0_give_76 rfl (by decide) (Nat.le_of_ble_eq_true rfl) rfl ?_
                  refine j_goto (pc := 79) 32 C dX0_give_79 (by decide) ?_
                  exact j_mask [true, true, true, true, true] (ih32 _ _ _ hk)
                · replace hk := it_t h12 hk
                  refine j_iload (pc := 73) C dX0_give_73 rfl ?_
                  refine j_istore_n (pc := 75) C dX0_give_75 rfl (Nat.le_of_ble_eq_true rfl) rfl ?_
                  refine j_iinc (pc := 76) (nI 1) C dX0_give_76 rfl (by decide) (Nat.le_of_ble_eq_true rfl) rfl ?_
                  refine j_goto (pc := 79) 32 C dX0_give_79 (by decide) ?_
                  exact j_mask [true, true, true, true, true] (ih32 _ _ _ hk)
              refine j_icmp_eq (pc := 49) 62 C dX0_give_49 (by decide) (fun h13 => ?_) (fun h13 => ?_)
              · replace hk := it_t h13 hk
                exact j_mask [true, true, true, true, true] (Jn62 _ _ _ hk)
              · replace hk := it_f h13 hk
                refine j_aload_n (pc := 52) C dX0_give_52 rfl rfl ?_
                refine j_iload (pc := 53) C dX0_give_53 rfl ?_
                refine j_iload_n (pc := 55) C dX0_give_55 rfl rfl ?_
                replace hk := ob_some hk
                obtain ⟨r56, h14, hk⟩ := hk
                refine x_callV (pc := 56) C (ct_X0_isLess hS h14) mv_X0_isLess (stN_o0 hS).r rfl rfl q1621 dX0_give_56 rfl rfl (Nat.le_of_ble_eq_true rfl) rfl ?_
                refine j_if_eq (pc := 59) 76 C dX0_give_59 (by decide) (fun h15 => ?_) (fun h15 => ?_)
                · replace hk := it_t h15 hk
                  refine j_iinc (pc := 76) (nI 1) C dX0_give_76 rfl (by decide) (Nat.le_of_ble_eq_true rfl) rfl ?_
                  refine j_goto (pc := 79) 32 C dX0_give_79 (by decide) ?_
                  exact j_mask [true, true, true, true, true] (ih32 _ _ _ hk)
                · replace hk := it_f h15 hk
                  exact j_mask [true, true, true, true, true] (Jn62 _ _ _ hk)
      exact j_mask [true, true, true, true, true] (L32 _ _ _ _ _ _ hk)
  have Jn22 : ∀ (x1 : Int32) (x2 : Int32) (I : II), f_X0_give_J22 F sh x1 x2 I = some Z → J G p l e rm_X0_give s m args below meth c 5 (.returned (some (.int Z.1))) (sh, Z.2) (rm_X0_give).cells (rm_X0_give).slots (sh, I) 0 0 22 [some (.ref (wad G 0)), some (.int x1), some (.int x2), none, none] [.ref (wad G 0)] := by
    intro x1 x2 I hk
    unfold f_X0_give_J22 at hk
    refine j_iconst (pc := 22) (v := nI 0) C dX0_give_22 (by decide) ?_
    exact j_mask [true, true, true, false, false] (Jn23 _ _ _ _ hk)
  refine j_if_eq (pc := 6) 22 C dX0_give_6 (by decide) (fun h16 => ?_) (fun h16 => ?_)
  · replace hk := it_t h16 hk
    exact j_mask [true, true, true, false, false] (Jn22 _ _ _ hk)
  · replace hk := it_f h16 hk
    refine j_iload_n (pc := 9) C dX0_give_9 rfl rfl ?_
    refine j_iconst (pc := 10) (v := nI 0) C dX0_give_10 (by decide) ?_
    refine j_iconst (pc := 11) (v := nI 1) C dX0_give_11 (by decide) ?_
    replace hk := ob_some hk
    obtain ⟨r12, h17, hk⟩ := hk
    refine j_callS (pc := 12) C (ct_X0_in h17) ms_X0_in q413 dX0_give_12 rfl rfl (Nat.le_of_ble_eq_true rfl) rfl ?_
    refine j_if_eq (pc := 15) 22 C dX0_give_15 (by decide) (fun h18 => ?_) (fun h18 => ?_)
    · replace hk := it_t h18 hk
      exact j_mask [true, true, true, false, false] (Jn22 _ _ _ hk)
    · replace hk := it_f h18 hk
      refine j_iconst (pc := 18) (v := nI 1) C dX0_give_18 (by decide) ?_
      refine j_goto (pc := 19) 23 C dX0_give_19 (by decide) ?_
      exact j_mask [true, true, true, false, false] (Jn23 _ _ _ _ hk)
def f_X0_fewOf_L10 (F : Nat) (sh : SH) (k2 : Int32 → II → Option (Int32 × II)) (x1 : Int32) : Nat → Int32 → II → Option (Int32 × II)
  | 0, _, _ => none
  | n10 + 1, x2, I => if (nI 4095) < x2 then k2 (x1 + (nI 1)) I else (f_J17_bitCount x2).bind fun r18 => if r18 = x1 then (f_X5_begin F sh x2 I).bind fun I33 => bd2 (f_X5_finds F sh I33) fun r40 I40 => if r40 = 0 then some (x2, I40) else (f_X0_fewOf_L10 F sh k2 x1 n10) (x2 + (nI 1)) I40 else (f_X0_fewOf_L10 F sh k2 x1 n10) (x2 + (nI 1)) I
def f_X0_fewOf_L2 (F : Nat) (sh : SH) : Nat → Int32 → II → Option (Int32 × II)
  | 0, _, _ => none
  | n2 + 1, x1, I => if (nI 12) < x1 then some ((-1), I) else f_X0_fewOf_L10 F sh (f_X0_fewOf_L2 F sh n2) x1 F (nI 1) I
def f_X0_fewOf (F : Nat) (sh : SH) (I : II) : Option (Int32 × II) := f_X0_fewOf_L2 F sh F (nI 1) I
abbrev rm_X0_fewOf : Room := { frames := 17, cells := 0, slots := 0, locals := 428 }
theorem mv_X0_fewOf_ok : callOK yX0_fewOf 0 := by decide +kernel
theorem mv_X0_fewOf : MV yX0_fewOf cX0_fewOf 3 (some .int) 0 := ⟨q1615, qs39, q91, q1616, mv_X0_fewOf_ok⟩
set_option maxHeartbeats 4000000 in
theorem ct_X0_fewOf {G : WG} {l : Launch} {sh : SH} (hS : stN sh) {I : II} {F : Nat}  {Z : (Int32 × II)} (hk : f_X0_fewOf F sh I = some Z) : CT G l yX0_fewOf (ws_ yX0_fewOf cX0_fewOf 3 (some .int)) rm_X0_fewOf [.ref (wad G 0)] (sh, I) (.returned (some (.int Z.1))) (sh, Z.2) := by
  refine CT.ofJ "NineDemands" rfl (by decide) (Nat.le_of_ble_eq_true rfl) ?_
  intro p e s m args below meth c C
  unfold f_X0_fewOf at hk
  refine j_lv (lv' := [some (.ref (wad G 0)), none, none]) rfl ?_
  refine j_iconst (pc := 0) (v := nI 1) C dX0_fewOf_0 (by decide) ?_
  refine j_istore_n (pc := 1) C dX0_fewOf_1 rfl (Nat.le_of_ble_eq_true rfl) rfl ?_
  have L2 : ∀  (n2 : Nat) (x1 : Int32) (I : II), f_X0_fewOf_L2 F sh n2 x1 I = some Z → J G p l e rm_X0_fewOf s m args below meth c 3 (.returned (some (.int Z.1))) (sh, Z.2) (rm_X0_fewOf).cells (rm_X0_fewOf).slots (sh, I) 0 0 2 [some (.ref (wad G 0)), some (.int x1), none] [] := by
    intro  n2
    induction n2 with
    | zero => intro x1 I hk; rw [f_X0_fewOf_L2] at hk; cases hk
    | succ n2 ih2 =>
      intro x1 I hk
      rw [f_X0_fewOf_L2] at hk
      generalize f_X0_fewOf_L2 F sh n2 = k2 at ih2 hk
      refine j_iload_n (pc := 2) C dX0_fewOf_2 rfl rfl ?_
      refine j_bipush (pc := 3) (v := nI 12) C dX0_fewOf_3 (by decide) ?_
      refine j_icmp_gt (pc := 5) 60 C dX0_fewOf_5 (by decide) (fun h1 => ?_) (fun h1 => ?_)
      · replace hk := it_t h1 hk
        refine j_iconst (pc := 60) (v := (-1)) C dX0_fewOf_60 (by decide) ?_
        obtain rfl := Option.some.inj hk
        exact j_iret (pc := 61) C dX0_fewOf_61 (Nat.le_of_ble_eq_true rfl) (Nat.le_of_ble_eq_true rfl)
      · replace hk := it_f h1 hk
        refine j_iconst (pc := 8) (v := nI 1) C dX0_fewOf_8 (by decide) ?_
        refine j_istore_n (pc := 9) C dX0_fewOf_9 rfl (Nat.le_of_ble_eq_true rfl) rfl ?_
        have L10 : ∀ (x1 : Int32) (n10 : Nat) (x2 : Int32) (I : II), f_X0_fewOf_L10 F sh k2 x1 n10 x2 I = some Z → J G p l e rm_X0_fewOf s m args below meth c 3 (.returned (some (.int Z.1))) (sh, Z.2) (rm_X0_fewOf).cells (rm_X0_fewOf).slots (sh, I) 0 0 10 [some (.ref (wad G 0)), some (.int x1), some (.int x2)] [] := by
          intro x1 n10
          induction n10 with
          | zero => intro x2 I hk; rw [f_X0_fewOf_L10] at hk; cases hk
          | succ n10 ih10 =>
            intro x2 I hk
            rw [f_X0_fewOf_L10] at hk
            generalize f_X0_fewOf_L10 F sh k2 x1 n10 = k10 at ih10 hk
            refine j_iload_n (pc := 10) C dX0_fewOf_10 rfl rfl ?_
            refine j_sipush (pc := 11) (v := nI 4095) C dX0_fewOf_11 (by decide) ?_
            refine j_icmp_gt (pc := 14) 54 C dX0_fewOf_14 (by decide) (fun h2 => ?_) (fun h2 => ?_)
            · replace hk := it_t h2 hk
              refine j_iinc (pc := 54) (nI 1) C dX0_fewOf_54 rfl (by decide) (Nat.le_of_ble_eq_true rfl) rfl ?_
              refine j_goto (pc := 57) 2 C dX0_fewOf_57 (by decide) ?_
              exact j_mask [true, true, false] (ih2 _ _ hk)
            · replace hk := it_f h2 hk
              refine j_iload_n (pc := 17) C dX0_fewOf_17 rfl rfl ?_
              replace hk := ob_some hk
              obtain ⟨r18, h3, hk⟩ := hk
              refine j_callS (pc := 18) C (ct_J17_bitCount h3) ms_J17_bitCount q1603 dX0_fewOf_18 rfl rfl (Nat.le_of_ble_eq_true rfl) rfl ?_
              refine j_iload_n (pc := 21) C dX0_fewOf_21 rfl rfl ?_
              refine j_icmp_eq (pc := 22) 28 C dX0_fewOf_22 (by decide) (fun h4 => ?_) (fun h4 => ?_)
              · replace hk := it_t h4 hk
                refine j_aload_n (pc := 28) C dX0_fewOf_28 rfl rfl ?_
                refine x_getR (pc := 29) C fd_0_6 (fl1 C q378) (stN_o0 hS).r (stN_r0_6 hS) dX0_fewOf_29 ?_
                refine j_iload_n (pc := 32) C dX0_fewOf_32 rfl rfl ?_
                replace hk := ob_some hk
                obtain ⟨I33, h5, hk⟩ := hk
                refine x_callV (pc := 33) C (ct_X5_begin hS h5) mv_X5_begin (stN_o11 hS).r rfl rfl q1449 dX0_fewOf_33 rfl rfl (Nat.le_of_ble_eq_true rfl) rfl ?_
                refine j_aload_n (pc := 36) C dX0_fewOf_36 rfl rfl ?_
                refine x_getR (pc := 37) C fd_0_6 (fl1 C q378) (stN_o0 hS).r (stN_r0_6 hS) dX0_fewOf_37 ?_
                replace hk := bd2_some hk
                obtain ⟨r40, I40, h6, hk⟩ := hk
                refine x_callV (pc := 40) C (ct_X5_finds hS h6) mv_X5_finds (stN_o11 hS).r rfl rfl q1453 dX0_fewOf_40 rfl rfl (Nat.le_of_ble_eq_true rfl) rfl ?_
                refine j_if_ne (pc := 43) 48 C dX0_fewOf_43 (by decide) (fun h7 => ?_) (fun h7 => ?_)
                · replace hk := it_f h7 hk
                  refine j_iinc (pc := 48) (nI 1) C dX0_fewOf_48 rfl (by decide) (Nat.le_of_ble_eq_true rfl) rfl ?_
                  refine j_goto (pc := 51) 10 C dX0_fewOf_51 (by decide) ?_
                  exact j_mask [true, true, true] (ih10 _ _ hk)
                · replace hk := it_t h7 hk
                  refine j_iload_n (pc := 46) C dX0_fewOf_46 rfl rfl ?_
                  obtain rfl := Option.some.inj hk
                  exact j_iret (pc := 47) C dX0_fewOf_47 (Nat.le_of_ble_eq_true rfl) (Nat.le_of_ble_eq_true rfl)
              · replace hk := it_f h4 hk
                refine j_goto (pc := 25) 48 C dX0_fewOf_25 (by decide) ?_
                refine j_iinc (pc := 48) (nI 1) C dX0_fewOf_48 rfl (by decide) (Nat.le_of_ble_eq_true rfl) rfl ?_
                refine j_goto (pc := 51) 10 C dX0_fewOf_51 (by decide) ?_
                exact j_mask [true, true, true] (ih10 _ _ hk)
        exact j_mask [true, true, true] (L10 _ _ _ _ hk)
  exact j_mask [true, true, false] (L2  _ _ _ hk)
def f_X0_few_J25 (F : Nat) (sh : SH) (s0 : Nat) (I : II) : Option (Int32 × II) := bd2 (f_X0_finds sh s0 I) fun r28 I28 => some (r28, I28)
def f_X0_few (F : Nat) (sh : SH) (x1 : Int32) (I : II) : Option (Int32 × II) := (f_X0_isSet sh x1 I).bind fun r3 => bd2 (f_X0_need sh r3 (nI 1) I) fun u7 I7 => oex u7 (fun _w7 => bd2 (f_X0_isOut F sh x1 I7) fun r13 I13 => bd2 (f_X0_need sh r13 (nI 3) I13) fun u17 I17 => oex u17 (fun _w17 => bd2 (f_X0_fewOf F sh I17) fun r21 I21 => some (r21, I21)) (fun w17 => ock sh w17 1 <| f_X0_few_J25 F sh w17 I17)) (fun w7 => ock sh w7 1 <| f_X0_few_J25 F sh w7 I7)
abbrev rm_X0_few : Room := { frames := 18, cells := 0, slots := 0, locals := 450 }
theorem mv_X0_few_ok : callOK yX0_few 1 := by decide +kernel
theorem mw_X0_few : MW yX0_few cX0_few 3 (some .int) [(0, 24, 25, 8)] 1 := ⟨q1610, q1611, q91, q1612, mv_X0_few_ok⟩
set_option maxHeartbeats 4000000 in
theorem ct_X0_few {G : WG} {l : Launch} {sh : SH} (hS : stN sh) {I : II} {F : Nat} {x1 : Int32} {Z : (Int32 × II)} (hk : f_X0_few F sh x1 I = some Z) : CT G l yX0_few (wsW_ yX0_few cX0_few 3 (some .int) [(0, 24, 25, 8)]) rm_X0_few [.ref (wad G 0), .int x1] (sh, I) (.returned (some (.int Z.1))) (sh, Z.2) := by
  refine CT.ofJW "NineDemands" rfl (by decide) (Nat.le_of_ble_eq_true rfl) ?_
  intro p e s m args below meth c C
  unfold f_X0_few at hk
  refine j_lv (lv' := [some (.ref (wad G 0)), some (.int x1), none]) rfl ?_
  refine j_aload_n (pc := 0) C dX0_few_0 rfl rfl ?_
  refine j_aload_n (pc := 1) C dX0_few_1 rfl rfl ?_
  refine j_iload_n (pc := 2) C dX0_few_2 rfl rfl ?_
  replace hk := ob_some hk
  obtain ⟨r3, h1, hk⟩ := hk
  refine x_callV (pc := 3) C (ct_X0_isSet hS h1) mv_X0_isSet (stN_o0 hS).r rfl rfl q1415 dX0_few_3 rfl rfl (Nat.le_of_ble_eq_true rfl) rfl ?_
  refine j_iconst (pc := 6) (v := nI 1) C dX0_few_6 (by decide) ?_
  have Jn25 : ∀ (s0 : Nat) (I : II), f_X0_few_J25 F sh s0 I = some Z → J G p l e rm_X0_few s m args below meth c 3 (.returned (some (.int Z.1))) (sh, Z.2) (rm_X0_few).cells (rm_X0_few).slots (sh, I) 0 0 25 [some (.ref (wad G 0)), none, none] [.ref (wad G s0)] := by
    intro s0 I hk
    unfold f_X0_few_J25 at hk
    refine j_astore_n (pc := 25) C dX0_few_25 rfl (Nat.le_of_ble_eq_true rfl) rfl ?_
    refine j_aload_n (pc := 26) C dX0_few_26 rfl rfl ?_
    refine j_aload_n (pc := 27) C dX0_few_27 rfl rfl ?_
    replace hk := bd2_some hk
    obtain ⟨r28, I28, h2, hk⟩ := hk
    refine x_callV (pc := 28) C (ct_X0_finds hS h2) mv_X0_finds (stN_o0 hS).r rfl rfl q433 dX0_few_28 rfl rfl (Nat.le_of_ble_eq_true rfl) rfl ?_
    obtain rfl := Option.some.inj hk
    exact j_iret (pc := 31) C dX0_few_31 (Nat.le_of_ble_eq_true rfl) (Nat.le_of_ble_eq_true rfl)
  replace hk := bd2_some hk
  obtain ⟨u7, I7, h3, hk⟩ := hk
  cases u7 with
  | inr w7 =>
    replace hk := oex_r hk
    replace hk := ock_some hk
    obtain ⟨h5, hk⟩ := hk
    refine x_callVC [] [] (0, 24, 25, 8) (pc := 7) C (ct_X0_need hS h3) mv_X0_need (stN_o0 hS).r rfl rfl q416 dX0_few_7 rfl rfl (Nat.le_of_ble_eq_true rfl) rfl rfl h5 rfl (by decide) (by decide) q146 (fun z hz => by cases hz) ?_
    exact j_mask [true, false, false] (Jn25 _ _ hk)
  | inl _w7 =>
    replace hk := oex_l hk
    refine x_callV (pc := 7) C (ct_X0_need hS h3) mv_X0_need (stN_o0 hS).r rfl rfl q416 dX0_few_7 rfl rfl (Nat.le_of_ble_eq_true rfl) rfl ?_
    refine j_aload_n (pc := 10) C dX0_few_10 rfl rfl ?_
    refine j_aload_n (pc := 11) C dX0_few_11 rfl rfl ?_
    refine j_iload_n (pc := 12) C dX0_few_12 rfl rfl ?_
    replace hk := bd2_some hk
    obtain ⟨r13, I13, h6, hk⟩ := hk
    refine x_callV (pc := 13) C (ct_X0_isOut hS h6) mv_X0_isOut (stN_o0 hS).r rfl rfl q1419 dX0_few_13 rfl rfl (Nat.le_of_ble_eq_true rfl) rfl ?_
    refine j_iconst (pc := 16) (v := nI 3) C dX0_few_16 (by decide) ?_
    replace hk := bd2_some hk
    obtain ⟨u17, I17, h7, hk⟩ := hk
    cases u17 with
    | inr w17 =>
      replace hk := oex_r hk
      replace hk := ock_some hk
      obtain ⟨h9, hk⟩ := hk
      refine x_callVC [] [] (0, 24, 25, 8) (pc := 17) C (ct_X0_need hS h7) mv_X0_need (stN_o0 hS).r rfl rfl q416 dX0_few_17 rfl rfl (Nat.le_of_ble_eq_true rfl) rfl rfl h9 rfl (by decide) (by decide) q146 (fun z hz => by cases hz) ?_
      exact j_mask [true, false, false] (Jn25 _ _ hk)
    | inl _w17 =>
      replace hk := oex_l hk
      refine x_callV (pc := 17) C (ct_X0_need hS h7) mv_X0_need (stN_o0 hS).r rfl rfl q416 dX0_few_17 rfl rfl (Nat.le_of_ble_eq_true rfl) rfl ?_
      refine j_aload_n (pc := 20) C dX0_few_20 rfl rfl ?_
      replace hk := bd2_some hk
      obtain ⟨r21, I21, h10, hk⟩ := hk
      refine x_callV (pc := 21) C (ct_X0_fewOf hS h10) mv_X0_fewOf (stN_o0 hS).r rfl rfl q1613 dX0_few_21 rfl rfl (Nat.le_of_ble_eq_true rfl) rfl ?_
      obtain rfl := Option.some.inj hk
      exact j_iret (pc := 24) C dX0_few_24 (Nat.le_of_ble_eq_true rfl) (Nat.le_of_ble_eq_true rfl)
def f_X0_smallOf_L10 (F : Nat) (sh : SH) (k2 : Int32 → II → Option (Int32 × II)) (x1 : Int32) (x2 : Int32) : Nat → Int32 → II → Option (Int32 × II)
  | 0, _, _ => none
  | n10 + 1, x3, I => if x1 < x3 then k2 (x2 + (nI 1)) I else if (x3 &&& (x1 ^^^ (-1))) = 0 then (f_J17_bitCount x3).bind fun r24 => if r24 = x2 then bd2 (f_X0_isOut F sh x3 I) fun r33 I33 => if r33 = 0 then (f_X0_smallOf_L10 F sh k2 x1 x2 n10) (x3 + (nI 1)) I33 else some (x3, I33) else (f_X0_smallOf_L10 F sh k2 x1 x2 n10) (x3 + (nI 1)) I else (f_X0_smallOf_L10 F sh k2 x1 x2 n10) (x3 + (nI 1)) I
def f_X0_smallOf_L2 (F : Nat) (sh : SH) (x1 : Int32) : Nat → Int32 → II → Option (Int32 × II)
  | 0, _, _ => none
  | n2 + 1, x2, I => if (nI 8) < x2 then some ((-1), I) else f_X0_smallOf_L10 F sh (f_X0_smallOf_L2 F sh x1 n2) x1 x2 F (nI 0) I
def f_X0_smallOf (F : Nat) (sh : SH) (x1 : Int32) (I : II) : Option (Int32 × II) := f_X0_smallOf_L2 F sh x1 F (nI 0) I
abbrev rm_X0_smallOf : Room := { frames := 18, cells := 0, slots := 0, locals := 449 }
theorem mv_X0_smallOf_ok : callOK yX0_smallOf 1 := by decide +kernel
theorem mv_X0_smallOf : MV yX0_smallOf cX0_smallOf 4 (some .int) 1 := ⟨q1601, qs38, q91, q1602, mv_X0_smallOf_ok⟩
set_option maxHeartbeats 4000000 in
theorem ct_X0_smallOf {G : WG} {l : Launch} {sh : SH} (hS : stN sh) {I : II} {F : Nat} {x1 : Int32} {Z : (Int32 × II)} (hk : f_X0_smallOf F sh x1 I = some Z) : CT G l yX0_smallOf (ws_ yX0_smallOf cX0_smallOf 4 (some .int)) rm_X0_smallOf [.ref (wad G 0), .int x1] (sh, I) (.returned (some (.int Z.1))) (sh, Z.2) := by
  refine CT.ofJ "NineDemands" rfl (by decide) (Nat.le_of_ble_eq_true rfl) ?_
  intro p e s m args below meth c C
  unfold f_X0_smallOf at hk
  refine j_lv (lv' := [some (.ref (wad G 0)), some (.int x1), none, none]) rfl ?_
  refine j_iconst (pc := 0) (v := nI 0) C dX0_smallOf_0 (by decide) ?_
  refine j_istore_n (pc := 1) C dX0_smallOf_1 rfl (Nat.le_of_ble_eq_true rfl) rfl ?_
  have L2 : ∀ (x1 : Int32) (n2 : Nat) (x2 : Int32) (I : II), f_X0_smallOf_L2 F sh x1 n2 x2 I = some Z → J G p l e rm_X0_smallOf s m args below meth c 4 (.returned (some (.int Z.1))) (sh, Z.2) (rm_X0_smallOf).cells (rm_X0_smallOf).slots (sh, I) 0 0 2 [some (.ref (wad G 0)), some (.int x1), some (.int x2), none] [] := by
    intro x1 n2
    induction n2 with
    | zero => intro x2 I hk; rw [f_X0_smallOf_L2] at hk; cases hk
    | succ n2 ih2 =>
      intro x2 I hk
      rw [f_X0_smallOf_L2] at hk
      generalize f_X0_smallOf_L2 F sh x1 n2 = k2 at ih2 hk
      refine j_iload_n (pc := 2) C dX0_smallOf_2 rfl rfl ?_
      refine j_bipush (pc := 3) (v := nI 8) C dX0_smallOf_3 (by decide) ?_
      refine j_icmp_gt (pc := 5) 53 C dX0_smallOf_5 (by decide) (fun h1 => ?_) (fun h1 => ?_)
      · replace hk := it_t h1 hk
        refine j_iconst (pc := 53) (v := (-1)) C dX0_smallOf_53 (by decide) ?_
        obtain rfl := Option.some.inj hk
        exact j_iret (pc := 54) C dX0_smallOf_54 (Nat.le_of_ble_eq_true rfl) (Nat.le_of_ble_eq_true rfl)
      · replace hk := it_f h1 hk
        refine j_iconst (pc := 8) (v := nI 0) C dX0_smallOf_8 (by decide) ?_
        refine j_istore_n (pc := 9) C dX0_smallOf_9 rfl (Nat.le_of_ble_eq_true rfl) rfl ?_
        have L10 : ∀ (x2 : Int32) (n10 : Nat) (x3 : Int32) (I : II), f_X0_smallOf_L10 F sh k2 x1 x2 n10 x3 I = some Z → J G p l e rm_X0_smallOf s m args below meth c 4 (.returned (some (.int Z.1))) (sh, Z.2) (rm_X0_smallOf).cells (rm_X0_smallOf).slots (sh, I) 0 0 10 [some (.ref (wad G 0)), some (.int x1), some (.int x2), some (.int x3)] [] := by
          intro x2 n10
          induction n10 with
          | zero => intro x3 I hk; rw [f_X0_smallOf_L10] at hk; cases hk
          | succ n10 ih10 =>
            intro x3 I hk
            rw [f_X0_smallOf_L10] at hk
            generalize f_X0_smallOf_L10 F sh k2 x1 x2 n10 = k10 at ih10 hk
            refine j_iload_n (pc := 10) C dX0_smallOf_10 rfl rfl ?_
            refine j_iload_n (pc := 11) C dX0_smallOf_11 rfl rfl ?_
            refine j_icmp_gt (pc := 12) 47 C dX0_smallOf_12 (by decide) (fun h2 => ?_) (fun h2 => ?_)
            · replace hk := it_t h2 hk
              refine j_iinc (pc := 47) (nI 1) C dX0_smallOf_47 rfl (by decide) (Nat.le_of_ble_eq_true rfl) rfl ?_
              refine j_goto (pc := 50) 2 C dX0_smallOf_50 (by decide) ?_
              exact j_mask [true, true, true, false] (ih2 _ _ hk)
            · replace hk := it_f h2 hk
              refine j_iload_n (pc := 15) C dX0_smallOf_15 rfl rfl ?_
              refine j_iload_n (pc := 16) C dX0_smallOf_16 rfl rfl ?_
              refine j_iconst (pc := 17) (v := (-1)) C dX0_smallOf_17 (by decide) ?_
              refine j_ixor (pc := 18) C dX0_smallOf_18 ?_
              refine j_iand (pc := 19) C dX0_smallOf_19 ?_
              refine j_if_ne (pc := 20) 41 C dX0_smallOf_20 (by decide) (fun h3 => ?_) (fun h3 => ?_)
              · replace hk := it_f h3 hk
                refine j_iinc (pc := 41) (nI 1) C dX0_smallOf_41 rfl (by decide) (Nat.le_of_ble_eq_true rfl) rfl ?_
                refine j_goto (pc := 44) 10 C dX0_smallOf_44 (by decide) ?_
                exact j_mask [true, true, true, true] (ih10 _ _ hk)
              · replace hk := it_t h3 hk
                refine j_iload_n (pc := 23) C dX0_smallOf_23 rfl rfl ?_
                replace hk := ob_some hk
                obtain ⟨r24, h4, hk⟩ := hk
                refine j_callS (pc := 24) C (ct_J17_bitCount h4) ms_J17_bitCount q1603 dX0_smallOf_24 rfl rfl (Nat.le_of_ble_eq_true rfl) rfl ?_
                refine j_iload_n (pc := 27) C dX0_smallOf_27 rfl rfl ?_
                refine j_icmp_ne (pc := 28) 41 C dX0_smallOf_28 (by decide) (fun h5 => ?_) (fun h5 => ?_)
                · replace hk := it_f h5 hk
                  refine j_iinc (pc := 41) (nI 1) C dX0_smallOf_41 rfl (by decide) (Nat.le_of_ble_eq_true rfl) rfl ?_
                  refine j_goto (pc := 44) 10 C dX0_smallOf_44 (by decide) ?_
                  exact j_mask [true, true, true, true] (ih10 _ _ hk)
                · replace hk := it_t h5 hk
                  refine j_aload_n (pc := 31) C dX0_smallOf_31 rfl rfl ?_
                  refine j_iload_n (pc := 32) C dX0_smallOf_32 rfl rfl ?_
                  replace hk := bd2_some hk
                  obtain ⟨r33, I33, h6, hk⟩ := hk
                  refine x_callV (pc := 33) C (ct_X0_isOut hS h6) mv_X0_isOut (stN_o0 hS).r rfl rfl q1419 dX0_smallOf_33 rfl rfl (Nat.le_of_ble_eq_true rfl) rfl ?_
                  refine j_if_eq (pc := 36) 41 C dX0_smallOf_36 (by decide) (fun h7 => ?_) (fun h7 => ?_)
                  · replace hk := it_t h7 hk
                    refine j_iinc (pc := 41) (nI 1) C dX0_smallOf_41 rfl (by decide) (Nat.le_of_ble_eq_true rfl) rfl ?_
                    refine j_goto (pc := 44) 10 C dX0_smallOf_44 (by decide) ?_
                    exact j_mask [true, true, true, true] (ih10 _ _ hk)
                  · replace hk := it_f h7 hk
                    refine j_iload_n (pc := 39) C dX0_smallOf_39 rfl rfl ?_
                    obtain rfl := Option.some.inj hk
                    exact j_iret (pc := 40) C dX0_smallOf_40 (Nat.le_of_ble_eq_true rfl) (Nat.le_of_ble_eq_true rfl)
        exact j_mask [true, true, true, true] (L10 _ _ _ _ hk)
  exact j_mask [true, true, true, false] (L2 _ _ _ _ hk)
def f_X0_small_J26 (F : Nat) (sh : SH) (s0 : Nat) (I : II) : Option (Int32 × II) := bd2 (f_X0_finds sh s0 I) fun r29 I29 => some (r29, I29)
def f_X0_small (F : Nat) (sh : SH) (x1 : Int32) (I : II) : Option (Int32 × II) := (f_X0_isSet sh x1 I).bind fun r3 => bd2 (f_X0_need sh r3 (nI 1) I) fun u7 I7 => oex u7 (fun _w7 => bd2 (f_X0_isOut F sh x1 I7) fun r13 I13 => bd2 (f_X0_need sh r13 (nI 3) I13) fun u17 I17 => oex u17 (fun _w17 => bd2 (f_X0_smallOf F sh x1 I17) fun r22 I22 => some (r22, I22)) (fun w17 => ock sh w17 1 <| f_X0_small_J26 F sh w17 I17)) (fun w7 => ock sh w7 1 <| f_X0_small_J26 F sh w7 I7)
abbrev rm_X0_small : Room := { frames := 19, cells := 0, slots := 0, locals := 472 }
theorem mv_X0_small_ok : callOK yX0_small 1 := by decide +kernel
theorem mw_X0_small : MW yX0_small cX0_small 3 (some .int) [(0, 25, 26, 8)] 1 := ⟨q1596, q1597, q91, q1598, mv_X0_small_ok⟩
set_option maxHeartbeats 4000000 in
theorem ct_X0_small {G : WG} {l : Launch} {sh : SH} (hS : stN sh) {I : II} {F : Nat} {x1 : Int32} {Z : (Int32 × II)} (hk : f_X0_small F sh x1 I = some Z) : CT G l yX0_small (wsW_ yX0_small cX0_small 3 (some .int) [(0, 25, 26, 8)]) rm_X0_small [.ref (wad G 0), .int x1] (sh, I) (.returned (some (.int Z.1))) (sh, Z.2) := by
  refine CT.ofJW "NineDemands" rfl (by decide) (Nat.le_of_ble_eq_true rfl) ?_
  intro p e s m args below meth c C
  unfold f_X0_small at hk
  refine j_lv (lv' := [some (.ref (wad G 0)), some (.int x1), none]) rfl ?_
  refine j_aload_n (pc := 0) C dX0_small_0 rfl rfl ?_
  refine j_aload_n (pc := 1) C dX0_small_1 rfl rfl ?_
  refine j_iload_n (pc := 2) C dX0_small_2 rfl rfl ?_
  replace hk := ob_some hk
  obtain ⟨r3, h1, hk⟩ := hk
  refine x_callV (pc := 3) C (ct_X0_isSet hS h1) mv_X0_isSet (stN_o0 hS).r rfl rfl q1415 dX0_small_3 rfl rfl (Nat.le_of_ble_eq_true rfl) rfl ?_
  refine j_iconst (pc := 6) (v := nI 1) C dX0_small_6 (by decide) ?_
  have Jn26 : ∀ (s0 : Nat) (I : II), f_X0_small_J26 F sh s0 I = some Z → J G p l e rm_X0_small s m args below meth c 3 (.returned (some (.int Z.1))) (sh, Z.2) (rm_X0_small).cells (rm_X0_small).slots (sh, I) 0 0 26 [some (.ref (wad G 0)), none, none] [.ref (wad G s0)] := by
    intro s0 I hk
    unfold f_X0_small_J26 at hk
    refine j_astore_n (pc := 26) C dX0_small_26 rfl (Nat.le_of_ble_eq_true rfl) rfl ?_
    refine j_aload_n (pc := 27) C dX0_small_27 rfl rfl ?_
    refine j_aload_n (pc := 28) C dX0_small_28 rfl rfl ?_
    replace hk := bd2_some hk
    obtain ⟨r29, I29, h2, hk⟩ := hk
    refine x_callV (pc := 29) C (ct_X0_finds hS h2) mv_X0_finds (stN_o0 hS).r rfl rfl q433 dX0_small_29 rfl rfl (Nat.le_of_ble_eq_true rfl) rfl ?_
    obtain rfl := Option.some.inj hk
    exact j_iret (pc := 32) C dX0_small_32 (Nat.le_of_ble_eq_true rfl) (Nat.le_of_ble_eq_true rfl)
  replace hk := bd2_some hk
  obtain ⟨u7, I7, h3, hk⟩ := hk
  cases u7 with
  | inr w7 =>
    replace hk := oex_r hk
    replace hk := ock_some hk
    obtain ⟨h5, hk⟩ := hk
    refine x_callVC [] [] (0, 25, 26, 8) (pc := 7) C (ct_X0_need hS h3) mv_X0_need (stN_o0 hS).r rfl rfl q416 dX0_small_7 rfl rfl (Nat.le_of_ble_eq_true rfl) rfl rfl h5 rfl (by decide) (by decide) q146 (fun z hz => by cases hz) ?_
    exact j_mask [true, false, false] (Jn26 _ _ hk)
  | inl _w7 =>
    replace hk := oex_l hk
    refine x_callV (pc := 7) C (ct_X0_need hS h3) mv_X0_need (stN_o0 hS).r rfl rfl q416 dX0_small_7 rfl rfl (Nat.le_of_ble_eq_true rfl) rfl ?_
    refine j_aload_n (pc := 10) C dX0_small_10 rfl rfl ?_
    refine j_aload_n (pc := 11) C dX0_small_11 rfl rfl ?_
    refine j_iload_n (pc := 12) C dX0_small_12 rfl rfl ?_
    replace hk := bd2_some hk
    obtain ⟨r13, I13, h6, hk⟩ := hk
    refine x_callV (pc := 13) C (ct_X0_isOut hS h6) mv_X0_isOut (stN_o0 hS).r rfl rfl q1419 dX0_small_13 rfl rfl (Nat.le_of_ble_eq_true rfl) rfl ?_
    refine j_iconst (pc := 16) (v := nI 3) C dX0_small_16 (by decide) ?_
    replace hk := bd2_some hk
    obtain ⟨u17, I17, h7, hk⟩ := hk
    cases u17 with
    | inr w17 =>
      replace hk := oex_r hk
      replace hk := ock_some hk
      obtain ⟨h9, hk⟩ := hk
      refine x_callVC [] [] (0, 25, 26, 8) (pc := 17) C (ct_X0_need hS h7) mv_X0_need (stN_o0 hS).r rfl rfl q416 dX0_small_17 rfl rfl (Nat.le_of_ble_eq_true rfl) rfl rfl h9 rfl (by decide) (by decide) q146 (fun z hz => by cases hz) ?_
      exact j_mask [true, false, false] (Jn26 _ _ hk)
    | inl _w17 =>
      replace hk := oex_l hk
      refine x_callV (pc := 17) C (ct_X0_need hS h7) mv_X0_need (stN_o0 hS).r rfl rfl q416 dX0_small_17 rfl rfl (Nat.le_of_ble_eq_true rfl) rfl ?_
      refine j_aload_n (pc := 20) C dX0_small_20 rfl rfl ?_
      refine j_iload_n (pc := 21) C dX0_small_21 rfl rfl ?_
      replace hk := bd2_some hk
      obtain ⟨r22, I22, h10, hk⟩ := hk
      refine x_callV (pc := 22) C (ct_X0_smallOf hS h10) mv_X0_smallOf (stN_o0 hS).r rfl rfl q1599 dX0_small_22 rfl rfl (Nat.le_of_ble_eq_true rfl) rfl ?_
      obtain rfl := Option.some.inj hk
      exact j_iret (pc := 25) C dX0_small_25 (Nat.le_of_ble_eq_true rfl) (Nat.le_of_ble_eq_true rfl)
def f_X0_isChoice (x0 : Int32) : Option Int32 := (f_X0_in x0 (nI 1) (nI 3)).bind fun r3 => og (r3 = 0 ∨ r3 = 1) <| some r3
abbrev rm_X0_isChoice : Room := { frames := 1, cells := 0, slots := 0, locals := 22 }
theorem ms_X0_isChoice : MS yX0_isChoice cX0_isChoice 1 (some .boolean) 1 := ⟨q450, q91, q451, by decide +kernel⟩
set_option maxHeartbeats 4000000 in
theorem ct_X0_isChoice {G : WG} {l : Launch} {sh : SH} {I : II} {x0 : Int32} {Z : Int32} (hk : f_X0_isChoice x0 = some Z) : CT G l yX0_isChoice (ws_ yX0_isChoice cX0_isChoice 1 (some .boolean)) rm_X0_isChoice [.int x0] (sh, I) (.returned (some (.int Z))) (sh, I) := by
  refine CT.ofJ "NineDemands" rfl (by decide) (Nat.le_of_ble_eq_true rfl) ?_
  intro p e s m args below meth c C
  unfold f_X0_isChoice at hk
  refine j_lv (lv' := [some (.int x0)]) rfl ?_
  refine j_iload_n (pc := 0) C dX0_isChoice_0 rfl rfl ?_
  refine j_iconst (pc := 1) (v := nI 1) C dX0_isChoice_1 (by decide) ?_
  refine j_iconst (pc := 2) (v := nI 3) C dX0_isChoice_2 (by decide) ?_
  replace hk := ob_some hk
  obtain ⟨r3, h1, hk⟩ := hk
  refine j_callS (pc := 3) C (ct_X0_in h1) ms_X0_in q413 dX0_isChoice_3 rfl rfl (Nat.le_of_ble_eq_true rfl) rfl ?_
  replace hk := og_some hk
  obtain ⟨h2, hk⟩ := hk
  obtain rfl := Option.some.inj hk
  exact j_zret (pc := 6) C dX0_isChoice_6 (Nat.le_of_ble_eq_true rfl) (Nat.le_of_ble_eq_true rfl) (isB.nar h2)
def f_X7_goesSecond_L6 (F : Nat) (sh : SH) (I : II) (x1 : Nat) (x2 : Int32) (x3 : Int32) : Nat → Int32 → Int32 → Option Int32
  | 0, _, _ => none
  | n6 + 1, x4, x5 => if (nI 3) < x5 then og (x4 = 0 ∨ x4 = 1) <| some x4 else if x4 = 0 then ockD sh x1 <| orf (sh.2.2 x1 4) fun t22 => ock sh t22 23 <| orf (sh.2.2 t22 0) fun t25 => oarw sh t25 100 fun nh6 => oix x2 nh6 fun i29 => oix (I t25 i29) 12 fun i30 => (f_X0_has (I 19 i30) x5).bind fun r33 => if r33 = 0 then (f_X7_goesSecond_L6 F sh I x1 x2 x3 n6) (nI 0) (x5 + (nI 1)) else (v_X10_goes sh x1 x2 x5 x3 I).bind fun r44 => if r44 = 0 then (f_X7_goesSecond_L6 F sh I x1 x2 x3 n6) (nI 0) (x5 + (nI 1)) else (f_X7_goesSecond_L6 F sh I x1 x2 x3 n6) (nI 1) (x5 + (nI 1)) else (f_X7_goesSecond_L6 F sh I x1 x2 x3 n6) (nI 1) (x5 + (nI 1))
def f_X7_goesSecond (F : Nat) (sh : SH) (x1 : Nat) (x2 : Int32) (x3 : Int32) (I : II) : Option Int32 := f_X7_goesSecond_L6 F sh I x1 x2 x3 F (nI 0) (nI 1)
abbrev rm_X7_goesSecond : Room := { frames := 2, cells := 0, slots := 0, locals := 44 }
theorem mv_X7_goesSecond_ok : callOK yX7_goesSecond 3 := by decide +kernel
theorem mv_X7_goesSecond : MV yX7_goesSecond cX7_goesSecond 6 (some .boolean) 3 := ⟨q1579, qs36, q104, q1580, mv_X7_goesSecond_ok⟩
set_option maxHeartbeats 4000000 in
theorem ct_X7_goesSecond {G : WG} {l : Launch} {sh : SH} (hS : stN sh) {I : II} {F : Nat} {x1 : Nat} {x2 : Int32} {x3 : Int32} {Z : Int32} (hk : f_X7_goesSecond F sh x1 x2 x3 I = some Z) : CT G l yX7_goesSecond (ws_ yX7_goesSecond cX7_goesSecond 6 (some .boolean)) rm_X7_goesSecond [.ref (wad G 17), .ref (wad G x1), .int x2, .int x3] (sh, I) (.returned (some (.int Z))) (sh, I) := by
  refine CT.ofJ "NineDemands$Showing" rfl (by decide) (Nat.le_of_ble_eq_true rfl) ?_
  intro p e s m args below meth c C
  unfold f_X7_goesSecond at hk
  refine j_lv (lv' := [some (.ref (wad G 17)), some (.ref (wad G x1)), some (.int x2), some (.int x3), none, none]) rfl ?_
  refine j_iconst (pc := 0) (v := nI 0) C dX7_goesSecond_0 (by decide) ?_
  refine j_istore (pc := 1) C dX7_goesSecond_1 (Nat.le_of_ble_eq_true rfl) rfl ?_
  refine j_iconst (pc := 3) (v := nI 1) C dX7_goesSecond_3 (by decide) ?_
  refine j_istore (pc := 4) C dX7_goesSecond_4 (Nat.le_of_ble_eq_true rfl) rfl ?_
  have L6 : ∀ (x1 : Nat) (x2 : Int32) (x3 : Int32) (n6 : Nat) (x4 : Int32) (x5 : Int32), f_X7_goesSecond_L6 F sh I x1 x2 x3 n6 x4 x5 = some Z → J G p l e rm_X7_goesSecond s m args below meth c 6 (.returned (some (.int Z))) (sh, I) (rm_X7_goesSecond).cells (rm_X7_goesSecond).slots (sh, I) 0 0 6 [some (.ref (wad G 17)), some (.ref (wad G x1)), some (.int x2), some (.int x3), some (.int x4), some (.int x5)] [] := by
    intro x1 x2 x3 n6
    induction n6 with
    | zero => intro x4 x5 hk; rw [f_X7_goesSecond_L6] at hk; cases hk
    | succ n6 ih6 =>
      intro x4 x5 hk
      rw [f_X7_goesSecond_L6] at hk
      generalize f_X7_goesSecond_L6 F sh I x1 x2 x3 n6 = k6 at ih6 hk
      refine j_iload (pc := 6) C dX7_goesSecond_6 rfl ?_
      refine j_iconst (pc := 8) (v := nI 3) C dX7_goesSecond_8 (by decide) ?_
      refine j_icmp_gt (pc := 9) 63 C dX7_goesSecond_9 (by decide) (fun h1 => ?_) (fun h1 => ?_)
      · replace hk := it_t h1 hk
        refine j_iload (pc := 63) C dX7_goesSecond_63 rfl ?_
        replace hk := og_some hk
        obtain ⟨h2, hk⟩ := hk
        obtain rfl := Option.some.inj hk
        exact j_zret (pc := 65) C dX7_goesSecond_65 (Nat.le_of_ble_eq_true rfl) (Nat.le_of_ble_eq_true rfl) (isB.nar h2)
      · replace hk := it_f h1 hk
        refine j_iload (pc := 12) C dX7_goesSecond_12 rfl ?_
        refine j_if_ne (pc := 14) 50 C dX7_goesSecond_14 (by decide) (fun h3 => ?_) (fun h3 => ?_)
        · replace hk := it_f h3 hk
          refine j_iconst (pc := 50) (v := nI 1) C dX7_goesSecond_50 (by decide) ?_
          refine j_goto (pc := 51) 55 C dX7_goesSecond_51 (by decide) ?_
          refine j_istore (pc := 55) C dX7_goesSecond_55 (Nat.le_of_ble_eq_true rfl) rfl ?_
          refine j_iinc (pc := 57) (nI 1) C dX7_goesSecond_57 rfl (by decide) (Nat.le_of_ble_eq_true rfl) rfl ?_
          refine j_goto (pc := 60) 6 C dX7_goesSecond_60 (by decide) ?_
          exact j_mask [true, true, true, true, true, true] (ih6 _ _ hk)
        · replace hk := it_t h3 hk
          refine j_aload_n (pc := 17) C dX7_goesSecond_17 rfl rfl ?_
          refine x_getR (pc := 18) C fd_8_1 (fl1 C q347) (stN_o17 hS).r (stN_r17_1 hS) dX7_goesSecond_18 ?_
          refine j_aload_n (pc := 21) C dX7_goesSecond_21 rfl rfl ?_
          replace hk := ockD_some hk
          obtain ⟨ch4, ch4h, h4, hk⟩ := hk
          replace hk := orf_some hk
          obtain ⟨t22, et22, hk⟩ := hk
          refine x_getR (pc := 22) C (fdD_4 ch4h) (fl1 C q568) h4 et22 dX7_goesSecond_22 ?_
          replace hk := ock_some hk
          obtain ⟨h5, hk⟩ := hk
          replace hk := orf_some hk
          obtain ⟨t25, et25, hk⟩ := hk
          refine x_getR (pc := 25) C fd_23_0 (fl3 C q1122) h5 et25 dX7_goesSecond_25 ?_
          refine j_iload_n (pc := 28) C dX7_goesSecond_28 rfl rfl ?_
          replace hk := oarw_some hk
          obtain ⟨nh6, h6, hk⟩ := hk
          replace hk := oix_ex hk
          obtain ⟨i29, e29, h7, hk⟩ := hk
          refine j_iald (pc := 29) C h6 h7 e29 dX7_goesSecond_29 ?_
          replace hk := oix_ex hk
          obtain ⟨i30, e30, h8, hk⟩ := hk
          refine j_iald (pc := 30) C (stN_a19 hS) h8 e30 dX7_goesSecond_30 ?_
          refine j_iload (pc := 31) C dX7_goesSecond_31 rfl ?_
          replace hk := ob_some hk
          obtain ⟨r33, h9, hk⟩ := hk
          refine x_callSN (pc := 33) C (ct_X0_has h9) ms_X0_has q1552 dX7_goesSecond_33 rfl rfl (Nat.le_of_ble_eq_true rfl) rfl ?_
          refine j_if_eq (pc := 36) 54 C dX7_goesSecond_36 (by decide) (fun h10 => ?_) (fun h10 => ?_)
          · replace hk := it_t h10 hk
            refine j_iconst (pc := 54) (v := nI 0) C dX7_goesSecond_54 (by decide) ?_
            refine j_istore (pc := 55) C dX7_goesSecond_55 (Nat.le_of_ble_eq_true rfl) rfl ?_
            refine j_iinc (pc := 57) (nI 1) C dX7_goesSecond_57 rfl (by decide) (Nat.le_of_ble_eq_true rfl) rfl ?_
            refine j_goto (pc := 60) 6 C dX7_goesSecond_60 (by decide) ?_
            exact j_mask [true, true, true, true, true, true] (ih6 _ _ hk)
          · replace hk := it_f h10 hk
            refine j_aload_n (pc := 39) C dX7_goesSecond_39 rfl rfl ?_
            refine j_iload_n (pc := 40) C dX7_goesSecond_40 rfl rfl ?_
            refine j_iload (pc := 41) C dX7_goesSecond_41 rfl ?_
            refine j_iload_n (pc := 43) C dX7_goesSecond_43 rfl rfl ?_
            replace hk := ob_some hk
            obtain ⟨r44, h11, hk⟩ := hk
            refine x_callX (pc := 44) C (vc_X10_goes hS h11) q1568 dX7_goesSecond_44 rfl rfl (Nat.le_of_ble_eq_true rfl) (Nat.le_of_ble_eq_true rfl) (Nat.le_of_ble_eq_true rfl) (Nat.le_of_ble_eq_true rfl) (Nat.le_of_ble_eq_true rfl) ?_
            refine j_if_eq (pc := 47) 54 C dX7_goesSecond_47 (by decide) (fun h12 => ?_) (fun h12 => ?_)
            · replace hk := it_t h12 hk
              refine j_iconst (pc := 54) (v := nI 0) C dX7_goesSecond_54 (by decide) ?_
              refine j_istore (pc := 55) C dX7_goesSecond_55 (Nat.le_of_ble_eq_true rfl) rfl ?_
              refine j_iinc (pc := 57) (nI 1) C dX7_goesSecond_57 rfl (by decide) (Nat.le_of_ble_eq_true rfl) rfl ?_
              refine j_goto (pc := 60) 6 C dX7_goesSecond_60 (by decide) ?_
              exact j_mask [true, true, true, true, true, true] (ih6 _ _ hk)
            · replace hk := it_f h12 hk
              refine j_iconst (pc := 50) (v := nI 1) C dX7_goesSecond_50 (by decide) ?_
              refine j_goto (pc := 51) 55 C dX7_goesSecond_51 (by decide) ?_
              refine j_istore (pc := 55) C dX7_goesSecond_55 (Nat.le_of_ble_eq_true rfl) rfl ?_
              refine j_iinc (pc := 57) (nI 1) C dX7_goesSecond_57 rfl (by decide) (Nat.le_of_ble_eq_true rfl) rfl ?_
              refine j_goto (pc := 60) 6 C dX7_goesSecond_60 (by decide) ?_
              exact j_mask [true, true, true, true, true, true] (ih6 _ _ hk)
  exact j_mask [true, true, true, true, true, true] (L6 _ _ _ _ _ _ hk)
def f_X7_goesFirst_L25 (F : Nat) (sh : SH) (I : II) (x1 : Nat) (x2 : Int32) (x3 : Int32) : Nat → Int32 → Int32 → Option Int32
  | 0, _, _ => none
  | n25 + 1, x4, x5 => if (nI 3) < x5 then og (x4 = 0 ∨ x4 = 1) <| some x4 else if x4 = 0 then ockD sh x1 <| orf (sh.2.2 x1 4) fun t41 => ock sh t41 23 <| orf (sh.2.2 t41 1) fun t44 => oarw sh t44 100 fun nh10 => oix x2 nh10 fun i48 => oix (I t44 i48) 12 fun i49 => (f_X0_has (I 19 i49) x5).bind fun r52 => if r52 = 0 then (f_X7_goesFirst_L25 F sh I x1 x2 x3 n25) (nI 0) (x5 + (nI 1)) else (v_X10_goes sh x1 x2 x3 x5 I).bind fun r63 => if r63 = 0 then (f_X7_goesFirst_L25 F sh I x1 x2 x3 n25) (nI 0) (x5 + (nI 1)) else (f_X7_goesFirst_L25 F sh I x1 x2 x3 n25) (nI 1) (x5 + (nI 1)) else (f_X7_goesFirst_L25 F sh I x1 x2 x3 n25) (nI 1) (x5 + (nI 1))
def f_X7_goesFirst (F : Nat) (sh : SH) (x1 : Nat) (x2 : Int32) (x3 : Int32) (I : II) : Option Int32 := ockD sh x1 <| orf (sh.2.2 x1 4) fun t1 => ock sh t1 23 <| (f_X23_isPair sh t1 x2 I).bind fun r5 => if r5 = 0 then (v_X10_goes sh x1 x2 x3 (nI 1) I).bind fun r15 => og (r15 = 0 ∨ r15 = 1) <| some r15 else f_X7_goesFirst_L25 F sh I x1 x2 x3 F (nI 0) (nI 1)
abbrev rm_X7_goesFirst : Room := { frames := 2, cells := 0, slots := 0, locals := 44 }
theorem mv_X7_goesFirst_ok : callOK yX7_goesFirst 3 := by decide +kernel
theorem mv_X7_goesFirst : MV yX7_goesFirst cX7_goesFirst 6 (some .boolean) 3 := ⟨q1565, qs34, q104, q1566, mv_X7_goesFirst_ok⟩
set_option maxHeartbeats 4000000 in
theorem ct_X7_goesFirst {G : WG} {l : Launch} {sh : SH} (hS : stN sh) {I : II} {F : Nat} {x1 : Nat} {x2 : Int32} {x3 : Int32} {Z : Int32} (hk : f_X7_goesFirst F sh x1 x2 x3 I = some Z) : CT G l yX7_goesFirst (ws_ yX7_goesFirst cX7_goesFirst 6 (some .boolean)) rm_X7_goesFirst [.ref (wad G 17), .ref (wad G x1), .int x2, .int x3] (sh, I) (.returned (some (.int Z))) (sh, I) := by
  refine CT.ofJ "NineDemands$Showing" rfl (by decide) (Nat.le_of_ble_eq_true rfl) ?_
  intro p e s m args below meth c C
  unfold f_X7_goesFirst at hk
  refine j_lv (lv' := [some (.ref (wad G 17)), some (.ref (wad G x1)), some (.int x2), some (.int x3), none, none]) rfl ?_
  refine j_aload_n (pc := 0) C dX7_goesFirst_0 rfl rfl ?_
  replace hk := ockD_some hk
  obtain ⟨ch1, ch1h, h1, hk⟩ := hk
  replace hk := orf_some hk
  obtain ⟨t1, et1, hk⟩ := hk
  refine x_getR (pc := 1) C (fdD_4 ch1h) (fl1 C q568) h1 et1 dX7_goesFirst_1 ?_
  refine j_iload_n (pc := 4) C dX7_goesFirst_4 rfl rfl ?_
  replace hk := ock_some hk
  obtain ⟨h2, hk⟩ := hk
  replace hk := ob_some hk
  obtain ⟨r5, h3, hk⟩ := hk
  refine x_callV (pc := 5) C (ct_X23_isPair hS h3) mv_X23_isPair h2 rfl rfl q1567 dX7_goesFirst_5 rfl rfl (Nat.le_of_ble_eq_true rfl) rfl ?_
  refine j_if_ne (pc := 8) 19 C dX7_goesFirst_8 (by decide) (fun h4 => ?_) (fun h4 => ?_)
  · replace hk := it_f h4 hk
    refine j_iconst (pc := 19) (v := nI 0) C dX7_goesFirst_19 (by decide) ?_
    refine j_istore (pc := 20) C dX7_goesFirst_20 (Nat.le_of_ble_eq_true rfl) rfl ?_
    refine j_iconst (pc := 22) (v := nI 1) C dX7_goesFirst_22 (by decide) ?_
    refine j_istore (pc := 23) C dX7_goesFirst_23 (Nat.le_of_ble_eq_true rfl) rfl ?_
    have L25 : ∀ (x1 : Nat) (x2 : Int32) (x3 : Int32) (n25 : Nat) (x4 : Int32) (x5 : Int32), f_X7_goesFirst_L25 F sh I x1 x2 x3 n25 x4 x5 = some Z → J G p l e rm_X7_goesFirst s m args below meth c 6 (.returned (some (.int Z))) (sh, I) (rm_X7_goesFirst).cells (rm_X7_goesFirst).slots (sh, I) 0 0 25 [some (.ref (wad G 17)), some (.ref (wad G x1)), some (.int x2), some (.int x3), some (.int x4), some (.int x5)] [] := by
      intro x1 x2 x3 n25
      induction n25 with
      | zero => intro x4 x5 hk; rw [f_X7_goesFirst_L25] at hk; cases hk
      | succ n25 ih25 =>
        intro x4 x5 hk
        rw [f_X7_goesFirst_L25] at hk
        generalize f_X7_goesFirst_L25 F sh I x1 x2 x3 n25 = k25 at ih25 hk
        refine j_iload (pc := 25) C dX7_goesFirst_25 rfl ?_
        refine j_iconst (pc := 27) (v := nI 3) C dX7_goesFirst_27 (by decide) ?_
        refine j_icmp_gt (pc := 28) 82 C dX7_goesFirst_28 (by decide) (fun h5 => ?_) (fun h5 => ?_)
        · replace hk := it_t h5 hk
          refine j_iload (pc := 82) C dX7_goesFirst_82 rfl ?_
          replace hk := og_some hk
          obtain ⟨h6, hk⟩ := hk
          obtain rfl := Option.some.inj hk
          exact j_zret (pc := 84) C dX7_goesFirst_84 (Nat.le_of_ble_eq_true rfl) (Nat.le_of_ble_eq_true rfl) (isB.nar h6)
        · replace hk := it_f h5 hk
          refine j_iload (pc := 31) C dX7_goesFirst_31 rfl ?_
          refine j_if_ne (pc := 33) 69 C dX7_goesFirst_33 (by decide) (fun h7 => ?_) (fun h7 => ?_)
          · replace hk := it_f h7 hk
            refine j_iconst (pc := 69) (v := nI 1) C dX7_goesFirst_69 (by decide) ?_
            refine j_goto (pc := 70) 74 C dX7_goesFirst_70 (by decide) ?_
            refine j_istore (pc := 74) C dX7_goesFirst_74 (Nat.le_of_ble_eq_true rfl) rfl ?_
            refine j_iinc (pc := 76) (nI 1) C dX7_goesFirst_76 rfl (by decide) (Nat.le_of_ble_eq_true rfl) rfl ?_
            refine j_goto (pc := 79) 25 C dX7_goesFirst_79 (by decide) ?_
            exact j_mask [true, true, true, true, true, true] (ih25 _ _ hk)
          · replace hk := it_t h7 hk
            refine j_aload_n (pc := 36) C dX7_goesFirst_36 rfl rfl ?_
            refine x_getR (pc := 37) C fd_8_1 (fl1 C q347) (stN_o17 hS).r (stN_r17_1 hS) dX7_goesFirst_37 ?_
            refine j_aload_n (pc := 40) C dX7_goesFirst_40 rfl rfl ?_
            replace hk := ockD_some hk
            obtain ⟨ch8, ch8h, h8, hk⟩ := hk
            replace hk := orf_some hk
            obtain ⟨t41, et41, hk⟩ := hk
            refine x_getR (pc := 41) C (fdD_4 ch8h) (fl1 C q568) h8 et41 dX7_goesFirst_41 ?_
            replace hk := ock_some hk
            obtain ⟨h9, hk⟩ := hk
            replace hk := orf_some hk
            obtain ⟨t44, et44, hk⟩ := hk
            refine x_getR (pc := 44) C fd_23_1 (fl3 C q1128) h9 et44 dX7_goesFirst_44 ?_
            refine j_iload_n (pc := 47) C dX7_goesFirst_47 rfl rfl ?_
            replace hk := oarw_some hk
            obtain ⟨nh10, h10, hk⟩ := hk
            replace hk := oix_ex hk
            obtain ⟨i48, e48, h11, hk⟩ := hk
            refine j_iald (pc := 48) C h10 h11 e48 dX7_goesFirst_48 ?_
            replace hk := oix_ex hk
            obtain ⟨i49, e49, h12, hk⟩ := hk
            refine j_iald (pc := 49) C (stN_a19 hS) h12 e49 dX7_goesFirst_49 ?_
            refine j_iload (pc := 50) C dX7_goesFirst_50 rfl ?_
            replace hk := ob_some hk
            obtain ⟨r52, h13, hk⟩ := hk
            refine x_callSN (pc := 52) C (ct_X0_has h13) ms_X0_has q1552 dX7_goesFirst_52 rfl rfl (Nat.le_of_ble_eq_true rfl) rfl ?_
            refine j_if_eq (pc := 55) 73 C dX7_goesFirst_55 (by decide) (fun h14 => ?_) (fun h14 => ?_)
            · replace hk := it_t h14 hk
              refine j_iconst (pc := 73) (v := nI 0) C dX7_goesFirst_73 (by decide) ?_
              refine j_istore (pc := 74) C dX7_goesFirst_74 (Nat.le_of_ble_eq_true rfl) rfl ?_
              refine j_iinc (pc := 76) (nI 1) C dX7_goesFirst_76 rfl (by decide) (Nat.le_of_ble_eq_true rfl) rfl ?_
              refine j_goto (pc := 79) 25 C dX7_goesFirst_79 (by decide) ?_
              exact j_mask [true, true, true, true, true, true] (ih25 _ _ hk)
            · replace hk := it_f h14 hk
              refine j_aload_n (pc := 58) C dX7_goesFirst_58 rfl rfl ?_
              refine j_iload_n (pc := 59) C dX7_goesFirst_59 rfl rfl ?_
              refine j_iload_n (pc := 60) C dX7_goesFirst_60 rfl rfl ?_
              refine j_iload (pc := 61) C dX7_goesFirst_61 rfl ?_
              replace hk := ob_some hk
              obtain ⟨r63, h15, hk⟩ := hk
              refine x_callX (pc := 63) C (vc_X10_goes hS h15) q1568 dX7_goesFirst_63 rfl rfl (Nat.le_of_ble_eq_true rfl) (Nat.le_of_ble_eq_true rfl) (Nat.le_of_ble_eq_true rfl) (Nat.le_of_ble_eq_true rfl) (Nat.le_of_ble_eq_true rfl) ?_
              refine j_if_eq (pc := 66) 73 C dX7_goesFirst_66 (by decide) (fun h16 => ?_) (fun h16 => ?_)
              · replace hk := it_t h16 hk
                refine j_iconst (pc := 73) (v := nI 0) C dX7_goesFirst_73 (by decide) ?_
                refine j_istore (pc := 74) C dX7_goesFirst_74 (Nat.le_of_ble_eq_true rfl) rfl ?_
                refine j_iinc (pc := 76) (nI 1) C dX7_goesFirst_76 rfl (by decide) (Nat.le_of_ble_eq_true rfl) rfl ?_
                refine j_goto (pc := 79) 25 C dX7_goesFirst_79 (by decide) ?_
                exact j_mask [true, true, true, true, true, true] (ih25 _ _ hk)
              · replace hk := it_f h16 hk
                refine j_iconst (pc := 69) (v := nI 1) C dX7_goesFirst_69 (by decide) ?_
                refine j_goto (pc := 70) 74 C dX7_goesFirst_70 (by decide) ?_
                refine j_istore (pc := 74) C dX7_goesFirst_74 (Nat.le_of_ble_eq_true rfl) rfl ?_
                refine j_iinc (pc := 76) (nI 1) C dX7_goesFirst_76 rfl (by decide) (Nat.le_of_ble_eq_true rfl) rfl ?_
                refine j_goto (pc := 79) 25 C dX7_goesFirst_79 (by decide) ?_
                exact j_mask [true, true, true, true, true, true] (ih25 _ _ hk)
    exact j_mask [true, true, true, true, true, true] (L25 _ _ _ _ _ _ hk)
  · replace hk := it_t h4 hk
    refine j_aload_n (pc := 11) C dX7_goesFirst_11 rfl rfl ?_
    refine j_iload_n (pc := 12) C dX7_goesFirst_12 rfl rfl ?_
    refine j_iload_n (pc := 13) C dX7_goesFirst_13 rfl rfl ?_
    refine j_iconst (pc := 14) (v := nI 1) C dX7_goesFirst_14 (by decide) ?_
    replace hk := ob_some hk
    obtain ⟨r15, h17, hk⟩ := hk
    refine x_callX (pc := 15) C (vc_X10_goes hS h17) q1568 dX7_goesFirst_15 rfl rfl (Nat.le_of_ble_eq_true rfl) (Nat.le_of_ble_eq_true rfl) (Nat.le_of_ble_eq_true rfl) (Nat.le_of_ble_eq_true rfl) (Nat.le_of_ble_eq_true rfl) ?_
    replace hk := og_some hk
    obtain ⟨h18, hk⟩ := hk
    obtain rfl := Option.some.inj hk
    exact j_zret (pc := 18) C dX7_goesFirst_18 (Nat.le_of_ble_eq_true rfl) (Nat.le_of_ble_eq_true rfl) (isB.nar h18)
def f_X7_follows_J98 (F : Nat) (sh : SH) (I : II) (x2 : Int32) (x3 : Int32) (x4 : Int32) : Option Int32 := if x4 = 0 then some (nI 0) else oix x2 12 fun i108 => (f_X0_has (I 19 i108) x3).bind fun r110 => if r110 = 0 then some (nI 0) else some (nI 1)
def f_X7_follows_J48 (F : Nat) (sh : SH) (I : II) (k6 : Int32 → Int32 → Option Int32) (x1 : Nat) (x2 : Int32) (x3 : Int32) (x5 : Int32) : Option Int32 := ockD sh x1 <| orf (sh.2.2 x1 4) fun t49 => ock sh t49 23 <| (f_X23_isPair sh t49 x5 I).bind fun r54 => if r54 = 0 then k6 (nI 0) (x5 + (nI 1)) else orf (sh.2.2 x1 4) fun t61 => ock sh t61 23 <| orf (sh.2.2 t61 1) fun t64 => oarw sh t64 100 fun nh17 => oix x5 nh17 fun i69 => if (I t64 i69) = x2 then (f_X7_goesSecond F sh x1 x5 x3 I).bind fun r79 => if r79 = 0 then k6 (nI 1) (x5 + (nI 1)) else k6 (nI 0) (x5 + (nI 1)) else k6 (nI 0) (x5 + (nI 1))
def f_X7_follows_L6 (F : Nat) (sh : SH) (I : II) (x1 : Nat) (x2 : Int32) (x3 : Int32) : Nat → Int32 → Int32 → Option Int32
  | 0, _, _ => none
  | n6 + 1, x4, x5 => ockD sh x1 <| orf (sh.2.2 x1 4) fun t9 => ock sh t9 23 <| if (I t9 4) ≤ x5 then f_X7_follows_J98 F sh I x2 x3 x4 else if x4 = 0 then orf (sh.2.2 x1 4) fun t24 => ock sh t24 23 <| orf (sh.2.2 t24 0) fun t27 => oarw sh t27 100 fun nh10 => oix x5 nh10 fun i32 => if (I t27 i32) = x2 then (f_X7_goesFirst F sh x1 x5 x3 I).bind fun r42 => if r42 = 0 then (f_X7_follows_L6 F sh I x1 x2 x3 n6) (nI 1) (x5 + (nI 1)) else f_X7_follows_J48 F sh I (f_X7_follows_L6 F sh I x1 x2 x3 n6) x1 x2 x3 x5 else f_X7_follows_J48 F sh I (f_X7_follows_L6 F sh I x1 x2 x3 n6) x1 x2 x3 x5 else f_X7_follows_J98 F sh I x2 x3 x4
def f_X7_follows (F : Nat) (sh : SH) (x1 : Nat) (x2 : Int32) (x3 : Int32) (I : II) : Option Int32 := f_X7_follows_L6 F sh I x1 x2 x3 F (nI 0) (nI 0)
abbrev rm_X7_follows : Room := { frames := 3, cells := 0, slots := 0, locals := 69 }
theorem mv_X7_follows_ok : callOK yX7_follows 3 := by decide +kernel
theorem mv_X7_follows : MV yX7_follows cX7_follows 6 (some .boolean) 3 := ⟨q1591, q1592, q104, q1593, mv_X7_follows_ok⟩
set_option maxHeartbeats 4000000 in
theorem ct_X7_follows {G : WG} {l : Launch} {sh : SH} (hS : stN sh) {I : II} {F : Nat} {x1 : Nat} {x2 : Int32} {x3 : Int32} {Z : Int32} (hk : f_X7_follows F sh x1 x2 x3 I = some Z) : CT G l yX7_follows (ws_ yX7_follows cX7_follows 6 (some .boolean)) rm_X7_follows [.ref (wad G 17), .ref (wad G x1), .int x2, .int x3] (sh, I) (.returned (some (.int Z))) (sh, I) := by
  refine CT.ofJ "NineDemands$Showing" rfl (by decide) (Nat.le_of_ble_eq_true rfl) ?_
  intro p e s m args below meth c C
  unfold f_X7_follows at hk
  refine j_lv (lv' := [some (.ref (wad G 17)), some (.ref (wad G x1)), some (.int x2), some (.int x3), none, none]) rfl ?_
  refine j_iconst (pc := 0) (v := nI 0) C dX7_follows_0 (by decide) ?_
  refine j_istore (pc := 1) C dX7_follows_1 (Nat.le_of_ble_eq_true rfl) rfl ?_
  refine j_iconst (pc := 3) (v := nI 0) C dX7_follows_3 (by decide) ?_
  refine j_istore (pc := 4) C dX7_follows_4 (Nat.le_of_ble_eq_true rfl) rfl ?_
  have L6 : ∀ (x1 : Nat) (x2 : Int32) (x3 : Int32) (n6 : Nat) (x4 : Int32) (x5 : Int32), f_X7_follows_L6 F sh I x1 x2 x3 n6 x4 x5 = some Z → J G p l e rm_X7_follows s m args below meth c 6 (.returned (some (.int Z))) (sh, I) (rm_X7_follows).cells (rm_X7_follows).slots (sh, I) 0 0 6 [some (.ref (wad G 17)), some (.ref (wad G x1)), some (.int x2), some (.int x3), some (.int x4), some (.int x5)] [] := by
    intro x1 x2 x3 n6
    induction n6 with
    | zero => intro x4 x5 hk; rw [f_X7_follows_L6] at hk; cases hk
    | succ n6 ih6 =>
      intro x4 x5 hk
      rw [f_X7_follows_L6] at hk
      generalize f_X7_follows_L6 F sh I x1 x2 x3 n6 = k6 at ih6 hk
      refine j_iload (pc := 6) C dX7_follows_6 rfl ?_
      refine j_aload_n (pc := 8) C dX7_follows_8 rfl rfl ?_
      replace hk := ockD_some hk
      obtain ⟨ch1, ch1h, h1, hk⟩ := hk
      replace hk := orf_some hk
      obtain ⟨t9, et9, hk⟩ := hk
      refine x_getR (pc := 9) C (fdD_4 ch1h) (fl1 C q568) h1 et9 dX7_follows_9 ?_
      replace hk := ock_some hk
      obtain ⟨h2, hk⟩ := hk
      refine x_getI (pc := 12) C fd_23_4 (fl3 C q1140) h2 dX7_follows_12 ?_
      have Jn98 : ∀ (x2 : Int32) (x3 : Int32) (x4 : Int32), f_X7_follows_J98 F sh I x2 x3 x4 = some Z → J G p l e rm_X7_follows s m args below meth c 6 (.returned (some (.int Z))) (sh, I) (rm_X7_follows).cells (rm_X7_follows).slots (sh, I) 0 0 98 [some (.ref (wad G 17)), none, some (.int x2), some (.int x3), some (.int x4), none] [] := by
        intro x2 x3 x4 hk
        unfold f_X7_follows_J98 at hk
        refine j_iload (pc := 98) C dX7_follows_98 rfl ?_
        refine j_if_eq (pc := 100) 120 C dX7_follows_100 (by decide) (fun h3 => ?_) (fun h3 => ?_)
        · replace hk := it_t h3 hk
          refine j_iconst (pc := 120) (v := nI 0) C dX7_follows_120 (by decide) ?_
          obtain rfl := Option.some.inj hk
          exact j_zret (pc := 121) C dX7_follows_121 (Nat.le_of_ble_eq_true rfl) (Nat.le_of_ble_eq_true rfl) (isB.nar (v := (nI 0)) (by unfold isB; decide))
        · replace hk := it_f h3 hk
          refine j_aload_n (pc := 103) C dX7_follows_103 rfl rfl ?_
          refine x_getR (pc := 104) C fd_8_1 (fl1 C q347) (stN_o17 hS).r (stN_r17_1 hS) dX7_follows_104 ?_
          refine j_iload_n (pc := 107) C dX7_follows_107 rfl rfl ?_
          replace hk := oix_ex hk
          obtain ⟨i108, e108, h4, hk⟩ := hk
          refine j_iald (pc := 108) C (stN_a19 hS) h4 e108 dX7_follows_108 ?_
          refine j_iload_n (pc := 109) C dX7_follows_109 rfl rfl ?_
          replace hk := ob_some hk
          obtain ⟨r110, h5, hk⟩ := hk
          refine x_callSN (pc := 110) C (ct_X0_has h5) ms_X0_has q1552 dX7_follows_110 rfl rfl (Nat.le_of_ble_eq_true rfl) rfl ?_
          refine j_if_eq (pc := 113) 120 C dX7_follows_113 (by decide) (fun h6 => ?_) (fun h6 => ?_)
          · replace hk := it_t h6 hk
            refine j_iconst (pc := 120) (v := nI 0) C dX7_follows_120 (by decide) ?_
            obtain rfl := Option.some.inj hk
            exact j_zret (pc := 121) C dX7_follows_121 (Nat.le_of_ble_eq_true rfl) (Nat.le_of_ble_eq_true rfl) (isB.nar (v := (nI 0)) (by unfold isB; decide))
          · replace hk := it_f h6 hk
            refine j_iconst (pc := 116) (v := nI 1) C dX7_follows_116 (by decide) ?_
            refine j_goto (pc := 117) 121 C dX7_follows_117 (by decide) ?_
            obtain rfl := Option.some.inj hk
            exact j_zret (pc := 121) C dX7_follows_121 (Nat.le_of_ble_eq_true rfl) (Nat.le_of_ble_eq_true rfl) (isB.nar (v := (nI 1)) (by unfold isB; decide))
      refine j_icmp_ge (pc := 15) 98 C dX7_follows_15 (by decide) (fun h7 => ?_) (fun h7 => ?_)
      · replace hk := it_t h7 hk
        exact j_mask [true, false, true, true, true, false] (Jn98 _ _ _ hk)
      · replace hk := it_f h7 hk
        refine j_iload (pc := 18) C dX7_follows_18 rfl ?_
        refine j_if_ne (pc := 20) 98 C dX7_follows_20 (by decide) (fun h8 => ?_) (fun h8 => ?_)
        · replace hk := it_f h8 hk
          exact j_mask [true, false, true, true, true, false] (Jn98 _ _ _ hk)
        · replace hk := it_t h8 hk
          refine j_aload_n (pc := 23) C dX7_follows_23 rfl rfl ?_
          replace hk := orf_some hk
          obtain ⟨t24, et24, hk⟩ := hk
          refine x_getR (pc := 24) C (fdD_4 ch1h) (fl1 C q568) h1 et24 dX7_follows_24 ?_
          replace hk := ock_some hk
          obtain ⟨h9, hk⟩ := hk
          replace hk := orf_some hk
          obtain ⟨t27, et27, hk⟩ := hk
          refine x_getR (pc := 27) C fd_23_0 (fl3 C q1122) h9 et27 dX7_follows_27 ?_
          refine j_iload (pc := 30) C dX7_follows_30 rfl ?_
          replace hk := oarw_some hk
          obtain ⟨nh10, h10, hk⟩ := hk
          replace hk := oix_ex hk
          obtain ⟨i32, e32, h11, hk⟩ := hk
          refine j_iald (pc := 32) C h10 h11 e32 dX7_follows_32 ?_
          refine j_iload_n (pc := 33) C dX7_follows_33 rfl rfl ?_
          have Jn48 : ∀ (x5 : Int32), f_X7_follows_J48 F sh I k6 x1 x2 x3 x5 = some Z → J G p l e rm_X7_follows s m args below meth c 6 (.returned (some (.int Z))) (sh, I) (rm_X7_follows).cells (rm_X7_follows).slots (sh, I) 0 0 48 [some (.ref (wad G 17)), some (.ref (wad G x1)), some (.int x2), some (.int x3), none, some (.int x5)] [] := by
            intro x5 hk
            unfold f_X7_follows_J48 at hk
            refine j_aload_n (pc := 48) C dX7_follows_48 rfl rfl ?_
            replace hk := ockD_some hk
            obtain ⟨ch12, ch12h, h12, hk⟩ := hk
            replace hk := orf_some hk
            obtain ⟨t49, et49, hk⟩ := hk
            refine x_getR (pc := 49) C (fdD_4 ch12h) (fl1 C q568) h12 et49 dX7_follows_49 ?_
            refine j_iload (pc := 52) C dX7_follows_52 rfl ?_
            replace hk := ock_some hk
            obtain ⟨h13, hk⟩ := hk
            replace hk := ob_some hk
            obtain ⟨r54, h14, hk⟩ := hk
            refine x_callV (pc := 54) C (ct_X23_isPair hS h14) mv_X23_isPair h13 rfl rfl q1567 dX7_follows_54 rfl rfl (Nat.le_of_ble_eq_true rfl) rfl ?_
            refine j_if_eq (pc := 57) 89 C dX7_follows_57 (by decide) (fun h15 => ?_) (fun h15 => ?_)
            · replace hk := it_t h15 hk
              refine j_iconst (pc := 89) (v := nI 0) C dX7_follows_89 (by decide) ?_
              refine j_istore (pc := 90) C dX7_follows_90 (Nat.le_of_ble_eq_true rfl) rfl ?_
              refine j_iinc (pc := 92) (nI 1) C dX7_follows_92 rfl (by decide) (Nat.le_of_ble_eq_true rfl) rfl ?_
              refine j_goto (pc := 95) 6 C dX7_follows_95 (by decide) ?_
              exact j_mask [true, true, true, true, true, true] (ih6 _ _ hk)
            · replace hk := it_f h15 hk
              refine j_aload_n (pc := 60) C dX7_follows_60 rfl rfl ?_
              replace hk := orf_some hk
              obtain ⟨t61, et61, hk⟩ := hk
              refine x_getR (pc := 61) C (fdD_4 ch12h) (fl1 C q568) h12 et61 dX7_follows_61 ?_
              replace hk := ock_some hk
              obtain ⟨h16, hk⟩ := hk
              replace hk := orf_some hk
              obtain ⟨t64, et64, hk⟩ := hk
              refine x_getR (pc := 64) C fd_23_1 (fl3 C q1128) h16 et64 dX7_follows_64 ?_
              refine j_iload (pc := 67) C dX7_follows_67 rfl ?_
              replace hk := oarw_some hk
              obtain ⟨nh17, h17, hk⟩ := hk
              replace hk := oix_ex hk
              obtain ⟨i69, e69, h18, hk⟩ := hk
              refine j_iald (pc := 69) C h17 h18 e69 dX7_follows_69 ?_
              refine j_iload_n (pc := 70) C dX7_follows_70 rfl rfl ?_
              refine j_icmp_ne (pc := 71) 89 C dX7_follows_71 (by decide) (fun h19 => ?_) (fun h19 => ?_)
              · replace hk := it_f h19 hk
                refine j_iconst (pc := 89) (v := nI 0) C dX7_follows_89 (by decide) ?_
                refine j_istore (pc := 90) C dX7_follows_90 (Nat.le_of_ble_eq_true rfl) rfl ?_
                refine j_iinc (pc := 92) (nI 1) C dX7_follows_92 rfl (by decide) (Nat.le_of_ble_eq_true rfl) rfl ?_
                refine j_goto (pc := 95) 6 C dX7_follows_95 (by decide) ?_
                exact j_mask [true, true, true, true, true, true] (ih6 _ _ hk)
              · replace hk := it_t h19 hk
                refine j_aload_n (pc := 74) C dX7_follows_74 rfl rfl ?_
                refine j_aload_n (pc := 75) C dX7_follows_75 rfl rfl ?_
                refine j_iload (pc := 76) C dX7_follows_76 rfl ?_
                refine j_iload_n (pc := 78) C dX7_follows_78 rfl rfl ?_
                replace hk := ob_some hk
                obtain ⟨r79, h20, hk⟩ := hk
                refine x_callV (pc := 79) C (ct_X7_goesSecond hS h20) mv_X7_goesSecond (stN_o17 hS).r rfl rfl q1577 dX7_follows_79 rfl rfl (Nat.le_of_ble_eq_true rfl) rfl ?_
                refine j_if_ne (pc := 82) 89 C dX7_follows_82 (by decide) (fun h21 => ?_) (fun h21 => ?_)
                · replace hk := it_f h21 hk
                  refine j_iconst (pc := 89) (v := nI 0) C dX7_follows_89 (by decide) ?_
                  refine j_istore (pc := 90) C dX7_follows_90 (Nat.le_of_ble_eq_true rfl) rfl ?_
                  refine j_iinc (pc := 92) (nI 1) C dX7_follows_92 rfl (by decide) (Nat.le_of_ble_eq_true rfl) rfl ?_
                  refine j_goto (pc := 95) 6 C dX7_follows_95 (by decide) ?_
                  exact j_mask [true, true, true, true, true, true] (ih6 _ _ hk)
                · replace hk := it_t h21 hk
                  refine j_iconst (pc := 85) (v := nI 1) C dX7_follows_85 (by decide) ?_
                  refine j_goto (pc := 86) 90 C dX7_follows_86 (by decide) ?_
                  refine j_istore (pc := 90) C dX7_follows_90 (Nat.le_of_ble_eq_true rfl) rfl ?_
                  refine j_iinc (pc := 92) (nI 1) C dX7_follows_92 rfl (by decide) (Nat.le_of_ble_eq_true rfl) rfl ?_
                  refine j_goto (pc := 95) 6 C dX7_follows_95 (by decide) ?_
                  exact j_mask [true, true, true, true, true, true] (ih6 _ _ hk)
          refine j_icmp_ne (pc := 34) 48 C dX7_follows_34 (by decide) (fun h22 => ?_) (fun h22 => ?_)
          · replace hk := it_f h22 hk
            exact j_mask [true, true, true, true, false, true] (Jn48 _ hk)
          · replace hk := it_t h22 hk
            refine j_aload_n (pc := 37) C dX7_follows_37 rfl rfl ?_
            refine j_aload_n (pc := 38) C dX7_follows_38 rfl rfl ?_
            refine j_iload (pc := 39) C dX7_follows_39 rfl ?_
            refine j_iload_n (pc := 41) C dX7_follows_41 rfl rfl ?_
            replace hk := ob_some hk
            obtain ⟨r42, h23, hk⟩ := hk
            refine x_callV (pc := 42) C (ct_X7_goesFirst hS h23) mv_X7_goesFirst (stN_o17 hS).r rfl rfl q1563 dX7_follows_42 rfl rfl (Nat.le_of_ble_eq_true rfl) rfl ?_
            refine j_if_eq (pc := 45) 85 C dX7_follows_45 (by decide) (fun h24 => ?_) (fun h24 => ?_)
            · replace hk := it_t h24 hk
              refine j_iconst (pc := 85) (v := nI 1) C dX7_follows_85 (by decide) ?_
              refine j_goto (pc := 86) 90 C dX7_follows_86 (by decide) ?_
              refine j_istore (pc := 90) C dX7_follows_90 (Nat.le_of_ble_eq_true rfl) rfl ?_
              refine j_iinc (pc := 92) (nI 1) C dX7_follows_92 rfl (by decide) (Nat.le_of_ble_eq_true rfl) rfl ?_
              refine j_goto (pc := 95) 6 C dX7_follows_95 (by decide) ?_
              exact j_mask [true, true, true, true, true, true] (ih6 _ _ hk)
            · replace hk := it_f h24 hk
              exact j_mask [true, true, true, true, false, true] (Jn48 _ hk)
  exact j_mask [true, true, true, true, true, true] (L6 _ _ _ _ _ _ hk)
def f_X7_strike_J63 (sh : SH) (I : II) : Option II := some (up2 I 17 3 (nI 1))
def f_X7_strike (sh : SH) (x1 : Nat) (x2 : Int32) (x3 : Int32) (I : II) : Option II := oix x2 12 fun i6 => oix x2 12 fun i13 => ockD sh x1 <| oix ((up2 I 19 i13 ((I 19 i6) &&& (((nI 1) <<< (x3 &&& 31)) ^^^ (-1)))) 17 2) 36 fun i35 => if ((up2 (up2 (up2 I 19 i13 ((I 19 i6) &&& (((nI 1) <<< (x3 &&& 31)) ^^^ (-1)))) 18 i35 ((((nI 48) * ((up2 I 19 i13 ((I 19 i6) &&& (((nI 1) <<< (x3 &&& 31)) ^^^ (-1)))) x1 1)) + ((nI 4) * x2)) + x3)) 17 2 (((up2 (up2 I 19 i13 ((I 19 i6) &&& (((nI 1) <<< (x3 &&& 31)) ^^^ (-1)))) 18 i35 ((((nI 48) * ((up2 I 19 i13 ((I 19 i6) &&& (((nI 1) <<< (x3 &&& 31)) ^^^ (-1)))) x1 1)) + ((nI 4) * x2)) + x3)) 17 2) + (nI 1))) 17 3) = 0 then oix x2 12 fun i59 => if ((up2 (up2 (up2 I 19 i13 ((I 19 i6) &&& (((nI 1) <<< (x3 &&& 31)) ^^^ (-1)))) 18 i35 ((((nI 48) * ((up2 I 19 i13 ((I 19 i6) &&& (((nI 1) <<< (x3 &&& 31)) ^^^ (-1)))) x1 1)) + ((nI 4) * x2)) + x3)) 17 2 (((up2 (up2 I 19 i13 ((I 19 i6) &&& (((nI 1) <<< (x3 &&& 31)) ^^^ (-1)))) 18 i35 ((((nI 48) * ((up2 I 19 i13 ((I 19 i6) &&& (((nI 1) <<< (x3 &&& 31)) ^^^ (-1)))) x1 1)) + ((nI 4) * x2)) + x3)) 17 2) + (nI 1))) 19 i59) = 0 then f_X7_strike_J63 sh (up2 (up2 (up2 I 19 i13 ((I 19 i6) &&& (((nI 1) <<< (x3 &&& 31)) ^^^ (-1)))) 18 i35 ((((nI 48) * ((up2 I 19 i13 ((I 19 i6) &&& (((nI 1) <<< (x3 &&& 31)) ^^^ (-1)))) x1 1)) + ((nI 4) * x2)) + x3)) 17 2 (((up2 (up2 I 19 i13 ((I 19 i6) &&& (((nI 1) <<< (x3 &&& 31)) ^^^ (-1)))) 18 i35 ((((nI 48) * ((up2 I 19 i13 ((I 19 i6) &&& (((nI 1) <<< (x3 &&& 31)) ^^^ (-1)))) x1 1)) + ((nI 4) * x2)) + x3)) 17 2) + (nI 1))) else some (up2 (up2 (up2 (up2 I 19 i13 ((I 19 i6) &&& (((nI 1) <<< (x3 &&& 31)) ^^^ (-1)))) 18 i35 ((((nI 48) * ((up2 I 19 i13 ((I 19 i6) &&& (((nI 1) <<< (x3 &&& 31)) ^^^ (-1)))) x1 1)) + ((nI 4) * x2)) + x3)) 17 2 (((up2 (up2 I 19 i13 ((I 19 i6) &&& (((nI 1) <<< (x3 &&& 31)) ^^^ (-1)))) 18 i35 ((((nI 48) * ((up2 I 19 i13 ((I 19 i6) &&& (((nI 1) <<< (x3 &&& 31)) ^^^ (-1)))) x1 1)) + ((nI 4) * x2)) + x3)) 17 2) + (nI 1))) 17 3 (nI 0)) else f_X7_strike_J63 sh (up2 (up2 (up2 I 19 i13 ((I 19 i6) &&& (((nI 1) <<< (x3 &&& 31)) ^^^ (-1)))) 18 i35 ((((nI 48) * ((up2 I 19 i13 ((I 19 i6) &&& (((nI 1) <<< (x3 &&& 31)) ^^^ (-1)))) x1 1)) + ((nI 4) * x2)) + x3)) 17 2 (((up2 (up2 I 19 i13 ((I 19 i6) &&& (((nI 1) <<< (x3 &&& 31)) ^^^ (-1)))) 18 i35 ((((nI 48) * ((up2 I 19 i13 ((I 19 i6) &&& (((nI 1) <<< (x3 &&& 31)) ^^^ (-1)))) x1 1)) + ((nI 4) * x2)) + x3)) 17 2) + (nI 1)))
abbrev rm_X7_strike : Room := { frames := 0, cells := 0, slots := 0, locals := 0 }
theorem mv_X7_strike_ok : callOK yX7_strike 3 := by decide +kernel
theorem mv_X7_strike : MV yX7_strike cX7_strike 4 none 3 := ⟨q1570, q1571, q104, q1572, mv_X7_strike_ok⟩
set_option maxHeartbeats 4000000 in
theorem ct_X7_strike {G : WG} {l : Launch} {sh : SH} (hS : stN sh) {I : II} {x1 : Nat} {x2 : Int32} {x3 : Int32} {Z : II} (hk : f_X7_strike sh x1 x2 x3 I = some Z) : CT G l yX7_strike (ws_ yX7_strike cX7_strike 4 none) rm_X7_strike [.ref (wad G 17), .ref (wad G x1), .int x2, .int x3] (sh, I) (.returned none) (sh, Z) := by
  refine CT.ofJ "NineDemands$Showing" rfl (by decide) (Nat.le_of_ble_eq_true rfl) ?_
  intro p e s m args below meth c C
  unfold f_X7_strike at hk
  refine j_lv (lv' := [some (.ref (wad G 17)), some (.ref (wad G x1)), some (.int x2), some (.int x3)]) rfl ?_
  refine j_aload_n (pc := 0) C dX7_strike_0 rfl rfl ?_
  refine x_getR (pc := 1) C fd_8_1 (fl1 C q347) (stN_o17 hS).r (stN_r17_1 hS) dX7_strike_1 ?_
  refine j_iload_n (pc := 4) C dX7_strike_4 rfl rfl ?_
  refine j_dup2 (pc := 5) C dX7_strike_5 rfl rfl ?_
  replace hk := oix_ex hk
  obtain ⟨i6, e6, h1, hk⟩ := hk
  refine j_iald (pc := 6) C (stN_a19 hS) h1 e6 dX7_strike_6 ?_
  refine j_iconst (pc := 7) (v := nI 1) C dX7_strike_7 (by decide) ?_
  refine j_iload_n (pc := 8) C dX7_strike_8 rfl rfl ?_
  refine j_ishl (pc := 9) C dX7_strike_9 ?_
  refine j_iconst (pc := 10) (v := (-1)) C dX7_strike_10 (by decide) ?_
  refine j_ixor (pc := 11) C dX7_strike_11 ?_
  refine j_iand (pc := 12) C dX7_strike_12 ?_
  replace hk := oix_ex hk
  obtain ⟨i13, e13, h2, hk⟩ := hk
  refine j_iast (pc := 13) C (stN_a19 hS) h2 e13 dX7_strike_13 ?_
  refine j_aload_n (pc := 14) C dX7_strike_14 rfl rfl ?_
  refine x_getR (pc := 15) C fd_8_0 (fl1 C q345) (stN_o17 hS).r (stN_r17_0 hS) dX7_strike_15 ?_
  refine j_aload_n (pc := 18) C dX7_strike_18 rfl rfl ?_
  refine x_getI (pc := 19) C fd_8_2 (fl1 C q348) (stN_o17 hS).r dX7_strike_19 ?_
  refine j_bipush (pc := 22) (v := nI 48) C dX7_strike_22 (by decide) ?_
  refine j_aload_n (pc := 24) C dX7_strike_24 rfl rfl ?_
  replace hk := ockD_some hk
  obtain ⟨ch3, ch3h, h3, hk⟩ := hk
  refine x_getI (pc := 25) C (fdD_1 ch3h) (fl1 C q550) h3 dX7_strike_25 ?_
  refine j_imul (pc := 28) C dX7_strike_28 ?_
  refine j_iconst (pc := 29) (v := nI 4) C dX7_strike_29 (by decide) ?_
  refine j_iload_n (pc := 30) C dX7_strike_30 rfl rfl ?_
  refine j_imul (pc := 31) C dX7_strike_31 ?_
  refine j_iadd (pc := 32) C dX7_strike_32 ?_
  refine j_iload_n (pc := 33) C dX7_strike_33 rfl rfl ?_
  refine j_iadd (pc := 34) C dX7_strike_34 ?_
  replace hk := oix_ex hk
  obtain ⟨i35, e35, h4, hk⟩ := hk
  refine j_iast (pc := 35) C (stN_a18 hS) h4 e35 dX7_strike_35 ?_
  refine j_aload_n (pc := 36) C dX7_strike_36 rfl rfl ?_
  refine j_dup (pc := 37) C dX7_strike_37 rfl ?_
  refine x_getI (pc := 38) C fd_8_2 (fl1 C q348) (stN_o17 hS).r dX7_strike_38 ?_
  refine j_iconst (pc := 41) (v := nI 1) C dX7_strike_41 (by decide) ?_
  refine j_iadd (pc := 42) C dX7_strike_42 ?_
  refine x_putI (pc := 43) C fd_8_2 (fl1 C q348) (stN_o17 hS) rfl rfl dX7_strike_43 ?_
  refine j_aload_n (pc := 46) C dX7_strike_46 rfl rfl ?_
  refine j_aload_n (pc := 47) C dX7_strike_47 rfl rfl ?_
  refine x_getI (pc := 48) C fd_8_3 (fl1 C q350) (stN_o17 hS).r dX7_strike_48 ?_
  have Jn63 : ∀ (I : II), f_X7_strike_J63 sh I = some Z → J G p l e rm_X7_strike s m args below meth c 4 (.returned none) (sh, Z) (rm_X7_strike).cells (rm_X7_strike).slots (sh, I) 0 0 63 [none, none, none, none] [.ref (wad G 17)] := by
    intro I hk
    unfold f_X7_strike_J63 at hk
    refine j_iconst (pc := 63) (v := nI 1) C dX7_strike_63 (by decide) ?_
    refine j_goto (pc := 64) 68 C dX7_strike_64 (by decide) ?_
    refine x_putI (pc := 68) C fd_8_3 (fl1 C q350) (stN_o17 hS) rfl rfl dX7_strike_68 ?_
    obtain rfl := Option.some.inj hk
    exact j_vret (pc := 71) C dX7_strike_71 (Nat.le_of_ble_eq_true rfl) (Nat.le_of_ble_eq_true rfl)
  refine j_if_ne (pc := 51) 63 C dX7_strike_51 (by decide) (fun h5 => ?_) (fun h5 => ?_)
  · replace hk := it_f h5 hk
    exact j_mask [false, false, false, false] (Jn63 _ hk)
  · replace hk := it_t h5 hk
    refine j_aload_n (pc := 54) C dX7_strike_54 rfl rfl ?_
    refine x_getR (pc := 55) C fd_8_1 (fl1 C q347) (stN_o17 hS).r (stN_r17_1 hS) dX7_strike_55 ?_
    refine j_iload_n (pc := 58) C dX7_strike_58 rfl rfl ?_
    replace hk := oix_ex hk
    obtain ⟨i59, e59, h6, hk⟩ := hk
    refine j_iald (pc := 59) C (stN_a19 hS) h6 e59 dX7_strike_59 ?_
    refine j_if_ne (pc := 60) 67 C dX7_strike_60 (by decide) (fun h7 => ?_) (fun h7 => ?_)
    · replace hk := it_f h7 hk
      refine j_iconst (pc := 67) (v := nI 0) C dX7_strike_67 (by decide) ?_
      refine x_putI (pc := 68) C fd_8_3 (fl1 C q350) (stN_o17 hS) rfl rfl dX7_strike_68 ?_
      obtain rfl := Option.some.inj hk
      exact j_vret (pc := 71) C dX7_strike_71 (Nat.le_of_ble_eq_true rfl) (Nat.le_of_ble_eq_true rfl)
    · replace hk := it_t h7 hk
      exact j_mask [false, false, false, false] (Jn63 _ hk)
def f_X0_isStep_J12 (F : Nat) (sh : SH) (x1 : Int32) (x2 : Int32) (s0 : Int32) (I : II) : Option (Int32 × II) := (f_X0_isLaw sh s0 I).bind fun r28 => if r28 = 0 then some ((nI 0), I) else (f_X0_has x1 s0).bind fun r36 => if r36 = 0 then some ((nI 0), I) else (f_X0_isChoice (x2 - x2 / (nI 4) * (nI 4))).bind fun r44 => if r44 = 0 then some ((nI 0), I) else orf (sh.2.2 0 1) fun t55 => ock sh t55 2 <| orf (sh.2.2 t55 1) fun t58 => ock sh t58 3 <| (f_J5_get sh t58 s0 I).bind fun a62 => ockD sh a62 <| (f_X7_follows F sh a62 ((x2 - x2 / (nI 48) * (nI 48)) / (nI 4)) (x2 - x2 / (nI 4) * (nI 4)) I).bind fun r72 => if r72 = 0 then some ((nI 0), I) else orf (sh.2.2 0 1) fun t85 => ock sh t85 2 <| orf (sh.2.2 t85 1) fun t88 => ock sh t88 3 <| (f_J5_get sh t88 s0 I).bind fun a92 => ockD sh a92 <| (f_X7_strike sh a92 ((x2 - x2 / (nI 48) * (nI 48)) / (nI 4)) (x2 - x2 / (nI 4) * (nI 4)) I).bind fun I102 => some ((nI 1), I102)
def f_X0_isStep (F : Nat) (sh : SH) (x1 : Int32) (x2 : Int32) (I : II) : Option (Int32 × II) := if 0 ≤ x2 then f_X0_isStep_J12 F sh x1 x2 (x2 / (nI 48)) I else f_X0_isStep_J12 F sh x1 x2 (-1) I
abbrev rm_X0_isStep : Room := { frames := 4, cells := 0, slots := 0, locals := 94 }
theorem mv_X0_isStep_ok : callOK yX0_isStep 2 := by decide +kernel
theorem mv_X0_isStep : MV yX0_isStep cX0_isStep 6 (some .boolean) 2 := ⟨q1588, qs37, q91, q1589, mv_X0_isStep_ok⟩
set_option maxHeartbeats 4000000 in
theorem ct_X0_isStep {G : WG} {l : Launch} {sh : SH} (hS : stN sh) {I : II} {F : Nat} {x1 : Int32} {x2 : Int32} {Z : (Int32 × II)} (hk : f_X0_isStep F sh x1 x2 I = some Z) : CT G l yX0_isStep (ws_ yX0_isStep cX0_isStep 6 (some .boolean)) rm_X0_isStep [.ref (wad G 0), .int x1, .int x2] (sh, I) (.returned (some (.int Z.1))) (sh, Z.2) := by
  refine CT.ofJ "NineDemands" rfl (by decide) (Nat.le_of_ble_eq_true rfl) ?_
  intro p e s m args below meth c C
  unfold f_X0_isStep at hk
  refine j_lv (lv' := [some (.ref (wad G 0)), some (.int x1), some (.int x2), none, none, none]) rfl ?_
  refine j_iload_n (pc := 0) C dX0_isStep_0 rfl rfl ?_
  have Jn12 : ∀ (x1 : Int32) (x2 : Int32) (s0 : Int32) (I : II), f_X0_isStep_J12 F sh x1 x2 s0 I = some Z → J G p l e rm_X0_isStep s m args below meth c 6 (.returned (some (.int Z.1))) (sh, Z.2) (rm_X0_isStep).cells (rm_X0_isStep).slots (sh, I) 0 0 12 [some (.ref (wad G 0)), some (.int x1), some (.int x2), none, none, none] [.int s0] := by
    intro x1 x2 s0 I hk
    unfold f_X0_isStep_J12 at hk
    refine j_istore_n (pc := 12) C dX0_isStep_12 rfl (Nat.le_of_ble_eq_true rfl) rfl ?_
    refine j_iload_n (pc := 13) C dX0_isStep_13 rfl rfl ?_
    refine j_bipush (pc := 14) (v := nI 48) C dX0_isStep_14 (by decide) ?_
    refine j_irem (pc := 16) C dX0_isStep_16 (by decide) ?_
    refine j_iconst (pc := 17) (v := nI 4) C dX0_isStep_17 (by decide) ?_
    refine j_idiv (pc := 18) C dX0_isStep_18 (by decide) ?_
    refine j_istore (pc := 19) C dX0_isStep_19 (Nat.le_of_ble_eq_true rfl) rfl ?_
    refine j_iload_n (pc := 21) C dX0_isStep_21 rfl rfl ?_
    refine j_iconst (pc := 22) (v := nI 4) C dX0_isStep_22 (by decide) ?_
    refine j_irem (pc := 23) C dX0_isStep_23 (by decide) ?_
    refine j_istore (pc := 24) C dX0_isStep_24 (Nat.le_of_ble_eq_true rfl) rfl ?_
    refine j_aload_n (pc := 26) C dX0_isStep_26 rfl rfl ?_
    refine j_iload_n (pc := 27) C dX0_isStep_27 rfl rfl ?_
    replace hk := ob_some hk
    obtain ⟨r28, h1, hk⟩ := hk
    refine x_callV (pc := 28) C (ct_X0_isLaw hS h1) mv_X0_isLaw (stN_o0 hS).r rfl rfl q1325 dX0_isStep_28 rfl rfl (Nat.le_of_ble_eq_true rfl) rfl ?_
    refine j_if_eq (pc := 31) 78 C dX0_isStep_31 (by decide) (fun h2 => ?_) (fun h2 => ?_)
    · replace hk := it_t h2 hk
      refine j_iconst (pc := 78) (v := nI 0) C dX0_isStep_78 (by decide) ?_
      obtain rfl := Option.some.inj hk
      exact j_zret (pc := 79) C dX0_isStep_79 (Nat.le_of_ble_eq_true rfl) (Nat.le_of_ble_eq_true rfl) (isB.nar (v := (nI 0)) (by unfold isB; decide))
    · replace hk := it_f h2 hk
      refine j_iload_n (pc := 34) C dX0_isStep_34 rfl rfl ?_
      refine j_iload_n (pc := 35) C dX0_isStep_35 rfl rfl ?_
      replace hk := ob_some hk
      obtain ⟨r36, h3, hk⟩ := hk
      refine j_callS (pc := 36) C (ct_X0_has h3) ms_X0_has q1431 dX0_isStep_36 rfl rfl (Nat.le_of_ble_eq_true rfl) rfl ?_
      refine j_if_eq (pc := 39) 78 C dX0_isStep_39 (by decide) (fun h4 => ?_) (fun h4 => ?_)
      · replace hk := it_t h4 hk
        refine j_iconst (pc := 78) (v := nI 0) C dX0_isStep_78 (by decide) ?_
        obtain rfl := Option.some.inj hk
        exact j_zret (pc := 79) C dX0_isStep_79 (Nat.le_of_ble_eq_true rfl) (Nat.le_of_ble_eq_true rfl) (isB.nar (v := (nI 0)) (by unfold isB; decide))
      · replace hk := it_f h4 hk
        refine j_iload (pc := 42) C dX0_isStep_42 rfl ?_
        replace hk := ob_some hk
        obtain ⟨r44, h5, hk⟩ := hk
        refine j_callS (pc := 44) C (ct_X0_isChoice h5) ms_X0_isChoice q449 dX0_isStep_44 rfl rfl (Nat.le_of_ble_eq_true rfl) rfl ?_
        refine j_if_eq (pc := 47) 78 C dX0_isStep_47 (by decide) (fun h6 => ?_) (fun h6 => ?_)
        · replace hk := it_t h6 hk
          refine j_iconst (pc := 78) (v := nI 0) C dX0_isStep_78 (by decide) ?_
          obtain rfl := Option.some.inj hk
          exact j_zret (pc := 79) C dX0_isStep_79 (Nat.le_of_ble_eq_true rfl) (Nat.le_of_ble_eq_true rfl) (isB.nar (v := (nI 0)) (by unfold isB; decide))
        · replace hk := it_f h6 hk
          refine j_aload_n (pc := 50) C dX0_isStep_50 rfl rfl ?_
          refine x_getR (pc := 51) C fd_0_7 (fl1 C q379) (stN_o0 hS).r (stN_r0_7 hS) dX0_isStep_51 ?_
          refine j_aload_n (pc := 54) C dX0_isStep_54 rfl rfl ?_
          replace hk := orf_some hk
          obtain ⟨t55, et55, hk⟩ := hk
          refine x_getR (pc := 55) C fd_0_1 (fl1 C q373) (stN_o0 hS).r et55 dX0_isStep_55 ?_
          replace hk := ock_some hk
          obtain ⟨h7, hk⟩ := hk
          replace hk := orf_some hk
          obtain ⟨t58, et58, hk⟩ := hk
          refine x_getR (pc := 58) C fd_2_1 (fl3 C q251) h7 et58 dX0_isStep_58 ?_
          refine j_iload_n (pc := 61) C dX0_isStep_61 rfl rfl ?_
          replace hk := ock_some hk
          obtain ⟨h8, hk⟩ := hk
          replace hk := ob_some hk
          obtain ⟨a62, h9, hk⟩ := hk
          refine x_callV (pc := 62) C (ct_J5_get h9) mv_J5_get h8 rfl rfl q1329 dX0_isStep_62 rfl rfl (Nat.le_of_ble_eq_true rfl) rfl ?_
          refine j_stk (st' := [.ref (wad G a62), .ref (wad G 17)]) rfl ?_
          replace hk := ockD_some hk
          obtain ⟨ch10, ch10h, h10, hk⟩ := hk
          obtain ⟨cr65, hcr65, hcs65⟩ := castD_NineDemands_Demand ch10h
          refine x_cast (pc := 65) C h10 hcr65 q640 hcs65 dX0_isStep_65 ?_
          refine j_iload (pc := 68) C dX0_isStep_68 rfl ?_
          refine j_iload (pc := 70) C dX0_isStep_70 rfl ?_
          replace hk := ob_some hk
          obtain ⟨r72, h11, hk⟩ := hk
          refine x_callV (pc := 72) C (ct_X7_follows hS h11) mv_X7_follows (stN_o17 hS).r rfl rfl q1590 dX0_isStep_72 rfl rfl (Nat.le_of_ble_eq_true rfl) rfl ?_
          refine j_if_ne (pc := 75) 80 C dX0_isStep_75 (by decide) (fun h12 => ?_) (fun h12 => ?_)
          · replace hk := it_f h12 hk
            refine j_aload_n (pc := 80) C dX0_isStep_80 rfl rfl ?_
            refine x_getR (pc := 81) C fd_0_7 (fl1 C q379) (stN_o0 hS).r (stN_r0_7 hS) dX0_isStep_81 ?_
            refine j_aload_n (pc := 84) C dX0_isStep_84 rfl rfl ?_
            replace hk := orf_some hk
            obtain ⟨t85, et85, hk⟩ := hk
            refine x_getR (pc := 85) C fd_0_1 (fl1 C q373) (stN_o0 hS).r et85 dX0_isStep_85 ?_
            replace hk := ock_some hk
            obtain ⟨h13, hk⟩ := hk
            replace hk := orf_some hk
            obtain ⟨t88, et88, hk⟩ := hk
            refine x_getR (pc := 88) C fd_2_1 (fl3 C q251) h13 et88 dX0_isStep_88 ?_
            refine j_iload_n (pc := 91) C dX0_isStep_91 rfl rfl ?_
            replace hk := ock_some hk
            obtain ⟨h14, hk⟩ := hk
            replace hk := ob_some hk
            obtain ⟨a92, h15, hk⟩ := hk
            refine x_callV (pc := 92) C (ct_J5_get h15) mv_J5_get h14 rfl rfl q1329 dX0_isStep_92 rfl rfl (Nat.le_of_ble_eq_true rfl) rfl ?_
            refine j_stk (st' := [.ref (wad G a92), .ref (wad G 17)]) rfl ?_
            replace hk := ockD_some hk
            obtain ⟨ch16, ch16h, h16, hk⟩ := hk
            obtain ⟨cr95, hcr95, hcs95⟩ := castD_NineDemands_Demand ch16h
            refine x_cast (pc := 95) C h16 hcr95 q640 hcs95 dX0_isStep_95 ?_
            refine j_iload (pc := 98) C dX0_isStep_98 rfl ?_
            refine j_iload (pc := 100) C dX0_isStep_100 rfl ?_
            replace hk := ob_some hk
            obtain ⟨I102, h17, hk⟩ := hk
            refine x_callV (pc := 102) C (ct_X7_strike hS h17) mv_X7_strike (stN_o17 hS).r rfl rfl q1594 dX0_isStep_102 rfl rfl (Nat.le_of_ble_eq_true rfl) rfl ?_
            refine j_iconst (pc := 105) (v := nI 1) C dX0_isStep_105 (by decide) ?_
            obtain rfl := Option.some.inj hk
            exact j_zret (pc := 106) C dX0_isStep_106 (Nat.le_of_ble_eq_true rfl) (Nat.le_of_ble_eq_true rfl) (isB.nar (v := (nI 1)) (by unfold isB; decide))
          · replace hk := it_t h12 hk
            refine j_iconst (pc := 78) (v := nI 0) C dX0_isStep_78 (by decide) ?_
            obtain rfl := Option.some.inj hk
            exact j_zret (pc := 79) C dX0_isStep_79 (Nat.le_of_ble_eq_true rfl) (Nat.le_of_ble_eq_true rfl) (isB.nar (v := (nI 0)) (by unfold isB; decide))
  refine j_if_ge (pc := 1) 8 C dX0_isStep_1 (by decide) (fun h18 => ?_) (fun h18 => ?_)
  · replace hk := it_t h18 hk
    refine j_iload_n (pc := 8) C dX0_isStep_8 rfl rfl ?_
    refine j_bipush (pc := 9) (v := nI 48) C dX0_isStep_9 (by decide) ?_
    refine j_idiv (pc := 11) C dX0_isStep_11 (by decide) ?_
    exact j_mask [true, true, true, false, false, false] (Jn12 _ _ _ _ hk)
  · replace hk := it_f h18 hk
    refine j_iconst (pc := 4) (v := (-1)) C dX0_isStep_4 (by decide) ?_
    refine j_goto (pc := 5) 12 C dX0_isStep_5 (by decide) ?_
    exact j_mask [true, true, true, false, false, false] (Jn12 _ _ _ _ hk)
