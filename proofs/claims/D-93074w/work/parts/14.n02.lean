/-! the class: walks -/
set_option maxRecDepth 100000
def f_X5_isLeft (sh : SH) (x1 : Int32) (x2 : Int32) (I : II) : Option Int32 := oix (((nI 12) * x1) + x1) 156 fun i10 => (f_X0_has (I 15 i10) x2).bind fun r12 => og (r12 = 0 ∨ r12 = 1) <| some r12
abbrev rm_X5_isLeft : Room := { frames := 1, cells := 0, slots := 0, locals := 21 }
theorem mv_X5_isLeft_ok : callOK yX5_isLeft 2 := by decide +kernel
theorem mv_X5_isLeft : MV yX5_isLeft cX5_isLeft 3 (some .boolean) 2 := ⟨q1468, qs26, q102, q1469, mv_X5_isLeft_ok⟩
set_option maxHeartbeats 4000000 in
theorem ct_X5_isLeft {G : WG} {l : Launch} {sh : SH} (hS : stN sh) {I : II} {x1 : Int32} {x2 : Int32} {Z : Int32} (hk : f_X5_isLeft sh x1 x2 I = some Z) : CT G l yX5_isLeft (ws_ yX5_isLeft cX5_isLeft 3 (some .boolean)) rm_X5_isLeft [.ref (wad G 11), .int x1, .int x2] (sh, I) (.returned (some (.int Z))) (sh, I) := by
  refine CT.ofJ "NineDemands$Search" rfl (by decide) (Nat.le_of_ble_eq_true rfl) ?_
  intro p e s m args below meth c C
  unfold f_X5_isLeft at hk
  refine j_lv (lv' := [some (.ref (wad G 11)), some (.int x1), some (.int x2)]) rfl ?_
  refine j_aload_n (pc := 0) C dX5_isLeft_0 rfl rfl ?_
  refine x_getR (pc := 1) C fd_6_1 (fl1 C q323) (stN_o11 hS).r (stN_r11_1 hS) dX5_isLeft_1 ?_
  refine j_bipush (pc := 4) (v := nI 12) C dX5_isLeft_4 (by decide) ?_
  refine j_iload_n (pc := 6) C dX5_isLeft_6 rfl rfl ?_
  refine j_imul (pc := 7) C dX5_isLeft_7 ?_
  refine j_iload_n (pc := 8) C dX5_isLeft_8 rfl rfl ?_
  refine j_iadd (pc := 9) C dX5_isLeft_9 ?_
  replace hk := oix_ex hk
  obtain ⟨i10, e10, h1, hk⟩ := hk
  refine j_iald (pc := 10) C (stN_a15 hS) h1 e10 dX5_isLeft_10 ?_
  refine j_iload_n (pc := 11) C dX5_isLeft_11 rfl rfl ?_
  replace hk := ob_some hk
  obtain ⟨r12, h2, hk⟩ := hk
  refine x_callSN (pc := 12) C (ct_X0_has h2) ms_X0_has q1461 dX5_isLeft_12 rfl rfl (Nat.le_of_ble_eq_true rfl) rfl ?_
  replace hk := og_some hk
  obtain ⟨h3, hk⟩ := hk
  obtain rfl := Option.some.inj hk
  exact j_zret (pc := 15) C dX5_isLeft_15 (Nat.le_of_ble_eq_true rfl) (Nat.le_of_ble_eq_true rfl) (isB.nar h3)
def f_X5_passes_L4 (F : Nat) (sh : SH) (x1 : Int32) : Nat → Int32 → II → Option II
  | 0, _, _ => none
  | n4 + 1, x2, I => if (nI 12) ≤ x2 then some I else oix (((nI 12) * x1) + x2) 156 fun i32 => oix (((nI 12) * (x1 + (nI 1))) + x2) 156 fun i33 => (f_X5_passes_L4 F sh x1 n4) (x2 + (nI 1)) (up2 I 15 i33 (I 15 i32))
def f_X5_passes (F : Nat) (sh : SH) (x1 : Int32) (I : II) : Option II := f_X5_passes_L4 F sh x1 F (x1 + (nI 1)) I
abbrev rm_X5_passes : Room := { frames := 0, cells := 0, slots := 0, locals := 0 }
theorem mv_X5_passes_ok : callOK yX5_passes 1 := by decide +kernel
theorem mv_X5_passes : MV yX5_passes cX5_passes 3 none 1 := ⟨q1464, qs25, q102, q1465, mv_X5_passes_ok⟩
set_option maxHeartbeats 4000000 in
theorem ct_X5_passes {G : WG} {l : Launch} {sh : SH} (hS : stN sh) {I : II} {F : Nat} {x1 : Int32} {Z : II} (hk : f_X5_passes F sh x1 I = some Z) : CT G l yX5_passes (ws_ yX5_passes cX5_passes 3 none) rm_X5_passes [.ref (wad G 11), .int x1] (sh, I) (.returned none) (sh, Z) := by
  refine CT.ofJ "NineDemands$Search" rfl (by decide) (Nat.le_of_ble_eq_true rfl) ?_
  intro p e s m args below meth c C
  unfold f_X5_passes at hk
  refine j_lv (lv' := [some (.ref (wad G 11)), some (.int x1), none]) rfl ?_
  refine j_iload_n (pc := 0) C dX5_passes_0 rfl rfl ?_
  refine j_iconst (pc := 1) (v := nI 1) C dX5_passes_1 (by decide) ?_
  refine j_iadd (pc := 2) C dX5_passes_2 ?_
  refine j_istore_n (pc := 3) C dX5_passes_3 rfl (Nat.le_of_ble_eq_true rfl) rfl ?_
  have L4 : ∀ (x1 : Int32) (n4 : Nat) (x2 : Int32) (I : II), f_X5_passes_L4 F sh x1 n4 x2 I = some Z → J G p l e rm_X5_passes s m args below meth c 3 (.returned none) (sh, Z) (rm_X5_passes).cells (rm_X5_passes).slots (sh, I) 0 0 4 [some (.ref (wad G 11)), some (.int x1), some (.int x2)] [] := by
    intro x1 n4
    induction n4 with
    | zero => intro x2 I hk; rw [f_X5_passes_L4] at hk; cases hk
    | succ n4 ih4 =>
      intro x2 I hk
      rw [f_X5_passes_L4] at hk
      generalize f_X5_passes_L4 F sh x1 n4 = k4 at ih4 hk
      refine j_iload_n (pc := 4) C dX5_passes_4 rfl rfl ?_
      refine j_bipush (pc := 5) (v := nI 12) C dX5_passes_5 (by decide) ?_
      refine j_icmp_ge (pc := 7) 40 C dX5_passes_7 (by decide) (fun h1 => ?_) (fun h1 => ?_)
      · replace hk := it_t h1 hk
        obtain rfl := Option.some.inj hk
        exact j_vret (pc := 40) C dX5_passes_40 (Nat.le_of_ble_eq_true rfl) (Nat.le_of_ble_eq_true rfl)
      · replace hk := it_f h1 hk
        refine j_aload_n (pc := 10) C dX5_passes_10 rfl rfl ?_
        refine x_getR (pc := 11) C fd_6_1 (fl1 C q323) (stN_o11 hS).r (stN_r11_1 hS) dX5_passes_11 ?_
        refine j_bipush (pc := 14) (v := nI 12) C dX5_passes_14 (by decide) ?_
        refine j_iload_n (pc := 16) C dX5_passes_16 rfl rfl ?_
        refine j_iconst (pc := 17) (v := nI 1) C dX5_passes_17 (by decide) ?_
        refine j_iadd (pc := 18) C dX5_passes_18 ?_
        refine j_imul (pc := 19) C dX5_passes_19 ?_
        refine j_iload_n (pc := 20) C dX5_passes_20 rfl rfl ?_
        refine j_iadd (pc := 21) C dX5_passes_21 ?_
        refine j_aload_n (pc := 22) C dX5_passes_22 rfl rfl ?_
        refine x_getR (pc := 23) C fd_6_1 (fl1 C q323) (stN_o11 hS).r (stN_r11_1 hS) dX5_passes_23 ?_
        refine j_bipush (pc := 26) (v := nI 12) C dX5_passes_26 (by decide) ?_
        refine j_iload_n (pc := 28) C dX5_passes_28 rfl rfl ?_
        refine j_imul (pc := 29) C dX5_passes_29 ?_
        refine j_iload_n (pc := 30) C dX5_passes_30 rfl rfl ?_
        refine j_iadd (pc := 31) C dX5_passes_31 ?_
        replace hk := oix_ex hk
        obtain ⟨i32, e32, h2, hk⟩ := hk
        refine j_iald (pc := 32) C (stN_a15 hS) h2 e32 dX5_passes_32 ?_
        replace hk := oix_ex hk
        obtain ⟨i33, e33, h3, hk⟩ := hk
        refine j_iast (pc := 33) C (stN_a15 hS) h3 e33 dX5_passes_33 ?_
        refine j_iinc (pc := 34) (nI 1) C dX5_passes_34 rfl (by decide) (Nat.le_of_ble_eq_true rfl) rfl ?_
        refine j_goto (pc := 37) 4 C dX5_passes_37 (by decide) ?_
        exact j_mask [true, true, true] (ih4 _ _ hk)
  exact j_mask [true, true, true] (L4 _ _ _ _ hk)
theorem mv_X5_finds_2_ok : callOK yX5_finds_2 1 := by decide +kernel
theorem mv_X5_finds_2 : MV yX5_finds_2 cX5_finds_2 3 (some .boolean) 1 := ⟨q1459, qs24, q102, q1460, mv_X5_finds_2_ok⟩
def f_X5_finds_2_L34 (F : Nat) (c_X5_finds_2 : SH → Int32 → II → Option (Int32 × II)) (sh : SH) (x1 : Int32) : Nat → Int32 → II → Option (Int32 × II)
  | 0, _, _ => none
  | n34 + 1, x2, I => if (nI 3) < x2 then some ((nI 0), I) else oix x1 12 fun i45 => (f_X5_isLeft sh x1 x2 (up2 I 16 i45 x2)).bind fun r49 => if r49 = 0 then (f_X5_finds_2_L34 F c_X5_finds_2 sh x1 n34) (x2 + (nI 1)) (up2 I 16 i45 x2) else bd2 (f_X5_goesOn F sh x1 x2 (up2 I 16 i45 x2)) fun r58 I58 => if r58 = 0 then (f_X5_finds_2_L34 F c_X5_finds_2 sh x1 n34) (x2 + (nI 1)) I58 else bd2 (c_X5_finds_2 sh (x1 + (nI 1)) I58) fun r68 I68 => if r68 = 0 then (f_X5_finds_2_L34 F c_X5_finds_2 sh x1 n34) (x2 + (nI 1)) I68 else some ((nI 1), I68)
def fb_X5_finds_2 (F : Nat) (c_X5_finds_2 : SH → Int32 → II → Option (Int32 × II)) (sh : SH) (x1 : Int32) (I : II) : Option (Int32 × II) := if x1 = (nI 12) then some ((nI 1), I) else (f_X0_has (I 11 3) x1).bind fun r13 => if r13 = 0 then (f_X5_passes F sh x1 I).bind fun I21 => bd2 (c_X5_finds_2 sh (x1 + (nI 1)) I21) fun r28 I28 => og (r28 = 0 ∨ r28 = 1) <| some (r28, I28) else f_X5_finds_2_L34 F c_X5_finds_2 sh x1 F (nI 1) I
set_option maxHeartbeats 4000000 in
theorem ctb_X5_finds_2 {G : WG} {l : Launch} {sh : SH} (hS : stN sh) {Rf Rl : Nat} {F : Nat} {fc_X5_finds_2 lc_X5_finds_2 : Nat} {c_X5_finds_2 : SH → Int32 → II → Option (Int32 × II)} (hc_X5_finds_2 : ∀ {x1 : Int32} {I : II} {Z : (Int32 × II)}, c_X5_finds_2 sh x1 I = some Z → CT G l yX5_finds_2 (ws_ yX5_finds_2 cX5_finds_2 3 (some .boolean)) (rmA fc_X5_finds_2 lc_X5_finds_2 0) [.ref (wad G 11), .int x1] (sh, I) (.returned (some (.int Z.1))) (sh, Z.2)) (hr_X0_has : 0 + 1 ≤ Rf ∧ 8 + (2 + 11) + 0 ≤ Rl) (hr_X5_isLeft : 1 + 1 ≤ Rf ∧ 8 + (3 + 11) + 21 ≤ Rl) (hr_X5_goesOn : 1 + 1 ≤ Rf ∧ 8 + (6 + 11) + 21 ≤ Rl) (hr_X5_finds_2 : fc_X5_finds_2 + 1 ≤ Rf ∧ 8 + (3 + 11) + lc_X5_finds_2 ≤ Rl) (hr_X5_passes : 0 + 1 ≤ Rf ∧ 8 + (3 + 11) + 0 ≤ Rl) {x1 : Int32} {I : II} {Z : (Int32 × II)} (hk : fb_X5_finds_2 F c_X5_finds_2 sh x1 I = some Z) : CT G l yX5_finds_2 (ws_ yX5_finds_2 cX5_finds_2 3 (some .boolean)) (rmA Rf Rl 0) [.ref (wad G 11), .int x1] (sh, I) (.returned (some (.int Z.1))) (sh, Z.2) := by
  refine CT.ofJ "NineDemands$Search" rfl (by decide) (Nat.le_of_ble_eq_true rfl) ?_
  intro p e s m args below meth c C
  unfold fb_X5_finds_2 at hk
  refine j_lv (lv' := [some (.ref (wad G 11)), some (.int x1), none]) rfl ?_
  refine j_iload_n (pc := 0) C dX5_finds_2_0 rfl rfl ?_
  refine j_bipush (pc := 1) (v := nI 12) C dX5_finds_2_1 (by decide) ?_
  refine j_icmp_ne (pc := 3) 8 C dX5_finds_2_3 (by decide) (fun h1 => ?_) (fun h1 => ?_)
  · replace hk := it_f h1 hk
    refine j_aload_n (pc := 8) C dX5_finds_2_8 rfl rfl ?_
    refine x_getI (pc := 9) C fd_6_3 (fl1 C q326) (stN_o11 hS).r dX5_finds_2_9 ?_
    refine j_iload_n (pc := 12) C dX5_finds_2_12 rfl rfl ?_
    replace hk := ob_some hk
    obtain ⟨r13, h2, hk⟩ := hk
    refine x_callSN (pc := 13) C (ct_X0_has h2) ms_X0_has q1461 dX5_finds_2_13 rfl rfl (Nat.le_of_ble_eq_true rfl) (rmOK.i hr_X0_has.1 hr_X0_has.2 (Nat.zero_le _) (Nat.zero_le _)) ?_
    refine j_if_ne (pc := 16) 32 C dX5_finds_2_16 (by decide) (fun h3 => ?_) (fun h3 => ?_)
    · replace hk := it_f h3 hk
      refine j_iconst (pc := 32) (v := nI 1) C dX5_finds_2_32 (by decide) ?_
      refine j_istore_n (pc := 33) C dX5_finds_2_33 rfl (Nat.le_of_ble_eq_true rfl) rfl ?_
      have L34 : ∀ (x1 : Int32) (n34 : Nat) (x2 : Int32) (I : II), f_X5_finds_2_L34 F c_X5_finds_2 sh x1 n34 x2 I = some Z → J G p l e (rmA Rf Rl 0) s m args below meth c 3 (.returned (some (.int Z.1))) (sh, Z.2) ((rmA Rf Rl 0)).cells ((rmA Rf Rl 0)).slots (sh, I) 0 0 34 [some (.ref (wad G 11)), some (.int x1), some (.int x2)] [] := by
        intro x1 n34
        induction n34 with
        | zero => intro x2 I hk; rw [f_X5_finds_2_L34] at hk; cases hk
        | succ n34 ih34 =>
          intro x2 I hk
          rw [f_X5_finds_2_L34] at hk
          generalize f_X5_finds_2_L34 F c_X5_finds_2 sh x1 n34 = k34 at ih34 hk
          refine j_iload_n (pc := 34) C dX5_finds_2_34 rfl rfl ?_
          refine j_iconst (pc := 35) (v := nI 3) C dX5_finds_2_35 (by decide) ?_
          refine j_icmp_gt (pc := 36) 82 C dX5_finds_2_36 (by decide) (fun h4 => ?_) (fun h4 => ?_)
          · replace hk := it_t h4 hk
            refine j_iconst (pc := 82) (v := nI 0) C dX5_finds_2_82 (by decide) ?_
            obtain rfl := Option.some.inj hk
            exact j_zret (pc := 83) C dX5_finds_2_83 (Nat.zero_le _) (Nat.zero_le _) (isB.nar (v := (nI 0)) (by unfold isB; decide))
          · replace hk := it_f h4 hk
            refine j_aload_n (pc := 39) C dX5_finds_2_39 rfl rfl ?_
            refine x_getR (pc := 40) C fd_6_2 (fl1 C q324) (stN_o11 hS).r (stN_r11_2 hS) dX5_finds_2_40 ?_
            refine j_iload_n (pc := 43) C dX5_finds_2_43 rfl rfl ?_
            refine j_iload_n (pc := 44) C dX5_finds_2_44 rfl rfl ?_
            replace hk := oix_ex hk
            obtain ⟨i45, e45, h5, hk⟩ := hk
            refine j_iast (pc := 45) C (stN_a16 hS) h5 e45 dX5_finds_2_45 ?_
            refine j_aload_n (pc := 46) C dX5_finds_2_46 rfl rfl ?_
            refine j_iload_n (pc := 47) C dX5_finds_2_47 rfl rfl ?_
            refine j_iload_n (pc := 48) C dX5_finds_2_48 rfl rfl ?_
            replace hk := ob_some hk
            obtain ⟨r49, h6, hk⟩ := hk
            refine x_callV (pc := 49) C (ct_X5_isLeft hS h6) mv_X5_isLeft (stN_o11 hS).r rfl rfl q1466 dX5_finds_2_49 rfl rfl (Nat.le_of_ble_eq_true rfl) (rmOK.i hr_X5_isLeft.1 hr_X5_isLeft.2 (Nat.zero_le _) (Nat.zero_le _)) ?_
            refine j_if_eq (pc := 52) 76 C dX5_finds_2_52 (by decide) (fun h7 => ?_) (fun h7 => ?_)
            · replace hk := it_t h7 hk
              refine j_iinc (pc := 76) (nI 1) C dX5_finds_2_76 rfl (by decide) (Nat.le_of_ble_eq_true rfl) rfl ?_
              refine j_goto (pc := 79) 34 C dX5_finds_2_79 (by decide) ?_
              exact j_mask [true, true, true] (ih34 _ _ hk)
            · replace hk := it_f h7 hk
              refine j_aload_n (pc := 55) C dX5_finds_2_55 rfl rfl ?_
              refine j_iload_n (pc := 56) C dX5_finds_2_56 rfl rfl ?_
              refine j_iload_n (pc := 57) C dX5_finds_2_57 rfl rfl ?_
              replace hk := bd2_some hk
              obtain ⟨r58, I58, h8, hk⟩ := hk
              refine x_callV (pc := 58) C (ct_X5_goesOn hS h8) mv_X5_goesOn (stN_o11 hS).r rfl rfl q1470 dX5_finds_2_58 rfl rfl (Nat.le_of_ble_eq_true rfl) (rmOK.i hr_X5_goesOn.1 hr_X5_goesOn.2 (Nat.zero_le _) (Nat.zero_le _)) ?_
              refine j_if_eq (pc := 61) 76 C dX5_finds_2_61 (by decide) (fun h9 => ?_) (fun h9 => ?_)
              · replace hk := it_t h9 hk
                refine j_iinc (pc := 76) (nI 1) C dX5_finds_2_76 rfl (by decide) (Nat.le_of_ble_eq_true rfl) rfl ?_
                refine j_goto (pc := 79) 34 C dX5_finds_2_79 (by decide) ?_
                exact j_mask [true, true, true] (ih34 _ _ hk)
              · replace hk := it_f h9 hk
                refine j_aload_n (pc := 64) C dX5_finds_2_64 rfl rfl ?_
                refine j_iload_n (pc := 65) C dX5_finds_2_65 rfl rfl ?_
                refine j_iconst (pc := 66) (v := nI 1) C dX5_finds_2_66 (by decide) ?_
                refine j_iadd (pc := 67) C dX5_finds_2_67 ?_
                replace hk := bd2_some hk
                obtain ⟨r68, I68, h10, hk⟩ := hk
                refine x_callV (pc := 68) C (hc_X5_finds_2 h10) mv_X5_finds_2 (stN_o11 hS).r rfl rfl q1457 dX5_finds_2_68 rfl rfl (Nat.le_of_ble_eq_true rfl) (rmOK.i hr_X5_finds_2.1 hr_X5_finds_2.2 (Nat.zero_le _) (Nat.zero_le _)) ?_
                refine j_if_eq (pc := 71) 76 C dX5_finds_2_71 (by decide) (fun h11 => ?_) (fun h11 => ?_)
                · replace hk := it_t h11 hk
                  refine j_iinc (pc := 76) (nI 1) C dX5_finds_2_76 rfl (by decide) (Nat.le_of_ble_eq_true rfl) rfl ?_
                  refine j_goto (pc := 79) 34 C dX5_finds_2_79 (by decide) ?_
                  exact j_mask [true, true, true] (ih34 _ _ hk)
                · replace hk := it_f h11 hk
                  refine j_iconst (pc := 74) (v := nI 1) C dX5_finds_2_74 (by decide) ?_
                  obtain rfl := Option.some.inj hk
                  exact j_zret (pc := 75) C dX5_finds_2_75 (Nat.zero_le _) (Nat.zero_le _) (isB.nar (v := (nI 1)) (by unfold isB; decide))
      exact j_mask [true, true, true] (L34 _ _ _ _ hk)
    · replace hk := it_t h3 hk
      refine j_aload_n (pc := 19) C dX5_finds_2_19 rfl rfl ?_
      refine j_iload_n (pc := 20) C dX5_finds_2_20 rfl rfl ?_
      replace hk := ob_some hk
      obtain ⟨I21, h12, hk⟩ := hk
      refine x_callV (pc := 21) C (ct_X5_passes hS h12) mv_X5_passes (stN_o11 hS).r rfl rfl q1462 dX5_finds_2_21 rfl rfl (Nat.le_of_ble_eq_true rfl) (rmOK.i hr_X5_passes.1 hr_X5_passes.2 (Nat.zero_le _) (Nat.zero_le _)) ?_
      refine j_aload_n (pc := 24) C dX5_finds_2_24 rfl rfl ?_
      refine j_iload_n (pc := 25) C dX5_finds_2_25 rfl rfl ?_
      refine j_iconst (pc := 26) (v := nI 1) C dX5_finds_2_26 (by decide) ?_
      refine j_iadd (pc := 27) C dX5_finds_2_27 ?_
      replace hk := bd2_some hk
      obtain ⟨r28, I28, h13, hk⟩ := hk
      refine x_callV (pc := 28) C (hc_X5_finds_2 h13) mv_X5_finds_2 (stN_o11 hS).r rfl rfl q1457 dX5_finds_2_28 rfl rfl (Nat.le_of_ble_eq_true rfl) (rmOK.i hr_X5_finds_2.1 hr_X5_finds_2.2 (Nat.zero_le _) (Nat.zero_le _)) ?_
      replace hk := og_some hk
      obtain ⟨h14, hk⟩ := hk
      obtain rfl := Option.some.inj hk
      exact j_zret (pc := 31) C dX5_finds_2_31 (Nat.zero_le _) (Nat.zero_le _) (isB.nar h14)
  · replace hk := it_t h1 hk
    refine j_iconst (pc := 6) (v := nI 1) C dX5_finds_2_6 (by decide) ?_
    obtain rfl := Option.some.inj hk
    exact j_zret (pc := 7) C dX5_finds_2_7 (Nat.zero_le _) (Nat.zero_le _) (isB.nar (v := (nI 1)) (by unfold isB; decide))
def f_X5_finds_2 (F : Nat) : Nat → SH → Int32 → II → Option (Int32 × II)
  | 0 => fun _ _ _ => none
  | d + 1 => fb_X5_finds_2 F (f_X5_finds_2 F d)
theorem f_X5_finds_2_s (F : Nat) (d : Nat) : f_X5_finds_2 F (d + 1) = fb_X5_finds_2 F (f_X5_finds_2 F d) := rfl
theorem f_X5_finds_2_0 (F : Nat) : f_X5_finds_2 F 0 = fun _ _ _ => none := rfl
set_option maxHeartbeats 4000000 in
theorem ctg_X5_finds_2 {G : WG} {l : Launch} {sh : SH} (hS : stN sh) (F : Nat) : ∀ d : Nat, (∀ (x1 : Int32) (I : II) (Z : (Int32 × II)), f_X5_finds_2 F d sh x1 I = some Z → CT G l yX5_finds_2 (ws_ yX5_finds_2 cX5_finds_2 3 (some .boolean)) (rmA (d + 2) (22 * d + 100) 0) [.ref (wad G 11), .int x1] (sh, I) (.returned (some (.int Z.1))) (sh, Z.2)) := by
  intro d
  induction d with
  | zero =>
    (intros; rename_i hk; cases hk)
  | succ d ih =>
    have ih_X5_finds_2 := ih
    · intro v0 v1 v2 hk
      exact ctb_X5_finds_2 (F := F) hS (fun {a0 a1 a2} hk => ih_X5_finds_2 a0 a1 a2 hk) ⟨by omega, by omega⟩ ⟨by omega, by omega⟩ ⟨by omega, by omega⟩ ⟨by omega, by omega⟩ ⟨by omega, by omega⟩ hk
theorem ct_X5_finds_2 {G : WG} {l : Launch} {sh : SH} (hS : stN sh) {F : Nat} {d : Nat} {x1 : Int32} {I : II} {Z : (Int32 × II)} (hk : f_X5_finds_2 F d sh x1 I = some Z) : CT G l yX5_finds_2 (ws_ yX5_finds_2 cX5_finds_2 3 (some .boolean)) (rmA (d + 2) (22 * d + 100) 0) [.ref (wad G 11), .int x1] (sh, I) (.returned (some (.int Z.1))) (sh, Z.2) := (ctg_X5_finds_2 hS F d) _ _ _ hk
def f_X5_finds (F : Nat) (sh : SH) (I : II) : Option (Int32 × II) := bd2 (f_X5_finds_2 F 13 sh (nI 0) I) fun r2 I2 => og (r2 = 0 ∨ r2 = 1) <| some (r2, I2)
abbrev rm_X5_finds : Room := { frames := 16, cells := 0, slots := 0, locals := 408 }
theorem mv_X5_finds_ok : callOK yX5_finds 0 := by decide +kernel
theorem mv_X5_finds : MV yX5_finds cX5_finds 1 (some .boolean) 0 := ⟨q1454, q1455, q102, q1456, mv_X5_finds_ok⟩
set_option maxHeartbeats 4000000 in
theorem ct_X5_finds {G : WG} {l : Launch} {sh : SH} (hS : stN sh) {I : II} {F : Nat}  {Z : (Int32 × II)} (hk : f_X5_finds F sh I = some Z) : CT G l yX5_finds (ws_ yX5_finds cX5_finds 1 (some .boolean)) rm_X5_finds [.ref (wad G 11)] (sh, I) (.returned (some (.int Z.1))) (sh, Z.2) := by
  refine CT.ofJ "NineDemands$Search" rfl (by decide) (Nat.le_of_ble_eq_true rfl) ?_
  intro p e s m args below meth c C
  unfold f_X5_finds at hk
  refine j_lv (lv' := [some (.ref (wad G 11))]) rfl ?_
  refine j_aload_n (pc := 0) C dX5_finds_0 rfl rfl ?_
  refine j_iconst (pc := 1) (v := nI 0) C dX5_finds_1 (by decide) ?_
  replace hk := bd2_some hk
  obtain ⟨r2, I2, h1, hk⟩ := hk
  refine x_callV (pc := 2) C (ct_X5_finds_2 hS h1) mv_X5_finds_2 (stN_o11 hS).r rfl rfl q1457 dX5_finds_2 rfl rfl (Nat.le_of_ble_eq_true rfl) rfl ?_
  replace hk := og_some hk
  obtain ⟨h2, hk⟩ := hk
  obtain rfl := Option.some.inj hk
  exact j_zret (pc := 5) C dX5_finds_5 (Nat.le_of_ble_eq_true rfl) (Nat.le_of_ble_eq_true rfl) (isB.nar h2)
def f_X0_isOut (F : Nat) (sh : SH) (x1 : Int32) (I : II) : Option (Int32 × II) := (f_X0_weave F sh x1 I).bind fun I2 => (f_X5_begin F sh (nI 4095) I2).bind fun I12 => bd2 (f_X5_finds F sh I12) fun r19 I19 => if r19 = 0 then some ((nI 1), I19) else some ((nI 0), I19)
abbrev rm_X0_isOut : Room := { frames := 17, cells := 0, slots := 0, locals := 428 }
theorem mv_X0_isOut_ok : callOK yX0_isOut 1 := by decide +kernel
theorem mv_X0_isOut : MV yX0_isOut cX0_isOut 2 (some .boolean) 1 := ⟨q1421, qs22, q91, q1422, mv_X0_isOut_ok⟩
set_option maxHeartbeats 4000000 in
theorem ct_X0_isOut {G : WG} {l : Launch} {sh : SH} (hS : stN sh) {I : II} {F : Nat} {x1 : Int32} {Z : (Int32 × II)} (hk : f_X0_isOut F sh x1 I = some Z) : CT G l yX0_isOut (ws_ yX0_isOut cX0_isOut 2 (some .boolean)) rm_X0_isOut [.ref (wad G 0), .int x1] (sh, I) (.returned (some (.int Z.1))) (sh, Z.2) := by
  refine CT.ofJ "NineDemands" rfl (by decide) (Nat.le_of_ble_eq_true rfl) ?_
  intro p e s m args below meth c C
  unfold f_X0_isOut at hk
  refine j_lv (lv' := [some (.ref (wad G 0)), some (.int x1)]) rfl ?_
  refine j_aload_n (pc := 0) C dX0_isOut_0 rfl rfl ?_
  refine j_iload_n (pc := 1) C dX0_isOut_1 rfl rfl ?_
  replace hk := ob_some hk
  obtain ⟨I2, h1, hk⟩ := hk
  refine x_callV (pc := 2) C (ct_X0_weave hS h1) mv_X0_weave (stN_o0 hS).r rfl rfl q1423 dX0_isOut_2 rfl rfl (Nat.le_of_ble_eq_true rfl) rfl ?_
  refine j_aload_n (pc := 5) C dX0_isOut_5 rfl rfl ?_
  refine x_getR (pc := 6) C fd_0_6 (fl1 C q378) (stN_o0 hS).r (stN_r0_6 hS) dX0_isOut_6 ?_
  refine j_sipush (pc := 9) (v := nI 4095) C dX0_isOut_9 (by decide) ?_
  replace hk := ob_some hk
  obtain ⟨I12, h2, hk⟩ := hk
  refine x_callV (pc := 12) C (ct_X5_begin hS h2) mv_X5_begin (stN_o11 hS).r rfl rfl q1449 dX0_isOut_12 rfl rfl (Nat.le_of_ble_eq_true rfl) rfl ?_
  refine j_aload_n (pc := 15) C dX0_isOut_15 rfl rfl ?_
  refine x_getR (pc := 16) C fd_0_6 (fl1 C q378) (stN_o0 hS).r (stN_r0_6 hS) dX0_isOut_16 ?_
  replace hk := bd2_some hk
  obtain ⟨r19, I19, h3, hk⟩ := hk
  refine x_callV (pc := 19) C (ct_X5_finds hS h3) mv_X5_finds (stN_o11 hS).r rfl rfl q1453 dX0_isOut_19 rfl rfl (Nat.le_of_ble_eq_true rfl) rfl ?_
  refine j_if_ne (pc := 22) 29 C dX0_isOut_22 (by decide) (fun h4 => ?_) (fun h4 => ?_)
  · replace hk := it_f h4 hk
    refine j_iconst (pc := 29) (v := nI 0) C dX0_isOut_29 (by decide) ?_
    obtain rfl := Option.some.inj hk
    exact j_zret (pc := 30) C dX0_isOut_30 (Nat.le_of_ble_eq_true rfl) (Nat.le_of_ble_eq_true rfl) (isB.nar (v := (nI 0)) (by unfold isB; decide))
  · replace hk := it_t h4 hk
    refine j_iconst (pc := 25) (v := nI 1) C dX0_isOut_25 (by decide) ?_
    refine j_goto (pc := 26) 30 C dX0_isOut_26 (by decide) ?_
    obtain rfl := Option.some.inj hk
    exact j_zret (pc := 30) C dX0_isOut_30 (Nat.le_of_ble_eq_true rfl) (Nat.le_of_ble_eq_true rfl) (isB.nar (v := (nI 1)) (by unfold isB; decide))
def f_X0_learn_J90 (F : Nat) (sh : SH) (s0 : Nat) (I : II) : Option (Int32 × II) := bd2 (f_X0_finds sh s0 I) fun r93 I93 => some (r93, I93)
def f_X0_learn_L46 (F : Nat) (sh : SH) (x2 : Int32) : Nat → Int32 → II → Option (Int32 × II)
  | 0, _, _ => none
  | n46 + 1, x3, I => if x2 ≤ x3 then some ((nI 0), I) else if (nI 12) ≤ x3 then some (((nI 1) + x3), I) else orf (sh.2.2 0 1) fun t58 => ock sh t58 2 <| orf (sh.2.2 t58 4) fun t61 => oarw sh t61 100 fun nh15 => oix x3 nh15 fun i65 => oix x3 12 fun i74 => if (I t61 i65) = (I 16 i74) then (f_X0_learn_L46 F sh x2 n46) (x3 + (nI 1)) I else some (((nI 1) + x3), I)
def f_X0_learn_J40 (F : Nat) (sh : SH) (x2 : Int32) (s1 : Int32) (I : II) : Option (Int32 × II) := bd2 (f_X0_need sh s1 (nI 2) I) fun u41 I41 => oex u41 (fun _w41 => f_X0_learn_L46 F sh x2 F (nI 0) I41) (fun w41 => ock sh w41 1 <| f_X0_learn_J90 F sh w41 I41)
def f_X0_learn (F : Nat) (sh : SH) (x1 : Int32) (I : II) : Option (Int32 × II) := orf (sh.2.2 0 1) fun t1 => ock sh t1 2 <| orf (sh.2.2 0 1) fun t9 => ockw sh t9 2 <| (f_X0_isSet sh x1 (up2 I t9 5 (nI 0))).bind fun r19 => bd2 (f_X0_need sh r19 (nI 1) (up2 I t9 5 (nI 0))) fun u23 I23 => oex u23 (fun _w23 => bd2 (f_X0_isOut F sh x1 I23) fun r29 I29 => if r29 = 0 then f_X0_learn_J40 F sh (I t1 5) (nI 1) I29 else f_X0_learn_J40 F sh (I t1 5) (nI 0) I29) (fun w23 => ock sh w23 1 <| f_X0_learn_J90 F sh w23 I23)
abbrev rm_X0_learn : Room := { frames := 18, cells := 0, slots := 0, locals := 449 }
theorem mv_X0_learn_ok : callOK yX0_learn 1 := by decide +kernel
theorem mw_X0_learn : MW yX0_learn cX0_learn 4 (some .int) [(16, 81, 90, 8), (82, 89, 90, 8)] 1 := ⟨q1966, q1967, q91, q1968, mv_X0_learn_ok⟩
set_option maxHeartbeats 4000000 in
theorem ct_X0_learn {G : WG} {l : Launch} {sh : SH} (hS : stN sh) {I : II} {F : Nat} {x1 : Int32} {Z : (Int32 × II)} (hk : f_X0_learn F sh x1 I = some Z) : CT G l yX0_learn (wsW_ yX0_learn cX0_learn 4 (some .int) [(16, 81, 90, 8), (82, 89, 90, 8)]) rm_X0_learn [.ref (wad G 0), .int x1] (sh, I) (.returned (some (.int Z.1))) (sh, Z.2) := by
  refine CT.ofJW "NineDemands" rfl (by decide) (Nat.le_of_ble_eq_true rfl) ?_
  intro p e s m args below meth c C
  unfold f_X0_learn at hk
  refine j_lv (lv' := [some (.ref (wad G 0)), some (.int x1), none, none]) rfl ?_
  refine j_aload_n (pc := 0) C dX0_learn_0 rfl rfl ?_
  replace hk := orf_some hk
  obtain ⟨t1, et1, hk⟩ := hk
  refine x_getR (pc := 1) C fd_0_1 (fl1 C q373) (stN_o0 hS).r et1 dX0_learn_1 ?_
  replace hk := ock_some hk
  obtain ⟨h1, hk⟩ := hk
  refine x_getI (pc := 4) C fd_2_5 (fl3 C q259) h1 dX0_learn_4 ?_
  refine j_istore_n (pc := 7) C dX0_learn_7 rfl (Nat.le_of_ble_eq_true rfl) rfl ?_
  refine j_aload_n (pc := 8) C dX0_learn_8 rfl rfl ?_
  replace hk := orf_some hk
  obtain ⟨t9, et9, hk⟩ := hk
  refine x_getR (pc := 9) C fd_0_1 (fl1 C q373) (stN_o0 hS).r et9 dX0_learn_9 ?_
  refine j_iconst (pc := 12) (v := nI 0) C dX0_learn_12 (by decide) ?_
  replace hk := ockw_some hk
  obtain ⟨h2, hk⟩ := hk
  refine x_putI (pc := 13) C fd_2_5 (fl3 C q259) h2 rfl rfl dX0_learn_13 ?_
  refine j_aload_n (pc := 16) C dX0_learn_16 rfl rfl ?_
  refine j_aload_n (pc := 17) C dX0_learn_17 rfl rfl ?_
  refine j_iload_n (pc := 18) C dX0_learn_18 rfl rfl ?_
  replace hk := ob_some hk
  obtain ⟨r19, h3, hk⟩ := hk
  refine x_callV (pc := 19) C (ct_X0_isSet hS h3) mv_X0_isSet (stN_o0 hS).r rfl rfl q1415 dX0_learn_19 rfl rfl (Nat.le_of_ble_eq_true rfl) rfl ?_
  refine j_iconst (pc := 22) (v := nI 1) C dX0_learn_22 (by decide) ?_
  have Jn90 : ∀ (s0 : Nat) (I : II), f_X0_learn_J90 F sh s0 I = some Z → J G p l e rm_X0_learn s m args below meth c 4 (.returned (some (.int Z.1))) (sh, Z.2) (rm_X0_learn).cells (rm_X0_learn).slots (sh, I) 0 0 90 [some (.ref (wad G 0)), none, none, none] [.ref (wad G s0)] := by
    intro s0 I hk
    unfold f_X0_learn_J90 at hk
    refine j_astore_n (pc := 90) C dX0_learn_90 rfl (Nat.le_of_ble_eq_true rfl) rfl ?_
    refine j_aload_n (pc := 91) C dX0_learn_91 rfl rfl ?_
    refine j_aload_n (pc := 92) C dX0_learn_92 rfl rfl ?_
    replace hk := bd2_some hk
    obtain ⟨r93, I93, h4, hk⟩ := hk
    refine x_callV (pc := 93) C (ct_X0_finds hS h4) mv_X0_finds (stN_o0 hS).r rfl rfl q433 dX0_learn_93 rfl rfl (Nat.le_of_ble_eq_true rfl) rfl ?_
    obtain rfl := Option.some.inj hk
    exact j_iret (pc := 96) C dX0_learn_96 (Nat.le_of_ble_eq_true rfl) (Nat.le_of_ble_eq_true rfl)
  replace hk := bd2_some hk
  obtain ⟨u23, I23, h5, hk⟩ := hk
  cases u23 with
  | inr w23 =>
    replace hk := oex_r hk
    replace hk := ock_some hk
    obtain ⟨h7, hk⟩ := hk
    refine x_callVC [] [(82, 89, 90, 8)] (16, 81, 90, 8) (pc := 23) C (ct_X0_need hS h5) mv_X0_need (stN_o0 hS).r rfl rfl q416 dX0_learn_23 rfl rfl (Nat.le_of_ble_eq_true rfl) rfl rfl h7 rfl (by decide) (by decide) q146 (fun z hz => by cases hz) ?_
    exact j_mask [true, false, false, false] (Jn90 _ _ hk)
  | inl _w23 =>
    replace hk := oex_l hk
    refine x_callV (pc := 23) C (ct_X0_need hS h5) mv_X0_need (stN_o0 hS).r rfl rfl q416 dX0_learn_23 rfl rfl (Nat.le_of_ble_eq_true rfl) rfl ?_
    refine j_aload_n (pc := 26) C dX0_learn_26 rfl rfl ?_
    refine j_aload_n (pc := 27) C dX0_learn_27 rfl rfl ?_
    refine j_iload_n (pc := 28) C dX0_learn_28 rfl rfl ?_
    replace hk := bd2_some hk
    obtain ⟨r29, I29, h8, hk⟩ := hk
    refine x_callV (pc := 29) C (ct_X0_isOut hS h8) mv_X0_isOut (stN_o0 hS).r rfl rfl q1419 dX0_learn_29 rfl rfl (Nat.le_of_ble_eq_true rfl) rfl ?_
    have Jn40 : ∀ (x2 : Int32) (s1 : Int32) (I : II), f_X0_learn_J40 F sh x2 s1 I = some Z → J G p l e rm_X0_learn s m args below meth c 4 (.returned (some (.int Z.1))) (sh, Z.2) (rm_X0_learn).cells (rm_X0_learn).slots (sh, I) 0 0 40 [some (.ref (wad G 0)), none, some (.int x2), none] [.int s1, .ref (wad G 0)] := by
      intro x2 s1 I hk
      unfold f_X0_learn_J40 at hk
      refine j_iconst (pc := 40) (v := nI 2) C dX0_learn_40 (by decide) ?_
      replace hk := bd2_some hk
      obtain ⟨u41, I41, h9, hk⟩ := hk
      cases u41 with
      | inr w41 =>
        replace hk := oex_r hk
        replace hk := ock_some hk
        obtain ⟨h11, hk⟩ := hk
        refine x_callVC [] [(82, 89, 90, 8)] (16, 81, 90, 8) (pc := 41) C (ct_X0_need hS h9) mv_X0_need (stN_o0 hS).r rfl rfl q416 dX0_learn_41 rfl rfl (Nat.le_of_ble_eq_true rfl) rfl rfl h11 rfl (by decide) (by decide) q146 (fun z hz => by cases hz) ?_
        exact j_mask [true, false, false, false] (Jn90 _ _ hk)
      | inl _w41 =>
        replace hk := oex_l hk
        refine x_callV (pc := 41) C (ct_X0_need hS h9) mv_X0_need (stN_o0 hS).r rfl rfl q416 dX0_learn_41 rfl rfl (Nat.le_of_ble_eq_true rfl) rfl ?_
        refine j_iconst (pc := 44) (v := nI 0) C dX0_learn_44 (by decide) ?_
        refine j_istore_n (pc := 45) C dX0_learn_45 rfl (Nat.le_of_ble_eq_true rfl) rfl ?_
        have L46 : ∀ (x2 : Int32) (n46 : Nat) (x3 : Int32) (I : II), f_X0_learn_L46 F sh x2 n46 x3 I = some Z → J G p l e rm_X0_learn s m args below meth c 4 (.returned (some (.int Z.1))) (sh, Z.2) (rm_X0_learn).cells (rm_X0_learn).slots (sh, I) 0 0 46 [some (.ref (wad G 0)), none, some (.int x2), some (.int x3)] [] := by
          intro x2 n46
          induction n46 with
          | zero => intro x3 I hk; rw [f_X0_learn_L46] at hk; cases hk
          | succ n46 ih46 =>
            intro x3 I hk
            rw [f_X0_learn_L46] at hk
            generalize f_X0_learn_L46 F sh x2 n46 = k46 at ih46 hk
            refine j_iload_n (pc := 46) C dX0_learn_46 rfl rfl ?_
            refine j_iload_n (pc := 47) C dX0_learn_47 rfl rfl ?_
            refine j_icmp_ge (pc := 48) 88 C dX0_learn_48 (by decide) (fun h12 => ?_) (fun h12 => ?_)
            · replace hk := it_t h12 hk
              refine j_iconst (pc := 88) (v := nI 0) C dX0_learn_88 (by decide) ?_
              obtain rfl := Option.some.inj hk
              exact j_iret (pc := 89) C dX0_learn_89 (Nat.le_of_ble_eq_true rfl) (Nat.le_of_ble_eq_true rfl)
            · replace hk := it_f h12 hk
              refine j_iload_n (pc := 51) C dX0_learn_51 rfl rfl ?_
              refine j_bipush (pc := 52) (v := nI 12) C dX0_learn_52 (by decide) ?_
              refine j_icmp_ge (pc := 54) 78 C dX0_learn_54 (by decide) (fun h13 => ?_) (fun h13 => ?_)
              · replace hk := it_t h13 hk
                refine j_iconst (pc := 78) (v := nI 1) C dX0_learn_78 (by decide) ?_
                refine j_iload_n (pc := 79) C dX0_learn_79 rfl rfl ?_
                refine j_iadd (pc := 80) C dX0_learn_80 ?_
                obtain rfl := Option.some.inj hk
                exact j_iret (pc := 81) C dX0_learn_81 (Nat.le_of_ble_eq_true rfl) (Nat.le_of_ble_eq_true rfl)
              · replace hk := it_f h13 hk
                refine j_aload_n (pc := 57) C dX0_learn_57 rfl rfl ?_
                replace hk := orf_some hk
                obtain ⟨t58, et58, hk⟩ := hk
                refine x_getR (pc := 58) C fd_0_1 (fl1 C q373) (stN_o0 hS).r et58 dX0_learn_58 ?_
                replace hk := ock_some hk
                obtain ⟨h14, hk⟩ := hk
                replace hk := orf_some hk
                obtain ⟨t61, et61, hk⟩ := hk
                refine x_getR (pc := 61) C fd_2_4 (fl3 C q257) h14 et61 dX0_learn_61 ?_
                refine j_iload_n (pc := 64) C dX0_learn_64 rfl rfl ?_
                replace hk := oarw_some hk
                obtain ⟨nh15, h15, hk⟩ := hk
                replace hk := oix_ex hk
                obtain ⟨i65, e65, h16, hk⟩ := hk
                refine j_iald (pc := 65) C h15 h16 e65 dX0_learn_65 ?_
                refine j_aload_n (pc := 66) C dX0_learn_66 rfl rfl ?_
                refine x_getR (pc := 67) C fd_0_6 (fl1 C q378) (stN_o0 hS).r (stN_r0_6 hS) dX0_learn_67 ?_
                refine x_getR (pc := 70) C fd_6_2 (fl3 C q325) (stN_o11 hS).r (stN_r11_2 hS) dX0_learn_70 ?_
                refine j_iload_n (pc := 73) C dX0_learn_73 rfl rfl ?_
                replace hk := oix_ex hk
                obtain ⟨i74, e74, h17, hk⟩ := hk
                refine j_iald (pc := 74) C (stN_a16 hS) h17 e74 dX0_learn_74 ?_
                refine j_icmp_eq (pc := 75) 82 C dX0_learn_75 (by decide) (fun h18 => ?_) (fun h18 => ?_)
                · replace hk := it_t h18 hk
                  refine j_iinc (pc := 82) (nI 1) C dX0_learn_82 rfl (by decide) (Nat.le_of_ble_eq_true rfl) rfl ?_
                  refine j_goto (pc := 85) 46 C dX0_learn_85 (by decide) ?_
                  exact j_mask [true, false, true, true] (ih46 _ _ hk)
                · replace hk := it_f h18 hk
                  refine j_iconst (pc := 78) (v := nI 1) C dX0_learn_78 (by decide) ?_
                  refine j_iload_n (pc := 79) C dX0_learn_79 rfl rfl ?_
                  refine j_iadd (pc := 80) C dX0_learn_80 ?_
                  obtain rfl := Option.some.inj hk
                  exact j_iret (pc := 81) C dX0_learn_81 (Nat.le_of_ble_eq_true rfl) (Nat.le_of_ble_eq_true rfl)
        exact j_mask [true, false, true, true] (L46 _ _ _ _ hk)
    refine j_if_ne (pc := 32) 39 C dX0_learn_32 (by decide) (fun h19 => ?_) (fun h19 => ?_)
    · replace hk := it_f h19 hk
      refine j_iconst (pc := 39) (v := nI 0) C dX0_learn_39 (by decide) ?_
      exact j_mask [true, false, true, false] (Jn40 _ _ _ hk)
    · replace hk := it_t h19 hk
      refine j_iconst (pc := 35) (v := nI 1) C dX0_learn_35 (by decide) ?_
      refine j_goto (pc := 36) 40 C dX0_learn_36 (by decide) ?_
      exact j_mask [true, false, true, false] (Jn40 _ _ _ hk)
def f_X0_tell_J59 (sh : SH) (s0 : Nat) (I : II) : Option (Int32 × II) := bd2 (f_X0_finds sh s0 I) fun r62 I62 => some (r62, I62)
def f_X0_tell_J18 (sh : SH) (x1 : Int32) (s1 : Int32) (I : II) : Option (Int32 × II) := bd2 (f_X0_need sh s1 (nI 4) I) fun u19 I19 => oex u19 (fun _w19 => orf (sh.2.2 0 1) fun t23 => ock sh t23 2 <| orf (sh.2.2 t23 4) fun t26 => orf (sh.2.2 0 1) fun t30 => ock sh t30 2 <| oarw sh t26 100 fun nh8 => oix (I19 t30 5) nh8 fun i37 => orf (sh.2.2 0 1) fun t39 => ock sh t39 2 <| ockw sh t39 2 <| orf (sh.2.2 0 1) fun t52 => ock sh t52 2 <| some (((up2 (up2 I19 t26 i37 x1) t39 5 (((up2 I19 t26 i37 x1) t39 5) + (nI 1))) t52 5), up2 (up2 I19 t26 i37 x1) t39 5 (((up2 I19 t26 i37 x1) t39 5) + (nI 1)))) (fun w19 => ock sh w19 1 <| f_X0_tell_J59 sh w19 I19)
def f_X0_tell (sh : SH) (x1 : Int32) (I : II) : Option (Int32 × II) := orf (sh.2.2 0 1) fun t2 => ock sh t2 2 <| if (nI 20) ≤ (I t2 5) then f_X0_tell_J18 sh x1 (nI 0) I else f_X0_tell_J18 sh x1 (nI 1) I
abbrev rm_X0_tell : Room := { frames := 2, cells := 0, slots := 0, locals := 43 }
theorem mv_X0_tell_ok : callOK yX0_tell 1 := by decide +kernel
theorem mw_X0_tell : MW yX0_tell cX0_tell 3 (some .int) [(0, 58, 59, 8)] 1 := ⟨q1962, q1963, q91, q1964, mv_X0_tell_ok⟩
set_option maxHeartbeats 4000000 in
theorem ct_X0_tell {G : WG} {l : Launch} {sh : SH} (hS : stN sh) {I : II} {x1 : Int32} {Z : (Int32 × II)} (hk : f_X0_tell sh x1 I = some Z) : CT G l yX0_tell (wsW_ yX0_tell cX0_tell 3 (some .int) [(0, 58, 59, 8)]) rm_X0_tell [.ref (wad G 0), .int x1] (sh, I) (.returned (some (.int Z.1))) (sh, Z.2) := by
  refine CT.ofJW "NineDemands" rfl (by decide) (Nat.le_of_ble_eq_true rfl) ?_
  intro p e s m args below meth c C
  unfold f_X0_tell at hk
  refine j_lv (lv' := [some (.ref (wad G 0)), some (.int x1), none]) rfl ?_
  refine j_aload_n (pc := 0) C dX0_tell_0 rfl rfl ?_
  refine j_aload_n (pc := 1) C dX0_tell_1 rfl rfl ?_
  replace hk := orf_some hk
  obtain ⟨t2, et2, hk⟩ := hk
  refine x_getR (pc := 2) C fd_0_1 (fl1 C q373) (stN_o0 hS).r et2 dX0_tell_2 ?_
  replace hk := ock_some hk
  obtain ⟨h1, hk⟩ := hk
  refine x_getI (pc := 5) C fd_2_5 (fl3 C q259) h1 dX0_tell_5 ?_
  refine j_bipush (pc := 8) (v := nI 20) C dX0_tell_8 (by decide) ?_
  have Jn18 : ∀ (x1 : Int32) (s1 : Int32) (I : II), f_X0_tell_J18 sh x1 s1 I = some Z → J G p l e rm_X0_tell s m args below meth c 3 (.returned (some (.int Z.1))) (sh, Z.2) (rm_X0_tell).cells (rm_X0_tell).slots (sh, I) 0 0 18 [some (.ref (wad G 0)), some (.int x1), none] [.int s1, .ref (wad G 0)] := by
    intro x1 s1 I hk
    unfold f_X0_tell_J18 at hk
    refine j_iconst (pc := 18) (v := nI 4) C dX0_tell_18 (by decide) ?_
    have Jn59 : ∀ (s0 : Nat) (I : II), f_X0_tell_J59 sh s0 I = some Z → J G p l e rm_X0_tell s m args below meth c 3 (.returned (some (.int Z.1))) (sh, Z.2) (rm_X0_tell).cells (rm_X0_tell).slots (sh, I) 0 0 59 [some (.ref (wad G 0)), none, none] [.ref (wad G s0)] := by
      intro s0 I hk
      unfold f_X0_tell_J59 at hk
      refine j_astore_n (pc := 59) C dX0_tell_59 rfl (Nat.le_of_ble_eq_true rfl) rfl ?_
      refine j_aload_n (pc := 60) C dX0_tell_60 rfl rfl ?_
      refine j_aload_n (pc := 61) C dX0_tell_61 rfl rfl ?_
      replace hk := bd2_some hk
      obtain ⟨r62, I62, h2, hk⟩ := hk
      refine x_callV (pc := 62) C (ct_X0_finds hS h2) mv_X0_finds (stN_o0 hS).r rfl rfl q433 dX0_tell_62 rfl rfl (Nat.le_of_ble_eq_true rfl) rfl ?_
      obtain rfl := Option.some.inj hk
      exact j_iret (pc := 65) C dX0_tell_65 (Nat.le_of_ble_eq_true rfl) (Nat.le_of_ble_eq_true rfl)
    replace hk := bd2_some hk
    obtain ⟨u19, I19, h3, hk⟩ := hk
    cases u19 with
    | inr w19 =>
      replace hk := oex_r hk
      replace hk := ock_some hk
      obtain ⟨h5, hk⟩ := hk
      refine x_callVC [] [] (0, 58, 59, 8) (pc := 19) C (ct_X0_need hS h3) mv_X0_need (stN_o0 hS).r rfl rfl q416 dX0_tell_19 rfl rfl (Nat.le_of_ble_eq_true rfl) rfl rfl h5 rfl (by decide) (by decide) q146 (fun z hz => by cases hz) ?_
      exact j_mask [true, false, false] (Jn59 _ _ hk)
    | inl _w19 =>
      replace hk := oex_l hk
      refine x_callV (pc := 19) C (ct_X0_need hS h3) mv_X0_need (stN_o0 hS).r rfl rfl q416 dX0_tell_19 rfl rfl (Nat.le_of_ble_eq_true rfl) rfl ?_
      refine j_aload_n (pc := 22) C dX0_tell_22 rfl rfl ?_
      replace hk := orf_some hk
      obtain ⟨t23, et23, hk⟩ := hk
      refine x_getR (pc := 23) C fd_0_1 (fl1 C q373) (stN_o0 hS).r et23 dX0_tell_23 ?_
      replace hk := ock_some hk
      obtain ⟨h6, hk⟩ := hk
      replace hk := orf_some hk
      obtain ⟨t26, et26, hk⟩ := hk
      refine x_getR (pc := 26) C fd_2_4 (fl3 C q257) h6 et26 dX0_tell_26 ?_
      refine j_aload_n (pc := 29) C dX0_tell_29 rfl rfl ?_
      replace hk := orf_some hk
      obtain ⟨t30, et30, hk⟩ := hk
      refine x_getR (pc := 30) C fd_0_1 (fl1 C q373) (stN_o0 hS).r et30 dX0_tell_30 ?_
      replace hk := ock_some hk
      obtain ⟨h7, hk⟩ := hk
      refine x_getI (pc := 33) C fd_2_5 (fl3 C q259) h7 dX0_tell_33 ?_
      refine j_iload_n (pc := 36) C dX0_tell_36 rfl rfl ?_
      replace hk := oarw_some hk
      obtain ⟨nh8, h8, hk⟩ := hk
      replace hk := oix_ex hk
      obtain ⟨i37, e37, h9, hk⟩ := hk
      refine j_iast (pc := 37) C h8 h9 e37 dX0_tell_37 ?_
      refine j_aload_n (pc := 38) C dX0_tell_38 rfl rfl ?_
      replace hk := orf_some hk
      obtain ⟨t39, et39, hk⟩ := hk
      refine x_getR (pc := 39) C fd_0_1 (fl1 C q373) (stN_o0 hS).r et39 dX0_tell_39 ?_
      refine j_dup (pc := 42) C dX0_tell_42 rfl ?_
      replace hk := ock_some hk
      obtain ⟨h10, hk⟩ := hk
      refine x_getI (pc := 43) C fd_2_5 (fl3 C q259) h10 dX0_tell_43 ?_
      refine j_iconst (pc := 46) (v := nI 1) C dX0_tell_46 (by decide) ?_
      refine j_iadd (pc := 47) C dX0_tell_47 ?_
      replace hk := ockw_some hk
      obtain ⟨h11, hk⟩ := hk
      refine x_putI (pc := 48) C fd_2_5 (fl3 C q259) h11 rfl rfl dX0_tell_48 ?_
      refine j_aload_n (pc := 51) C dX0_tell_51 rfl rfl ?_
      replace hk := orf_some hk
      obtain ⟨t52, et52, hk⟩ := hk
      refine x_getR (pc := 52) C fd_0_1 (fl1 C q373) (stN_o0 hS).r et52 dX0_tell_52 ?_
      replace hk := ock_some hk
      obtain ⟨h12, hk⟩ := hk
      refine x_getI (pc := 55) C fd_2_5 (fl3 C q259) h12 dX0_tell_55 ?_
      obtain rfl := Option.some.inj hk
      exact j_iret (pc := 58) C dX0_tell_58 (Nat.le_of_ble_eq_true rfl) (Nat.le_of_ble_eq_true rfl)
  refine j_icmp_ge (pc := 10) 17 C dX0_tell_10 (by decide) (fun h13 => ?_) (fun h13 => ?_)
  · replace hk := it_t h13 hk
    refine j_iconst (pc := 17) (v := nI 0) C dX0_tell_17 (by decide) ?_
    exact j_mask [true, true, false] (Jn18 _ _ _ hk)
  · replace hk := it_f h13 hk
    refine j_iconst (pc := 13) (v := nI 1) C dX0_tell_13 (by decide) ?_
    refine j_goto (pc := 14) 18 C dX0_tell_14 (by decide) ?_
    exact j_mask [true, true, false] (Jn18 _ _ _ hk)
def f_J3_init (sh : SH) (x0 : Nat) (I : II) : Option Unit := some ()
abbrev rm_J3_init : Room := { frames := 1, cells := 0, slots := 0, locals := 30 }
theorem mi_J3_init : MI yJ3_init cJ3_init 1 0 := ⟨q230, q97, q231, rfl, by decide +kernel⟩
set_option maxHeartbeats 4000000 in
theorem ct_J3_init {G : WG} {l : Launch} {sh : SH} {I : II} {x0 : Nat} {Z : Unit} (hk : f_J3_init sh x0 I = some Z) : CT G l yJ3_init (ws_ yJ3_init cJ3_init 1 none) rm_J3_init [.ref (wad G x0)] (sh, I) (.returned none) (sh, I) := by
  refine CT.ofJ "java/util/AbstractCollection" rfl (by decide) (Nat.le_of_ble_eq_true rfl) ?_
  intro p e s m args below meth c C
  unfold f_J3_init at hk
  refine j_lv (lv' := [some (.ref (wad G x0))]) rfl ?_
  refine j_aload_n (pc := 0) C dJ3_init_0 rfl rfl ?_
  refine x_objInit (pc := 1) C q232 q144 q145 dJ3_init_1 (Nat.le_of_ble_eq_true rfl) (Nat.le_of_ble_eq_true rfl) ?_
  obtain rfl := Option.some.inj hk
  exact j_vret (pc := 4) C dJ3_init_4 (Nat.le_of_ble_eq_true rfl) (Nat.le_of_ble_eq_true rfl)
def f_J4_init (sh : SH) (x0 : Nat) (I : II) : Option II := (f_J3_init sh x0 I).bind fun _ => ockw sh x0 3 <| some (up2 I x0 0 (nI 0))
abbrev rm_J4_init : Room := { frames := 2, cells := 0, slots := 0, locals := 50 }
theorem mi_J4_init : MI yJ4_init cJ4_init 1 0 := ⟨q227, q98, q228, rfl, by decide +kernel⟩
set_option maxHeartbeats 4000000 in
theorem ct_J4_init {G : WG} {l : Launch} {sh : SH} {I : II} {x0 : Nat} {Z : II} (hk : f_J4_init sh x0 I = some Z) : CT G l yJ4_init (ws_ yJ4_init cJ4_init 1 none) rm_J4_init [.ref (wad G x0)] (sh, I) (.returned none) (sh, Z) := by
  refine CT.ofJ "java/util/AbstractList" rfl (by decide) (Nat.le_of_ble_eq_true rfl) ?_
  intro p e s m args below meth c C
  unfold f_J4_init at hk
  refine j_lv (lv' := [some (.ref (wad G x0))]) rfl ?_
  refine j_aload_n (pc := 0) C dJ4_init_0 rfl rfl ?_
  replace hk := ob_some hk
  obtain ⟨_u, h1, hk⟩ := hk
  refine x_callI (pc := 1) C (ct_J3_init h1) mi_J3_init q229 dJ4_init_1 rfl rfl (Nat.le_of_ble_eq_true rfl) rfl ?_
  refine j_aload_n (pc := 4) C dJ4_init_4 rfl rfl ?_
  refine j_iconst (pc := 5) (v := nI 0) C dJ4_init_5 (by decide) ?_
  replace hk := ockw_some hk
  obtain ⟨h2, hk⟩ := hk
  refine x_putI (pc := 6) C fd_3_0 (fl1 C q237) h2 rfl rfl dJ4_init_6 ?_
  obtain rfl := Option.some.inj hk
  exact j_vret (pc := 9) C dJ4_init_9 (Nat.le_of_ble_eq_true rfl) (Nat.le_of_ble_eq_true rfl)
def f_J5_init (sh : SH) (x0 : Nat) (I : II) : Option (SH × II) := omn2 sh <| (f_J4_init sh x0 I).bind fun I1 => ockw sh x0 3 <| some (shR sh x0 1 (sh.2.2 exS 0), I1)
abbrev rmf_J5_init : Nat := 3
abbrev rml_J5_init : Nat := 70
theorem mi_J5_init : MI yJ5_init cJ5_init 1 0 := ⟨q224, q99, q225, rfl, by decide +kernel⟩
set_option maxHeartbeats 4000000 in
theorem ct_J5_init {G : WG} {l : Launch} {sh : SH} {I : II} {x0 : Nat} {Z : (SH × II)} (hk : f_J5_init sh x0 I = some Z) : CT G l yJ5_init (ws_ yJ5_init cJ5_init 1 none) (rmA rmf_J5_init rml_J5_init (Z.1.1 - sh.1)) [.ref (wad G x0)] (sh, I) (.returned none) Z := by
  refine CT.ofJ "java/util/ArrayList" rfl (by decide) (Nat.le_of_ble_eq_true rfl) ?_
  intro p e s m args below meth c C
  unfold f_J5_init at hk
  refine j_lv (lv' := [some (.ref (wad G x0))]) rfl ?_
  replace hk := omn2_some hk
  obtain ⟨hz0, hk⟩ := hk
  have hm0 : sh.1 ≤ sh.1 := Nat.le_refl _
  refine j_kn (k' := sh.1 - sh.1) (n' := 200 * (sh.1 - sh.1)) (Nat.sub_self _).symm (rb2 _) ?_
  refine j_aload_n (pc := 0) C dJ5_init_0 rfl rfl ?_
  replace hk := ob_some hk
  obtain ⟨I1, h1, hk⟩ := hk
  refine x_callI (pc := 1) C (ct_J4_init h1) mi_J4_init q226 dJ5_init_1 rfl rfl (Nat.le_of_ble_eq_true rfl) (rmOK.i (Nat.le_of_ble_eq_true rfl) (Nat.le_of_ble_eq_true rfl) (rz1 hm0 hz0) (rz2 hm0 hz0)) ?_
  refine j_aload_n (pc := 4) C dJ5_init_4 rfl rfl ?_
  refine x_getsR (pc := 5) 0 C rfl q233 dJ5_init_5 ?_
  replace hk := ockw_some hk
  obtain ⟨h2, hk⟩ := hk
  refine x_putN (pc := 8) (o := (sh.2.2 exS 0)) C fd_3_1 (fl1 C q235) h2 rfl dJ5_init_8 ?_
  obtain rfl := Option.some.inj hk
  exact j_vret (pc := 11) C dJ5_init_11 (Nat.le_refl _) (Nat.le_refl _)
def f_X2_init_L41 (F : Nat) (x0 : Nat) : Nat → Int32 → SH → II → Option (SH × II)
  | 0, _, _, _ => none
  | n41 + 1, x1, S, I => if (nI 12) ≤ x1 then some (S, I) else ock S x0 2 <| orf (S.2.2 x0 0) fun t48 => oarw S t48 100 fun nh26 => oix x1 nh26 fun i53 => (f_X2_init_L41 F x0 n41) (x1 + (nI 1)) S (up2 I t48 i53 (nI 3))
def f_X2_init (F : Nat) (sh : SH) (x0 : Nat) (I : II) : Option (SH × II) := omn2 sh <| onw sh <| omn2 (newS sh 100 12) <| ockw (newS sh 100 12) x0 2 <| onw (shR (newS sh 100 12) x0 0 (some ((sh).1))) <| omn2 (newS (shR (newS sh 100 12) x0 0 (some ((sh).1))) 3 0) <| bd2 (f_J5_init (newS (shR (newS sh 100 12) x0 0 (some ((sh).1))) 3 0) (((shR (newS sh 100 12) x0 0 (some ((sh).1)))).1) (newI (shR (newS sh 100 12) x0 0 (some ((sh).1))) (newI sh I))) fun S17 I17 => og (sh.1 + 1 + 1 ≤ S17.1) <| omn2 S17 <| ockw S17 x0 2 <| onw (shR S17 x0 1 (some (((shR (newS sh 100 12) x0 0 (some ((sh).1)))).1))) <| omn2 (newS (shR S17 x0 1 (some (((shR (newS sh 100 12) x0 0 (some ((sh).1)))).1))) 101 50) <| ockw (newS (shR S17 x0 1 (some (((shR (newS sh 100 12) x0 0 (some ((sh).1)))).1))) 101 50) x0 2 <| onw (shR (newS (shR S17 x0 1 (some (((shR (newS sh 100 12) x0 0 (some ((sh).1)))).1))) 101 50) x0 2 (some (((shR S17 x0 1 (some (((shR (newS sh 100 12) x0 0 (some ((sh).1)))).1)))).1))) <| omn2 (newS (shR (newS (shR S17 x0 1 (some (((shR (newS sh 100 12) x0 0 (some ((sh).1)))).1))) 101 50) x0 2 (some (((shR S17 x0 1 (some (((shR (newS sh 100 12) x0 0 (some ((sh).1)))).1)))).1))) 100 20) <| ockw (newS (shR (newS (shR S17 x0 1 (some (((shR (newS sh 100 12) x0 0 (some ((sh).1)))).1))) 101 50) x0 2 (some (((shR S17 x0 1 (some (((shR (newS sh 100 12) x0 0 (some ((sh).1)))).1)))).1))) 100 20) x0 2 <| f_X2_init_L41 F x0 F (nI 0) (shR (newS (shR (newS (shR S17 x0 1 (some (((shR (newS sh 100 12) x0 0 (some ((sh).1)))).1))) 101 50) x0 2 (some (((shR S17 x0 1 (some (((shR (newS sh 100 12) x0 0 (some ((sh).1)))).1)))).1))) 100 20) x0 4 (some (((shR (newS (shR S17 x0 1 (some (((shR (newS sh 100 12) x0 0 (some ((sh).1)))).1))) 101 50) x0 2 (some (((shR S17 x0 1 (some (((shR (newS sh 100 12) x0 0 (some ((sh).1)))).1)))).1)))).1))) (newI (shR (newS (shR S17 x0 1 (some (((shR (newS sh 100 12) x0 0 (some ((sh).1)))).1))) 101 50) x0 2 (some (((shR S17 x0 1 (some (((shR (newS sh 100 12) x0 0 (some ((sh).1)))).1)))).1))) (newI (shR S17 x0 1 (some (((shR (newS sh 100 12) x0 0 (some ((sh).1)))).1))) I17))
abbrev rmf_X2_init : Nat := 4
abbrev rml_X2_init : Nat := 90
theorem mi_X2_init : MI yX2_init cX2_init 2 0 := ⟨q218, q96, q219, rfl, by decide +kernel⟩
set_option maxHeartbeats 4000000 in
theorem ct_X2_init {G : WG} {l : Launch} {sh : SH} {I : II} {F : Nat} {x0 : Nat} {Z : (SH × II)} (hk : f_X2_init F sh x0 I = some Z) : CT G l yX2_init (ws_ yX2_init cX2_init 2 none) (rmA rmf_X2_init rml_X2_init (Z.1.1 - sh.1)) [.ref (wad G x0)] (sh, I) (.returned none) Z := by
  refine CT.ofJ "NineDemands$Village" rfl (by decide) (Nat.le_of_ble_eq_true rfl) ?_
  intro p e s m args below meth c C
  unfold f_X2_init at hk
  refine j_lv (lv' := [some (.ref (wad G x0)), none]) rfl ?_
  replace hk := omn2_some hk
  obtain ⟨hz0, hk⟩ := hk
  have hm0 : sh.1 ≤ sh.1 := Nat.le_refl _
  refine j_kn (k' := sh.1 - sh.1) (n' := 200 * (sh.1 - sh.1)) (Nat.sub_self _).symm (rb2 _) ?_
  refine j_aload_n (pc := 0) C dX2_init_0 rfl rfl ?_
  refine x_objInit (pc := 1) C q220 q144 q145 dX2_init_1 (Nat.le_of_ble_eq_true rfl) (Nat.le_of_ble_eq_true rfl) ?_
  refine j_aload_n (pc := 4) C dX2_init_4 rfl rfl ?_
  refine j_bipush (pc := 5) (v := nI 12) C dX2_init_5 (by decide) ?_
  replace hk := onw_some hk
  obtain ⟨h2, hk⟩ := hk
  replace hk := omn2_some hk
  obtain ⟨h3, hk⟩ := hk
  have h3 : sh.1 + 1 ≤ Z.1.1 := h3
  refine x_newaI (pc := 7) (at' := .int) (t := 100) (q := 12) (i := (nI 12)) C (Or.inl ⟨rfl, rfl⟩) q247 (by decide) (by decide) (by decide) h2 (ra1 hm0 h3) (ra2 hm0 h3 (by decide)) dX2_init_7 ?_
  have h4 : sh.1 ≤ sh.1 + 1 := Nat.le_succ_of_le hm0
  refine j_wid (k' := (newS sh 100 12).1 - sh.1) (n' := 200 * ((newS sh 100 12).1 - sh.1)) (rw1 hm0) (rw2 hm0 (by decide)) ?_
  replace hk := ockw_some hk
  obtain ⟨h5, hk⟩ := hk
  refine x_putNF (pc := 9) (o := (some ((sh).1))) C fd_2_0 q248 h5 rfl dX2_init_9 ?_
  refine j_aload_n (pc := 12) C dX2_init_12 rfl rfl ?_
  replace hk := onw_some hk
  obtain ⟨h6, hk⟩ := hk
  replace hk := omn2_some hk
  obtain ⟨h7, hk⟩ := hk
  have h7 : sh.1 + 1 + 1 ≤ Z.1.1 := h7
  refine x_new (pc := 13) (c2 := 3) C rfl (born_3) q221 q222 q99 h6 (ra1 h4 h7) (ra2 h4 h7 (by decide)) dX2_init_13 ?_
  have h8 : sh.1 ≤ sh.1 + 1 + 1 := Nat.le_succ_of_le h4
  refine j_wid (k' := (newS (shR (newS sh 100 12) x0 0 (some ((sh).1))) 3 0).1 - sh.1) (n' := 200 * ((newS (shR (newS sh 100 12) x0 0 (some ((sh).1))) 3 0).1 - sh.1)) (rw1 h4) (rw2 h4 (by decide)) ?_
  refine j_dup (pc := 16) C dX2_init_16 rfl ?_
  replace hk := bd2_some hk
  obtain ⟨S17, I17, h9, hk⟩ := hk
  replace hk := og_some hk
  obtain ⟨h10, hk⟩ := hk
  replace hk := omn2_some hk
  obtain ⟨h11, hk⟩ := hk
  have h12 : sh.1 ≤ S17.1 := Nat.le_trans h8 h10
  refine x_callI (pc := 17) C (ct_J5_init h9) mi_J5_init q223 dX2_init_17 rfl rfl (Nat.le_of_ble_eq_true rfl) (rmOK.i (Nat.le_of_ble_eq_true rfl) (Nat.le_of_ble_eq_true rfl) (rm1 h8 h10 h11) (rm2 h8 h10 h11)) ?_
  refine j_kn (k' := S17.1 - sh.1) (n' := 200 * (S17.1 - sh.1)) (rk1 h8 h10) (rk2 h8 h10) ?_
  replace hk := ockw_some hk
  obtain ⟨h13, hk⟩ := hk
  refine x_putNF (pc := 20) (o := (some (((shR (newS sh 100 12) x0 0 (some ((sh).1)))).1))) C fd_2_1 q250 h13 rfl dX2_init_20 ?_
  refine j_aload_n (pc := 23) C dX2_init_23 rfl rfl ?_
  refine j_bipush (pc := 24) (v := nI 50) C dX2_init_24 (by decide) ?_
  replace hk := onw_some hk
  obtain ⟨h15, hk⟩ := hk
  replace hk := omn2_some hk
  obtain ⟨h16, hk⟩ := hk
  have h16 : S17.1 + 1 ≤ Z.1.1 := h16
  refine x_newaI (pc := 26) (at' := .byte) (t := 101) (q := 50) (i := (nI 50)) C (Or.inr (Or.inl ⟨rfl, rfl⟩)) q273 (by decide) (by decide) (by decide) h15 (ra1 h12 h16) (ra2 h12 h16 (by decide)) dX2_init_26 ?_
  have h17 : sh.1 ≤ S17.1 + 1 := Nat.le_succ_of_le h12
  refine j_wid (k' := (newS (shR S17 x0 1 (some (((shR (newS sh 100 12) x0 0 (some ((sh).1)))).1))) 101 50).1 - sh.1) (n' := 200 * ((newS (shR S17 x0 1 (some (((shR (newS sh 100 12) x0 0 (some ((sh).1)))).1))) 101 50).1 - sh.1)) (rw1 h12) (rw2 h12 (by decide)) ?_
  replace hk := ockw_some hk
  obtain ⟨h18, hk⟩ := hk
  refine x_putNF (pc := 28) (o := (some (((shR S17 x0 1 (some (((shR (newS sh 100 12) x0 0 (some ((sh).1)))).1)))).1))) C fd_2_2 q252 h18 rfl dX2_init_28 ?_
  refine j_aload_n (pc := 31) C dX2_init_31 rfl rfl ?_
  refine j_bipush (pc := 32) (v := nI 20) C dX2_init_32 (by decide) ?_
  replace hk := onw_some hk
  obtain ⟨h20, hk⟩ := hk
  replace hk := omn2_some hk
  obtain ⟨h21, hk⟩ := hk
  have h21 : S17.1 + 1 + 1 ≤ Z.1.1 := h21
  refine x_newaI (pc := 34) (at' := .int) (t := 100) (q := 20) (i := (nI 20)) C (Or.inl ⟨rfl, rfl⟩) q247 (by decide) (by decide) (by decide) h20 (ra1 h17 h21) (ra2 h17 h21 (by decide)) dX2_init_34 ?_
  have h22 : sh.1 ≤ S17.1 + 1 + 1 := Nat.le_succ_of_le h17
  refine j_wid (k' := (newS (shR (newS (shR S17 x0 1 (some (((shR (newS sh 100 12) x0 0 (some ((sh).1)))).1))) 101 50) x0 2 (some (((shR S17 x0 1 (some (((shR (newS sh 100 12) x0 0 (some ((sh).1)))).1)))).1))) 100 20).1 - sh.1) (n' := 200 * ((newS (shR (newS (shR S17 x0 1 (some (((shR (newS sh 100 12) x0 0 (some ((sh).1)))).1))) 101 50) x0 2 (some (((shR S17 x0 1 (some (((shR (newS sh 100 12) x0 0 (some ((sh).1)))).1)))).1))) 100 20).1 - sh.1)) (rw1 h17) (rw2 h17 (by decide)) ?_
  replace hk := ockw_some hk
  obtain ⟨h23, hk⟩ := hk
  refine x_putNF (pc := 36) (o := (some (((shR (newS (shR S17 x0 1 (some (((shR (newS sh 100 12) x0 0 (some ((sh).1)))).1))) 101 50) x0 2 (some (((shR S17 x0 1 (some (((shR (newS sh 100 12) x0 0 (some ((sh).1)))).1)))).1)))).1))) C fd_2_4 q256 h23 rfl dX2_init_36 ?_
  refine j_iconst (pc := 39) (v := nI 0) C dX2_init_39 (by decide) ?_
  refine j_istore_n (pc := 40) C dX2_init_40 rfl (Nat.le_of_ble_eq_true rfl) rfl ?_
  have L41 : ∀ (x0 : Nat) (n41 : Nat) (x1 : Int32) (S : SH) (I : II), sh.1 ≤ S.1 → S.1 ≤ Z.1.1 → f_X2_init_L41 F x0 n41 x1 S I = some Z → J G p l e (rmA rmf_X2_init rml_X2_init (Z.1.1 - sh.1)) s m args below meth c 2 (.returned none) Z ((rmA rmf_X2_init rml_X2_init (Z.1.1 - sh.1))).cells ((rmA rmf_X2_init rml_X2_init (Z.1.1 - sh.1))).slots (S, I) ((S).1 - sh.1) (200 * ((S).1 - sh.1)) 41 [some (.ref (wad G x0)), some (.int x1)] [] := by
    intro x0 n41
    induction n41 with
    | zero => intro x1 S I hm hz hk; rw [f_X2_init_L41] at hk; cases hk
    | succ n41 ih41 =>
      intro x1 S I hm hz hk
      rw [f_X2_init_L41] at hk
      generalize f_X2_init_L41 F x0 n41 = k41 at ih41 hk
      refine j_iload_n (pc := 41) C dX2_init_41 rfl rfl ?_
      refine j_bipush (pc := 42) (v := nI 12) C dX2_init_42 (by decide) ?_
      refine j_icmp_ge (pc := 44) 60 C dX2_init_44 (by decide) (fun h24 => ?_) (fun h24 => ?_)
      · replace hk := it_t h24 hk
        obtain rfl := Option.some.inj hk
        exact j_vret (pc := 60) C dX2_init_60 (Nat.le_refl _) (Nat.le_refl _)
      · replace hk := it_f h24 hk
        refine j_aload_n (pc := 47) C dX2_init_47 rfl rfl ?_
        replace hk := ock_some hk
        obtain ⟨h25, hk⟩ := hk
        replace hk := orf_some hk
        obtain ⟨t48, et48, hk⟩ := hk
        refine x_getR (pc := 48) C fd_2_0 (fl1 C q248) h25 et48 dX2_init_48 ?_
        refine j_iload_n (pc := 51) C dX2_init_51 rfl rfl ?_
        refine j_iconst (pc := 52) (v := nI 3) C dX2_init_52 (by decide) ?_
        replace hk := oarw_some hk
        obtain ⟨nh26, h26, hk⟩ := hk
        replace hk := oix_ex hk
        obtain ⟨i53, e53, h27, hk⟩ := hk
        refine j_iast (pc := 53) C h26 h27 e53 dX2_init_53 ?_
        refine j_iinc (pc := 54) (nI 1) C dX2_init_54 rfl (by decide) (Nat.le_of_ble_eq_true rfl) rfl ?_
        refine j_goto (pc := 57) 41 C dX2_init_57 (by decide) ?_
        exact j_mask [true, true] (ih41 _ _ _ hm hz hk)
  exact j_mask [true, true] (L41 _ _ _ _ _ h22 h21 hk)
def f_X10_init (sh : SH) (x0 : Nat) (x1 : Nat) (x2 : Int32) (x3 : Int32) (I : II) : Option (SH × II) := omn2 sh <| ockwD sh x0 <| ockwD (shR sh x0 0 (some x1)) x0 <| some (shR sh x0 0 (some x1), up2 (up2 I x0 1 x2) x0 2 x3)
abbrev rmf_X10_init : Nat := 1
abbrev rml_X10_init : Nat := 30
theorem mi_X10_init : MI yX10_init cX10_init 4 3 := ⟨q527, q108, q528, rfl, by decide +kernel⟩
set_option maxHeartbeats 4000000 in
theorem ct_X10_init {G : WG} {l : Launch} {sh : SH} {I : II} {x0 : Nat} {x1 : Nat} {x2 : Int32} {x3 : Int32} {Z : (SH × II)} (hk : f_X10_init sh x0 x1 x2 x3 I = some Z) : CT G l yX10_init (ws_ yX10_init cX10_init 4 none) (rmA rmf_X10_init rml_X10_init (Z.1.1 - sh.1)) [.ref (wad G x0), .ref (wad G x1), .int x2, .int x3] (sh, I) (.returned none) Z := by
  refine CT.ofJ "NineDemands$Demand" rfl (by decide) (Nat.le_of_ble_eq_true rfl) ?_
  intro p e s m args below meth c C
  unfold f_X10_init at hk
  refine j_lv (lv' := [some (.ref (wad G x0)), some (.ref (wad G x1)), some (.int x2), some (.int x3)]) rfl ?_
  replace hk := omn2_some hk
  obtain ⟨hz0, hk⟩ := hk
  have hm0 : sh.1 ≤ sh.1 := Nat.le_refl _
  refine j_kn (k' := sh.1 - sh.1) (n' := 200 * (sh.1 - sh.1)) (Nat.sub_self _).symm (rb2 _) ?_
  refine j_aload_n (pc := 0) C dX10_init_0 rfl rfl ?_
  refine x_objInit (pc := 1) C q529 q144 q145 dX10_init_1 (Nat.le_of_ble_eq_true rfl) (Nat.le_of_ble_eq_true rfl) ?_
  refine j_aload_n (pc := 4) C dX10_init_4 rfl rfl ?_
  refine j_aload_n (pc := 5) C dX10_init_5 rfl rfl ?_
  replace hk := ockwD_some hk
  obtain ⟨ch1, ch1h, h1, hk⟩ := hk
  refine x_putNF (pc := 6) (o := (some x1)) C (fdD_0 ch1h) q530 h1 rfl dX10_init_6 ?_
  refine j_aload_n (pc := 9) C dX10_init_9 rfl rfl ?_
  refine j_iload_n (pc := 10) C dX10_init_10 rfl rfl ?_
  replace hk := ockwD_some hk
  obtain ⟨ch2, ch2h, h2, hk⟩ := hk
  refine x_putIF (pc := 11) C (fdD_1 ch2h) q541 h2 rfl rfl dX10_init_11 ?_
  refine j_aload_n (pc := 14) C dX10_init_14 rfl rfl ?_
  refine j_iload_n (pc := 15) C dX10_init_15 rfl rfl ?_
  refine x_putI (pc := 16) C (fdD_2 ch2h) (fl1 C q553) h2 rfl rfl dX10_init_16 ?_
  obtain rfl := Option.some.inj hk
  exact j_vret (pc := 19) C dX10_init_19 (Nat.le_refl _) (Nat.le_refl _)
def f_X10_another (sh : SH) (x0 : Nat) (I : II) : Option (Nat × SH × II) := omn3 sh <| onw sh <| omn3 (newS sh 11 0) <| ockD (newS sh 11 0) x0 <| orf ((newS sh 11 0).2.2 x0 0) fun t5 => bd2 (f_X10_init (newS sh 11 0) ((sh).1) t5 ((newI sh I) x0 1) ((newI sh I) x0 2) (newI sh I)) fun S16 I16 => og (sh.1 + 1 ≤ S16.1) <| omn3 S16 <| some (((sh).1), S16, I16)
abbrev rmf_X10_another : Nat := 2
abbrev rml_X10_another : Nat := 53
theorem mv_X10_another_ok : callOK yX10_another 0 := by decide +kernel
theorem mv_X10_another : MV yX10_another cX10_another 1 (some (.object "NineDemands$Demand")) 0 := ⟨q1925, q1926, q108, q1953, mv_X10_another_ok⟩
set_option maxHeartbeats 4000000 in
theorem ct_X10_another {G : WG} {l : Launch} {sh : SH} {I : II} {x0 : Nat} {Z : (Nat × SH × II)} (hk : f_X10_another sh x0 I = some Z) : CT G l yX10_another (ws_ yX10_another cX10_another 1 (some (.object "NineDemands$Demand"))) (rmA rmf_X10_another rml_X10_another (Z.2.1.1 - sh.1)) [.ref (wad G x0)] (sh, I) (.returned (some (.ref (wad G Z.1)))) Z.2 := by
  refine CT.ofJ "NineDemands$Demand" rfl (by decide) (Nat.le_of_ble_eq_true rfl) ?_
  intro p e s m args below meth c C
  unfold f_X10_another at hk
  refine j_lv (lv' := [some (.ref (wad G x0))]) rfl ?_
  replace hk := omn3_some hk
  obtain ⟨hz0, hk⟩ := hk
  have hm0 : sh.1 ≤ sh.1 := Nat.le_refl _
  refine j_kn (k' := sh.1 - sh.1) (n' := 200 * (sh.1 - sh.1)) (Nat.sub_self _).symm (rb2 _) ?_
  replace hk := onw_some hk
  obtain ⟨h1, hk⟩ := hk
  replace hk := omn3_some hk
  obtain ⟨h2, hk⟩ := hk
  have h2 : sh.1 + 1 ≤ Z.2.1.1 := h2
  refine x_new (pc := 0) (c2 := 11) C rfl (born_11) q1954 q641 q108 h1 (ra1 hm0 h2) (ra2 hm0 h2 (by decide)) dX10_another_0 ?_
  have h3 : sh.1 ≤ sh.1 + 1 := Nat.le_succ_of_le hm0
  refine j_wid (k' := (newS sh 11 0).1 - sh.1) (n' := 200 * ((newS sh 11 0).1 - sh.1)) (rw1 hm0) (rw2 hm0 (by decide)) ?_
  refine j_dup (pc := 3) C dX10_another_3 rfl ?_
  refine j_aload_n (pc := 4) C dX10_another_4 rfl rfl ?_
  replace hk := ockD_some hk
  obtain ⟨ch4, ch4h, h4, hk⟩ := hk
  replace hk := orf_some hk
  obtain ⟨t5, et5, hk⟩ := hk
  refine x_getR (pc := 5) C (fdD_0 ch4h) (fl1 C q530) h4 et5 dX10_another_5 ?_
  refine j_aload_n (pc := 8) C dX10_another_8 rfl rfl ?_
  refine x_getI (pc := 9) C (fdD_1 ch4h) (fl1 C q541) h4 dX10_another_9 ?_
  refine j_aload_n (pc := 12) C dX10_another_12 rfl rfl ?_
  refine x_getI (pc := 13) C (fdD_2 ch4h) (fl1 C q553) h4 dX10_another_13 ?_
  replace hk := bd2_some hk
  obtain ⟨S16, I16, h5, hk⟩ := hk
  replace hk := og_some hk
  obtain ⟨h6, hk⟩ := hk
  replace hk := omn3_some hk
  obtain ⟨h7, hk⟩ := hk
  have h8 : sh.1 ≤ S16.1 := Nat.le_trans h3 h6
  refine x_callI (pc := 16) C (ct_X10_init h5) mi_X10_init q1955 dX10_another_16 rfl rfl (Nat.le_of_ble_eq_true rfl) (rmOK.i (Nat.le_of_ble_eq_true rfl) (Nat.le_of_ble_eq_true rfl) (rm1 h3 h6 h7) (rm2 h3 h6 h7)) ?_
  refine j_kn (k' := S16.1 - sh.1) (n' := 200 * (S16.1 - sh.1)) (rk1 h3 h6) (rk2 h3 h6) ?_
  obtain rfl := Option.some.inj hk
  exact x_aret (pc := 19) C dX10_another_19 (Nat.le_refl _) (Nat.le_refl _) rfl
def f_X11_init (sh : SH) (x0 : Nat) (x1 : Nat) (x2 : Int32) (x3 : Int32) (I : II) : Option (SH × II) := omn2 sh <| bd2 (f_X10_init sh x0 x1 x2 x3 I) fun S4 I4 => og (sh.1 ≤ S4.1) <| omn2 S4 <| some (S4, I4)
abbrev rmf_X11_init : Nat := 2
abbrev rml_X11_init : Nat := 53
theorem mi_X11_init : MI yX11_init cX11_init 4 3 := ⟨q524, q109, q525, rfl, by decide +kernel⟩
set_option maxHeartbeats 4000000 in
theorem ct_X11_init {G : WG} {l : Launch} {sh : SH} {I : II} {x0 : Nat} {x1 : Nat} {x2 : Int32} {x3 : Int32} {Z : (SH × II)} (hk : f_X11_init sh x0 x1 x2 x3 I = some Z) : CT G l yX11_init (ws_ yX11_init cX11_init 4 none) (rmA rmf_X11_init rml_X11_init (Z.1.1 - sh.1)) [.ref (wad G x0), .ref (wad G x1), .int x2, .int x3] (sh, I) (.returned none) Z := by
  refine CT.ofJ "NineDemands$Moved" rfl (by decide) (Nat.le_of_ble_eq_true rfl) ?_
  intro p e s m args below meth c C
  unfold f_X11_init at hk
  refine j_lv (lv' := [some (.ref (wad G x0)), some (.ref (wad G x1)), some (.int x2), some (.int x3)]) rfl ?_
  replace hk := omn2_some hk
  obtain ⟨hz0, hk⟩ := hk
  have hm0 : sh.1 ≤ sh.1 := Nat.le_refl _
  refine j_kn (k' := sh.1 - sh.1) (n' := 200 * (sh.1 - sh.1)) (Nat.sub_self _).symm (rb2 _) ?_
  refine j_aload_n (pc := 0) C dX11_init_0 rfl rfl ?_
  refine j_aload_n (pc := 1) C dX11_init_1 rfl rfl ?_
  refine j_iload_n (pc := 2) C dX11_init_2 rfl rfl ?_
  refine j_iload_n (pc := 3) C dX11_init_3 rfl rfl ?_
  replace hk := bd2_some hk
  obtain ⟨S4, I4, h1, hk⟩ := hk
  replace hk := og_some hk
  obtain ⟨h2, hk⟩ := hk
  replace hk := omn2_some hk
  obtain ⟨h3, hk⟩ := hk
  have h4 : sh.1 ≤ S4.1 := Nat.le_trans hm0 h2
  refine x_callI (pc := 4) C (ct_X10_init h1) mi_X10_init q526 dX11_init_4 rfl rfl (Nat.le_of_ble_eq_true rfl) (rmOK.i (Nat.le_of_ble_eq_true rfl) (Nat.le_of_ble_eq_true rfl) (rm1 hm0 h2 h3) (rm2 hm0 h2 h3)) ?_
  refine j_kn (k' := S4.1 - sh.1) (n' := 200 * (S4.1 - sh.1)) (rk1 hm0 h2) (rk2 hm0 h2) ?_
  obtain rfl := Option.some.inj hk
  exact j_vret (pc := 7) C dX11_init_7 (Nat.le_refl _) (Nat.le_refl _)
def f_X11_another (sh : SH) (x0 : Nat) (I : II) : Option (Nat × SH × II) := omn3 sh <| onw sh <| omn3 (newS sh 12 0) <| ockD (newS sh 12 0) x0 <| orf ((newS sh 12 0).2.2 x0 0) fun t5 => bd2 (f_X11_init (newS sh 12 0) ((sh).1) t5 ((newI sh I) x0 1) ((newI sh I) x0 2) (newI sh I)) fun S16 I16 => og (sh.1 + 1 ≤ S16.1) <| omn3 S16 <| some (((sh).1), S16, I16)
abbrev rmf_X11_another : Nat := 3
abbrev rml_X11_another : Nat := 76
theorem mv_X11_another_ok : callOK yX11_another 0 := by decide +kernel
set_option maxHeartbeats 4000000 in
theorem ct_X11_another {G : WG} {l : Launch} {sh : SH} {I : II} {x0 : Nat} {Z : (Nat × SH × II)} (hk : f_X11_another sh x0 I = some Z) : CT G l yX11_another (ws_ yX11_another cX11_another 1 (some (.object "NineDemands$Demand"))) (rmA rmf_X11_another rml_X11_another (Z.2.1.1 - sh.1)) [.ref (wad G x0)] (sh, I) (.returned (some (.ref (wad G Z.1)))) Z.2 := by
  refine CT.ofJ "NineDemands$Moved" rfl (by decide) (Nat.le_of_ble_eq_true rfl) ?_
  intro p e s m args below meth c C
  unfold f_X11_another at hk
  refine j_lv (lv' := [some (.ref (wad G x0))]) rfl ?_
  replace hk := omn3_some hk
  obtain ⟨hz0, hk⟩ := hk
  have hm0 : sh.1 ≤ sh.1 := Nat.le_refl _
  refine j_kn (k' := sh.1 - sh.1) (n' := 200 * (sh.1 - sh.1)) (Nat.sub_self _).symm (rb2 _) ?_
  replace hk := onw_some hk
  obtain ⟨h1, hk⟩ := hk
  replace hk := omn3_some hk
  obtain ⟨h2, hk⟩ := hk
  have h2 : sh.1 + 1 ≤ Z.2.1.1 := h2
  refine x_new (pc := 0) (c2 := 12) C rfl (born_12) q1941 q522 q109 h1 (ra1 hm0 h2) (ra2 hm0 h2 (by decide)) dX11_another_0 ?_
  have h3 : sh.1 ≤ sh.1 + 1 := Nat.le_succ_of_le hm0
  refine j_wid (k' := (newS sh 12 0).1 - sh.1) (n' := 200 * ((newS sh 12 0).1 - sh.1)) (rw1 hm0) (rw2 hm0 (by decide)) ?_
  refine j_dup (pc := 3) C dX11_another_3 rfl ?_
  refine j_aload_n (pc := 4) C dX11_another_4 rfl rfl ?_
  replace hk := ockD_some hk
  obtain ⟨ch4, ch4h, h4, hk⟩ := hk
  replace hk := orf_some hk
  obtain ⟨t5, et5, hk⟩ := hk
  refine x_getR (pc := 5) C (fdD_0 ch4h) (fl2 C q539 q540) h4 et5 dX11_another_5 ?_
  refine j_aload_n (pc := 8) C dX11_another_8 rfl rfl ?_
  refine x_getI (pc := 9) C (fdD_1 ch4h) (fl2 C q551 q552) h4 dX11_another_9 ?_
  refine j_aload_n (pc := 12) C dX11_another_12 rfl rfl ?_
  refine x_getI (pc := 13) C (fdD_2 ch4h) (fl2 C q563 q564) h4 dX11_another_13 ?_
  replace hk := bd2_some hk
  obtain ⟨S16, I16, h5, hk⟩ := hk
  replace hk := og_some hk
  obtain ⟨h6, hk⟩ := hk
  replace hk := omn3_some hk
  obtain ⟨h7, hk⟩ := hk
  have h8 : sh.1 ≤ S16.1 := Nat.le_trans h3 h6
  refine x_callI (pc := 16) C (ct_X11_init h5) mi_X11_init q1942 dX11_another_16 rfl rfl (Nat.le_of_ble_eq_true rfl) (rmOK.i (Nat.le_of_ble_eq_true rfl) (Nat.le_of_ble_eq_true rfl) (rm1 h3 h6 h7) (rm2 h3 h6 h7)) ?_
  refine j_kn (k' := S16.1 - sh.1) (n' := 200 * (S16.1 - sh.1)) (rk1 h3 h6) (rk2 h3 h6) ?_
  obtain rfl := Option.some.inj hk
  exact x_aret (pc := 19) C dX11_another_19 (Nat.le_refl _) (Nat.le_refl _) rfl
def f_X12_init (sh : SH) (x0 : Nat) (x1 : Nat) (x2 : Int32) (x3 : Int32) (I : II) : Option (SH × II) := omn2 sh <| bd2 (f_X11_init sh x0 x1 x2 x3 I) fun S4 I4 => og (sh.1 ≤ S4.1) <| omn2 S4 <| some (S4, I4)
abbrev rmf_X12_init : Nat := 3
abbrev rml_X12_init : Nat := 76
theorem mi_X12_init : MI yX12_init cX12_init 4 3 := ⟨q595, q110, q596, rfl, by decide +kernel⟩
set_option maxHeartbeats 4000000 in
theorem ct_X12_init {G : WG} {l : Launch} {sh : SH} {I : II} {x0 : Nat} {x1 : Nat} {x2 : Int32} {x3 : Int32} {Z : (SH × II)} (hk : f_X12_init sh x0 x1 x2 x3 I = some Z) : CT G l yX12_init (ws_ yX12_init cX12_init 4 none) (rmA rmf_X12_init rml_X12_init (Z.1.1 - sh.1)) [.ref (wad G x0), .ref (wad G x1), .int x2, .int x3] (sh, I) (.returned none) Z := by
  refine CT.ofJ "NineDemands$Alike" rfl (by decide) (Nat.le_of_ble_eq_true rfl) ?_
  intro p e s m args below meth c C
  unfold f_X12_init at hk
  refine j_lv (lv' := [some (.ref (wad G x0)), some (.ref (wad G x1)), some (.int x2), some (.int x3)]) rfl ?_
  replace hk := omn2_some hk
  obtain ⟨hz0, hk⟩ := hk
  have hm0 : sh.1 ≤ sh.1 := Nat.le_refl _
  refine j_kn (k' := sh.1 - sh.1) (n' := 200 * (sh.1 - sh.1)) (Nat.sub_self _).symm (rb2 _) ?_
  refine j_aload_n (pc := 0) C dX12_init_0 rfl rfl ?_
  refine j_aload_n (pc := 1) C dX12_init_1 rfl rfl ?_
  refine j_iload_n (pc := 2) C dX12_init_2 rfl rfl ?_
  refine j_iload_n (pc := 3) C dX12_init_3 rfl rfl ?_
  replace hk := bd2_some hk
  obtain ⟨S4, I4, h1, hk⟩ := hk
  replace hk := og_some hk
  obtain ⟨h2, hk⟩ := hk
  replace hk := omn2_some hk
  obtain ⟨h3, hk⟩ := hk
  have h4 : sh.1 ≤ S4.1 := Nat.le_trans hm0 h2
  refine x_callI (pc := 4) C (ct_X11_init h1) mi_X11_init q597 dX12_init_4 rfl rfl (Nat.le_of_ble_eq_true rfl) (rmOK.i (Nat.le_of_ble_eq_true rfl) (Nat.le_of_ble_eq_true rfl) (rm1 hm0 h2 h3) (rm2 hm0 h2 h3)) ?_
  refine j_kn (k' := S4.1 - sh.1) (n' := 200 * (S4.1 - sh.1)) (rk1 hm0 h2) (rk2 hm0 h2) ?_
  obtain rfl := Option.some.inj hk
  exact j_vret (pc := 7) C dX12_init_7 (Nat.le_refl _) (Nat.le_refl _)
def f_X12_another (sh : SH) (x0 : Nat) (I : II) : Option (Nat × SH × II) := omn3 sh <| onw sh <| omn3 (newS sh 13 0) <| ockD (newS sh 13 0) x0 <| orf ((newS sh 13 0).2.2 x0 0) fun t5 => bd2 (f_X12_init (newS sh 13 0) ((sh).1) t5 ((newI sh I) x0 1) ((newI sh I) x0 2) (newI sh I)) fun S16 I16 => og (sh.1 + 1 ≤ S16.1) <| omn3 S16 <| some (((sh).1), S16, I16)
abbrev rmf_X12_another : Nat := 4
abbrev rml_X12_another : Nat := 99
theorem mv_X12_another_ok : callOK yX12_another 0 := by decide +kernel
set_option maxHeartbeats 4000000 in
theorem ct_X12_another {G : WG} {l : Launch} {sh : SH} {I : II} {x0 : Nat} {Z : (Nat × SH × II)} (hk : f_X12_another sh x0 I = some Z) : CT G l yX12_another (ws_ yX12_another cX12_another 1 (some (.object "NineDemands$Demand"))) (rmA rmf_X12_another rml_X12_another (Z.2.1.1 - sh.1)) [.ref (wad G x0)] (sh, I) (.returned (some (.ref (wad G Z.1)))) Z.2 := by
  refine CT.ofJ "NineDemands$Alike" rfl (by decide) (Nat.le_of_ble_eq_true rfl) ?_
  intro p e s m args below meth c C
  unfold f_X12_another at hk
  refine j_lv (lv' := [some (.ref (wad G x0))]) rfl ?_
  replace hk := omn3_some hk
  obtain ⟨hz0, hk⟩ := hk
  have hm0 : sh.1 ≤ sh.1 := Nat.le_refl _
  refine j_kn (k' := sh.1 - sh.1) (n' := 200 * (sh.1 - sh.1)) (Nat.sub_self _).symm (rb2 _) ?_
  replace hk := onw_some hk
  obtain ⟨h1, hk⟩ := hk
  replace hk := omn3_some hk
  obtain ⟨h2, hk⟩ := hk
  have h2 : sh.1 + 1 ≤ Z.2.1.1 := h2
  refine x_new (pc := 0) (c2 := 13) C rfl (born_13) q1931 q593 q110 h1 (ra1 hm0 h2) (ra2 hm0 h2 (by decide)) dX12_another_0 ?_
  have h3 : sh.1 ≤ sh.1 + 1 := Nat.le_succ_of_le hm0
  refine j_wid (k' := (newS sh 13 0).1 - sh.1) (n' := 200 * ((newS sh 13 0).1 - sh.1)) (rw1 hm0) (rw2 hm0 (by decide)) ?_
  refine j_dup (pc := 3) C dX12_another_3 rfl ?_
  refine j_aload_n (pc := 4) C dX12_another_4 rfl rfl ?_
  replace hk := ockD_some hk
  obtain ⟨ch4, ch4h, h4, hk⟩ := hk
  replace hk := orf_some hk
  obtain ⟨t5, et5, hk⟩ := hk
  refine x_getR (pc := 5) C (fdD_0 ch4h) (fl2 C q531 q532) h4 et5 dX12_another_5 ?_
  refine j_aload_n (pc := 8) C dX12_another_8 rfl rfl ?_
  refine x_getI (pc := 9) C (fdD_1 ch4h) (fl2 C q542 q543) h4 dX12_another_9 ?_
  refine j_aload_n (pc := 12) C dX12_another_12 rfl rfl ?_
  refine x_getI (pc := 13) C (fdD_2 ch4h) (fl2 C q554 q555) h4 dX12_another_13 ?_
  replace hk := bd2_some hk
  obtain ⟨S16, I16, h5, hk⟩ := hk
  replace hk := og_some hk
  obtain ⟨h6, hk⟩ := hk
  replace hk := omn3_some hk
  obtain ⟨h7, hk⟩ := hk
  have h8 : sh.1 ≤ S16.1 := Nat.le_trans h3 h6
  refine x_callI (pc := 16) C (ct_X12_init h5) mi_X12_init q1932 dX12_another_16 rfl rfl (Nat.le_of_ble_eq_true rfl) (rmOK.i (Nat.le_of_ble_eq_true rfl) (Nat.le_of_ble_eq_true rfl) (rm1 h3 h6 h7) (rm2 h3 h6 h7)) ?_
  refine j_kn (k' := S16.1 - sh.1) (n' := 200 * (S16.1 - sh.1)) (rk1 h3 h6) (rk2 h3 h6) ?_
  obtain rfl := Option.some.inj hk
  exact x_aret (pc := 19) C dX12_another_19 (Nat.le_refl _) (Nat.le_refl _) rfl
def f_X13_init (sh : SH) (x0 : Nat) (x1 : Nat) (x2 : Int32) (x3 : Int32) (I : II) : Option (SH × II) := omn2 sh <| bd2 (f_X11_init sh x0 x1 x2 x3 I) fun S4 I4 => og (sh.1 ≤ S4.1) <| omn2 S4 <| some (S4, I4)
abbrev rmf_X13_init : Nat := 3
abbrev rml_X13_init : Nat := 76
theorem mi_X13_init : MI yX13_init cX13_init 4 3 := ⟨q607, q111, q608, rfl, by decide +kernel⟩
set_option maxHeartbeats 4000000 in
theorem ct_X13_init {G : WG} {l : Launch} {sh : SH} {I : II} {x0 : Nat} {x1 : Nat} {x2 : Int32} {x3 : Int32} {Z : (SH × II)} (hk : f_X13_init sh x0 x1 x2 x3 I = some Z) : CT G l yX13_init (ws_ yX13_init cX13_init 4 none) (rmA rmf_X13_init rml_X13_init (Z.1.1 - sh.1)) [.ref (wad G x0), .ref (wad G x1), .int x2, .int x3] (sh, I) (.returned none) Z := by
  refine CT.ofJ "NineDemands$Turns" rfl (by decide) (Nat.le_of_ble_eq_true rfl) ?_
  intro p e s m args below meth c C
  unfold f_X13_init at hk
  refine j_lv (lv' := [some (.ref (wad G x0)), some (.ref (wad G x1)), some (.int x2), some (.int x3)]) rfl ?_
  replace hk := omn2_some hk
  obtain ⟨hz0, hk⟩ := hk
  have hm0 : sh.1 ≤ sh.1 := Nat.le_refl _
  refine j_kn (k' := sh.1 - sh.1) (n' := 200 * (sh.1 - sh.1)) (Nat.sub_self _).symm (rb2 _) ?_
  refine j_aload_n (pc := 0) C dX13_init_0 rfl rfl ?_
  refine j_aload_n (pc := 1) C dX13_init_1 rfl rfl ?_
  refine j_iload_n (pc := 2) C dX13_init_2 rfl rfl ?_
  refine j_iload_n (pc := 3) C dX13_init_3 rfl rfl ?_
  replace hk := bd2_some hk
  obtain ⟨S4, I4, h1, hk⟩ := hk
  replace hk := og_some hk
  obtain ⟨h2, hk⟩ := hk
  replace hk := omn2_some hk
  obtain ⟨h3, hk⟩ := hk
  have h4 : sh.1 ≤ S4.1 := Nat.le_trans hm0 h2
  refine x_callI (pc := 4) C (ct_X11_init h1) mi_X11_init q609 dX13_init_4 rfl rfl (Nat.le_of_ble_eq_true rfl) (rmOK.i (Nat.le_of_ble_eq_true rfl) (Nat.le_of_ble_eq_true rfl) (rm1 hm0 h2 h3) (rm2 hm0 h2 h3)) ?_
  refine j_kn (k' := S4.1 - sh.1) (n' := 200 * (S4.1 - sh.1)) (rk1 hm0 h2) (rk2 hm0 h2) ?_
  obtain rfl := Option.some.inj hk
  exact j_vret (pc := 7) C dX13_init_7 (Nat.le_refl _) (Nat.le_refl _)
def f_X13_another (sh : SH) (x0 : Nat) (I : II) : Option (Nat × SH × II) := omn3 sh <| onw sh <| omn3 (newS sh 14 0) <| ockD (newS sh 14 0) x0 <| orf ((newS sh 14 0).2.2 x0 0) fun t5 => bd2 (f_X13_init (newS sh 14 0) ((sh).1) t5 ((newI sh I) x0 1) ((newI sh I) x0 2) (newI sh I)) fun S16 I16 => og (sh.1 + 1 ≤ S16.1) <| omn3 S16 <| some (((sh).1), S16, I16)
abbrev rmf_X13_another : Nat := 4
abbrev rml_X13_another : Nat := 99
theorem mv_X13_another_ok : callOK yX13_another 0 := by decide +kernel
set_option maxHeartbeats 4000000 in
theorem ct_X13_another {G : WG} {l : Launch} {sh : SH} {I : II} {x0 : Nat} {Z : (Nat × SH × II)} (hk : f_X13_another sh x0 I = some Z) : CT G l yX13_another (ws_ yX13_another cX13_another 1 (some (.object "NineDemands$Demand"))) (rmA rmf_X13_another rml_X13_another (Z.2.1.1 - sh.1)) [.ref (wad G x0)] (sh, I) (.returned (some (.ref (wad G Z.1)))) Z.2 := by
  refine CT.ofJ "NineDemands$Turns" rfl (by decide) (Nat.le_of_ble_eq_true rfl) ?_
  intro p e s m args below meth c C
  unfold f_X13_another at hk
  refine j_lv (lv' := [some (.ref (wad G x0))]) rfl ?_
  replace hk := omn3_some hk
  obtain ⟨hz0, hk⟩ := hk
  have hm0 : sh.1 ≤ sh.1 := Nat.le_refl _
  refine j_kn (k' := sh.1 - sh.1) (n' := 200 * (sh.1 - sh.1)) (Nat.sub_self _).symm (rb2 _) ?_
  replace hk := onw_some hk
  obtain ⟨h1, hk⟩ := hk
  replace hk := omn3_some hk
  obtain ⟨h2, hk⟩ := hk
  have h2 : sh.1 + 1 ≤ Z.2.1.1 := h2
  refine x_new (pc := 0) (c2 := 14) C rfl (born_14) q1951 q605 q111 h1 (ra1 hm0 h2) (ra2 hm0 h2 (by decide)) dX13_another_0 ?_
  have h3 : sh.1 ≤ sh.1 + 1 := Nat.le_succ_of_le hm0
  refine j_wid (k' := (newS sh 14 0).1 - sh.1) (n' := 200 * ((newS sh 14 0).1 - sh.1)) (rw1 hm0) (rw2 hm0 (by decide)) ?_
  refine j_dup (pc := 3) C dX13_another_3 rfl ?_
  refine j_aload_n (pc := 4) C dX13_another_4 rfl rfl ?_
  replace hk := ockD_some hk
  obtain ⟨ch4, ch4h, h4, hk⟩ := hk
  replace hk := orf_some hk
  obtain ⟨t5, et5, hk⟩ := hk
  refine x_getR (pc := 5) C (fdD_0 ch4h) (fl2 C q537 q538) h4 et5 dX13_another_5 ?_
  refine j_aload_n (pc := 8) C dX13_another_8 rfl rfl ?_
  refine x_getI (pc := 9) C (fdD_1 ch4h) (fl2 C q548 q549) h4 dX13_another_9 ?_
  refine j_aload_n (pc := 12) C dX13_another_12 rfl rfl ?_
  refine x_getI (pc := 13) C (fdD_2 ch4h) (fl2 C q560 q561) h4 dX13_another_13 ?_
  replace hk := bd2_some hk
  obtain ⟨S16, I16, h5, hk⟩ := hk
  replace hk := og_some hk
  obtain ⟨h6, hk⟩ := hk
  replace hk := omn3_some hk
  obtain ⟨h7, hk⟩ := hk
  have h8 : sh.1 ≤ S16.1 := Nat.le_trans h3 h6
  refine x_callI (pc := 16) C (ct_X13_init h5) mi_X13_init q1952 dX13_another_16 rfl rfl (Nat.le_of_ble_eq_true rfl) (rmOK.i (Nat.le_of_ble_eq_true rfl) (Nat.le_of_ble_eq_true rfl) (rm1 h3 h6 h7) (rm2 h3 h6 h7)) ?_
  refine j_kn (k' := S16.1 - sh.1) (n' := 200 * (S16.1 - sh.1)) (rk1 h3 h6) (rk2 h3 h6) ?_
  obtain rfl := Option.some.inj hk
  exact x_aret (pc := 19) C dX13_another_19 (Nat.le_refl _) (Nat.le_refl _) rfl
def f_X14_init (sh : SH) (x0 : Nat) (x1 : Nat) (x2 : Int32) (x3 : Int32) (I : II) : Option (SH × II) := omn2 sh <| bd2 (f_X11_init sh x0 x1 x2 x3 I) fun S4 I4 => og (sh.1 ≤ S4.1) <| omn2 S4 <| some (S4, I4)
abbrev rmf_X14_init : Nat := 3
abbrev rml_X14_init : Nat := 76
theorem mi_X14_init : MI yX14_init cX14_init 4 3 := ⟨q619, q112, q620, rfl, by decide +kernel⟩
set_option maxHeartbeats 4000000 in
theorem ct_X14_init {G : WG} {l : Launch} {sh : SH} {I : II} {x0 : Nat} {x1 : Nat} {x2 : Int32} {x3 : Int32} {Z : (SH × II)} (hk : f_X14_init sh x0 x1 x2 x3 I = some Z) : CT G l yX14_init (ws_ yX14_init cX14_init 4 none) (rmA rmf_X14_init rml_X14_init (Z.1.1 - sh.1)) [.ref (wad G x0), .ref (wad G x1), .int x2, .int x3] (sh, I) (.returned none) Z := by
  refine CT.ofJ "NineDemands$Comes" rfl (by decide) (Nat.le_of_ble_eq_true rfl) ?_
  intro p e s m args below meth c C
  unfold f_X14_init at hk
  refine j_lv (lv' := [some (.ref (wad G x0)), some (.ref (wad G x1)), some (.int x2), some (.int x3)]) rfl ?_
  replace hk := omn2_some hk
  obtain ⟨hz0, hk⟩ := hk
  have hm0 : sh.1 ≤ sh.1 := Nat.le_refl _
  refine j_kn (k' := sh.1 - sh.1) (n' := 200 * (sh.1 - sh.1)) (Nat.sub_self _).symm (rb2 _) ?_
  refine j_aload_n (pc := 0) C dX14_init_0 rfl rfl ?_
  refine j_aload_n (pc := 1) C dX14_init_1 rfl rfl ?_
  refine j_iload_n (pc := 2) C dX14_init_2 rfl rfl ?_
  refine j_iload_n (pc := 3) C dX14_init_3 rfl rfl ?_
  replace hk := bd2_some hk
  obtain ⟨S4, I4, h1, hk⟩ := hk
  replace hk := og_some hk
  obtain ⟨h2, hk⟩ := hk
  replace hk := omn2_some hk
  obtain ⟨h3, hk⟩ := hk
  have h4 : sh.1 ≤ S4.1 := Nat.le_trans hm0 h2
  refine x_callI (pc := 4) C (ct_X11_init h1) mi_X11_init q621 dX14_init_4 rfl rfl (Nat.le_of_ble_eq_true rfl) (rmOK.i (Nat.le_of_ble_eq_true rfl) (Nat.le_of_ble_eq_true rfl) (rm1 hm0 h2 h3) (rm2 hm0 h2 h3)) ?_
  refine j_kn (k' := S4.1 - sh.1) (n' := 200 * (S4.1 - sh.1)) (rk1 hm0 h2) (rk2 hm0 h2) ?_
  obtain rfl := Option.some.inj hk
  exact j_vret (pc := 7) C dX14_init_7 (Nat.le_refl _) (Nat.le_refl _)
def f_X14_another (sh : SH) (x0 : Nat) (I : II) : Option (Nat × SH × II) := omn3 sh <| onw sh <| omn3 (newS sh 15 0) <| ockD (newS sh 15 0) x0 <| orf ((newS sh 15 0).2.2 x0 0) fun t5 => bd2 (f_X14_init (newS sh 15 0) ((sh).1) t5 ((newI sh I) x0 1) ((newI sh I) x0 2) (newI sh I)) fun S16 I16 => og (sh.1 + 1 ≤ S16.1) <| omn3 S16 <| some (((sh).1), S16, I16)
abbrev rmf_X14_another : Nat := 4
abbrev rml_X14_another : Nat := 99
theorem mv_X14_another_ok : callOK yX14_another 0 := by decide +kernel
set_option maxHeartbeats 4000000 in
theorem ct_X14_another {G : WG} {l : Launch} {sh : SH} {I : II} {x0 : Nat} {Z : (Nat × SH × II)} (hk : f_X14_another sh x0 I = some Z) : CT G l yX14_another (ws_ yX14_another cX14_another 1 (some (.object "NineDemands$Demand"))) (rmA rmf_X14_another rml_X14_another (Z.2.1.1 - sh.1)) [.ref (wad G x0)] (sh, I) (.returned (some (.ref (wad G Z.1)))) Z.2 := by
  refine CT.ofJ "NineDemands$Comes" rfl (by decide) (Nat.le_of_ble_eq_true rfl) ?_
  intro p e s m args below meth c C
  unfold f_X14_another at hk
  refine j_lv (lv' := [some (.ref (wad G x0))]) rfl ?_
  replace hk := omn3_some hk
  obtain ⟨hz0, hk⟩ := hk
  have hm0 : sh.1 ≤ sh.1 := Nat.le_refl _
  refine j_kn (k' := sh.1 - sh.1) (n' := 200 * (sh.1 - sh.1)) (Nat.sub_self _).symm (rb2 _) ?_
  replace hk := onw_some hk
  obtain ⟨h1, hk⟩ := hk
  replace hk := omn3_some hk
  obtain ⟨h2, hk⟩ := hk
  have h2 : sh.1 + 1 ≤ Z.2.1.1 := h2
  refine x_new (pc := 0) (c2 := 15) C rfl (born_15) q1936 q617 q112 h1 (ra1 hm0 h2) (ra2 hm0 h2 (by decide)) dX14_another_0 ?_
  have h3 : sh.1 ≤ sh.1 + 1 := Nat.le_succ_of_le hm0
  refine j_wid (k' := (newS sh 15 0).1 - sh.1) (n' := 200 * ((newS sh 15 0).1 - sh.1)) (rw1 hm0) (rw2 hm0 (by decide)) ?_
  refine j_dup (pc := 3) C dX14_another_3 rfl ?_
  refine j_aload_n (pc := 4) C dX14_another_4 rfl rfl ?_
  replace hk := ockD_some hk
  obtain ⟨ch4, ch4h, h4, hk⟩ := hk
  replace hk := orf_some hk
  obtain ⟨t5, et5, hk⟩ := hk
  refine x_getR (pc := 5) C (fdD_0 ch4h) (fl2 C q533 q534) h4 et5 dX14_another_5 ?_
  refine j_aload_n (pc := 8) C dX14_another_8 rfl rfl ?_
  refine x_getI (pc := 9) C (fdD_1 ch4h) (fl2 C q544 q545) h4 dX14_another_9 ?_
  refine j_aload_n (pc := 12) C dX14_another_12 rfl rfl ?_
  refine x_getI (pc := 13) C (fdD_2 ch4h) (fl2 C q556 q557) h4 dX14_another_13 ?_
  replace hk := bd2_some hk
  obtain ⟨S16, I16, h5, hk⟩ := hk
  replace hk := og_some hk
  obtain ⟨h6, hk⟩ := hk
  replace hk := omn3_some hk
  obtain ⟨h7, hk⟩ := hk
  have h8 : sh.1 ≤ S16.1 := Nat.le_trans h3 h6
  refine x_callI (pc := 16) C (ct_X14_init h5) mi_X14_init q1937 dX14_another_16 rfl rfl (Nat.le_of_ble_eq_true rfl) (rmOK.i (Nat.le_of_ble_eq_true rfl) (Nat.le_of_ble_eq_true rfl) (rm1 h3 h6 h7) (rm2 h3 h6 h7)) ?_
  refine j_kn (k' := S16.1 - sh.1) (n' := 200 * (S16.1 - sh.1)) (rk1 h3 h6) (rk2 h3 h6) ?_
  obtain rfl := Option.some.inj hk
  exact x_aret (pc := 19) C dX14_another_19 (Nat.le_refl _) (Nat.le_refl _) rfl
def f_X15_init (sh : SH) (x0 : Nat) (x1 : Nat) (x2 : Int32) (x3 : Int32) (I : II) : Option (SH × II) := omn2 sh <| bd2 (f_X10_init sh x0 x1 x2 x3 I) fun S4 I4 => og (sh.1 ≤ S4.1) <| omn2 S4 <| some (S4, I4)
abbrev rmf_X15_init : Nat := 2
abbrev rml_X15_init : Nat := 53
theorem mi_X15_init : MI yX15_init cX15_init 4 3 := ⟨q631, q113, q632, rfl, by decide +kernel⟩
set_option maxHeartbeats 4000000 in
theorem ct_X15_init {G : WG} {l : Launch} {sh : SH} {I : II} {x0 : Nat} {x1 : Nat} {x2 : Int32} {x3 : Int32} {Z : (SH × II)} (hk : f_X15_init sh x0 x1 x2 x3 I = some Z) : CT G l yX15_init (ws_ yX15_init cX15_init 4 none) (rmA rmf_X15_init rml_X15_init (Z.1.1 - sh.1)) [.ref (wad G x0), .ref (wad G x1), .int x2, .int x3] (sh, I) (.returned none) Z := by
  refine CT.ofJ "NineDemands$Single" rfl (by decide) (Nat.le_of_ble_eq_true rfl) ?_
  intro p e s m args below meth c C
  unfold f_X15_init at hk
  refine j_lv (lv' := [some (.ref (wad G x0)), some (.ref (wad G x1)), some (.int x2), some (.int x3)]) rfl ?_
  replace hk := omn2_some hk
  obtain ⟨hz0, hk⟩ := hk
  have hm0 : sh.1 ≤ sh.1 := Nat.le_refl _
  refine j_kn (k' := sh.1 - sh.1) (n' := 200 * (sh.1 - sh.1)) (Nat.sub_self _).symm (rb2 _) ?_
  refine j_aload_n (pc := 0) C dX15_init_0 rfl rfl ?_
  refine j_aload_n (pc := 1) C dX15_init_1 rfl rfl ?_
  refine j_iload_n (pc := 2) C dX15_init_2 rfl rfl ?_
  refine j_iload_n (pc := 3) C dX15_init_3 rfl rfl ?_
  replace hk := bd2_some hk
  obtain ⟨S4, I4, h1, hk⟩ := hk
  replace hk := og_some hk
  obtain ⟨h2, hk⟩ := hk
  replace hk := omn2_some hk
  obtain ⟨h3, hk⟩ := hk
  have h4 : sh.1 ≤ S4.1 := Nat.le_trans hm0 h2
  refine x_callI (pc := 4) C (ct_X10_init h1) mi_X10_init q633 dX15_init_4 rfl rfl (Nat.le_of_ble_eq_true rfl) (rmOK.i (Nat.le_of_ble_eq_true rfl) (Nat.le_of_ble_eq_true rfl) (rm1 hm0 h2 h3) (rm2 hm0 h2 h3)) ?_
  refine j_kn (k' := S4.1 - sh.1) (n' := 200 * (S4.1 - sh.1)) (rk1 hm0 h2) (rk2 hm0 h2) ?_
  obtain rfl := Option.some.inj hk
  exact j_vret (pc := 7) C dX15_init_7 (Nat.le_refl _) (Nat.le_refl _)
def f_X15_another (sh : SH) (x0 : Nat) (I : II) : Option (Nat × SH × II) := omn3 sh <| onw sh <| omn3 (newS sh 16 0) <| ockD (newS sh 16 0) x0 <| orf ((newS sh 16 0).2.2 x0 0) fun t5 => bd2 (f_X15_init (newS sh 16 0) ((sh).1) t5 ((newI sh I) x0 1) ((newI sh I) x0 2) (newI sh I)) fun S16 I16 => og (sh.1 + 1 ≤ S16.1) <| omn3 S16 <| some (((sh).1), S16, I16)
abbrev rmf_X15_another : Nat := 3
abbrev rml_X15_another : Nat := 76
theorem mv_X15_another_ok : callOK yX15_another 0 := by decide +kernel
set_option maxHeartbeats 4000000 in
theorem ct_X15_another {G : WG} {l : Launch} {sh : SH} {I : II} {x0 : Nat} {Z : (Nat × SH × II)} (hk : f_X15_another sh x0 I = some Z) : CT G l yX15_another (ws_ yX15_another cX15_another 1 (some (.object "NineDemands$Demand"))) (rmA rmf_X15_another rml_X15_another (Z.2.1.1 - sh.1)) [.ref (wad G x0)] (sh, I) (.returned (some (.ref (wad G Z.1)))) Z.2 := by
  refine CT.ofJ "NineDemands$Single" rfl (by decide) (Nat.le_of_ble_eq_true rfl) ?_
  intro p e s m args below meth c C
  unfold f_X15_another at hk
  refine j_lv (lv' := [some (.ref (wad G x0))]) rfl ?_
  replace hk := omn3_some hk
  obtain ⟨hz0, hk⟩ := hk
  have hm0 : sh.1 ≤ sh.1 := Nat.le_refl _
  refine j_kn (k' := sh.1 - sh.1) (n' := 200 * (sh.1 - sh.1)) (Nat.sub_self _).symm (rb2 _) ?_
  replace hk := onw_some hk
  obtain ⟨h1, hk⟩ := hk
  replace hk := omn3_some hk
  obtain ⟨h2, hk⟩ := hk
  have h2 : sh.1 + 1 ≤ Z.2.1.1 := h2
  refine x_new (pc := 0) (c2 := 16) C rfl (born_16) q1946 q629 q113 h1 (ra1 hm0 h2) (ra2 hm0 h2 (by decide)) dX15_another_0 ?_
  have h3 : sh.1 ≤ sh.1 + 1 := Nat.le_succ_of_le hm0
  refine j_wid (k' := (newS sh 16 0).1 - sh.1) (n' := 200 * ((newS sh 16 0).1 - sh.1)) (rw1 hm0) (rw2 hm0 (by decide)) ?_
  refine j_dup (pc := 3) C dX15_another_3 rfl ?_
  refine j_aload_n (pc := 4) C dX15_another_4 rfl rfl ?_
  replace hk := ockD_some hk
  obtain ⟨ch4, ch4h, h4, hk⟩ := hk
  replace hk := orf_some hk
  obtain ⟨t5, et5, hk⟩ := hk
  refine x_getR (pc := 5) C (fdD_0 ch4h) (fl2 C q535 q536) h4 et5 dX15_another_5 ?_
  refine j_aload_n (pc := 8) C dX15_another_8 rfl rfl ?_
  refine x_getI (pc := 9) C (fdD_1 ch4h) (fl2 C q546 q547) h4 dX15_another_9 ?_
  refine j_aload_n (pc := 12) C dX15_another_12 rfl rfl ?_
  refine x_getI (pc := 13) C (fdD_2 ch4h) (fl2 C q558 q559) h4 dX15_another_13 ?_
  replace hk := bd2_some hk
  obtain ⟨S16, I16, h5, hk⟩ := hk
  replace hk := og_some hk
  obtain ⟨h6, hk⟩ := hk
  replace hk := omn3_some hk
  obtain ⟨h7, hk⟩ := hk
  have h8 : sh.1 ≤ S16.1 := Nat.le_trans h3 h6
  refine x_callI (pc := 16) C (ct_X15_init h5) mi_X15_init q1947 dX15_another_16 rfl rfl (Nat.le_of_ble_eq_true rfl) (rmOK.i (Nat.le_of_ble_eq_true rfl) (Nat.le_of_ble_eq_true rfl) (rm1 h3 h6 h7) (rm2 h3 h6 h7)) ?_
  refine j_kn (k' := S16.1 - sh.1) (n' := 200 * (S16.1 - sh.1)) (rk1 h3 h6) (rk2 h3 h6) ?_
  obtain rfl := Option.some.inj hk
  exact x_aret (pc := 19) C dX15_another_19 (Nat.le_refl _) (Nat.le_refl _) rfl
def v_X10_another (sh : SH) (x0 : Nat) (I : II) : Option (Nat × SH × II) := og (x0 < sh.1 ∨ (exA ≤ x0 ∧ x0 < exA + exN)) <| if (sh.2.1 x0).1 = 11 then f_X10_another sh x0 I else if (sh.2.1 x0).1 = 12 then f_X11_another sh x0 I else if (sh.2.1 x0).1 = 13 then f_X12_another sh x0 I else if (sh.2.1 x0).1 = 14 then f_X13_another sh x0 I else if (sh.2.1 x0).1 = 15 then f_X14_another sh x0 I else if (sh.2.1 x0).1 = 16 then f_X15_another sh x0 I else none
set_option maxHeartbeats 4000000 in
theorem vc_X10_another {G : WG} {l : Launch} {sh : SH} {I : II} {x0 : Nat} {Z : (Nat × SH × II)} (hk : v_X10_another sh x0 I = some Z) : VC G l ⟨"NineDemands$Demand", "another", "()LNineDemands$Demand;"⟩ x0 [] (sh, I) (some (.ref (wad G Z.1))) Z.2 5 119 (Z.2.1.1 - sh.1) (200 * (Z.2.1.1 - sh.1)) 0 := by
  unfold v_X10_another at hk
  replace hk := og_some hk
  obtain ⟨hd9, hk⟩ := hk
  by_cases h0 : (sh.2.1 x0).1 = 11
  · replace hk := it_t h0 hk
    exact ⟨11, _, yX10_another, _, _, _, "NineDemands$Demand", _, ⟨hd9, h0⟩, rfl, ct_X10_another hk, q1927, q1926, q1925, q108, q1953, Or.inl ⟨q1925, _, _, _, q1953⟩, by decide +kernel, Nat.le_of_ble_eq_true rfl, Nat.le_of_ble_eq_true rfl, rfl, rfl⟩
  replace hk := it_f h0 hk
  by_cases h1 : (sh.2.1 x0).1 = 12
  · replace hk := it_t h1 hk
    exact ⟨12, _, yX11_another, _, _, _, "NineDemands$Demand", _, ⟨hd9, h1⟩, rfl, ct_X11_another hk, q1927, q1938, q1939, q109, q1940, Or.inl ⟨q1925, _, _, _, q1953⟩, by decide +kernel, Nat.le_of_ble_eq_true rfl, Nat.le_of_ble_eq_true rfl, rfl, rfl⟩
  replace hk := it_f h1 hk
  by_cases h2 : (sh.2.1 x0).1 = 13
  · replace hk := it_t h2 hk
    exact ⟨13, _, yX12_another, _, _, _, "NineDemands$Demand", _, ⟨hd9, h2⟩, rfl, ct_X12_another hk, q1927, q1928, q1929, q110, q1930, Or.inl ⟨q1925, _, _, _, q1953⟩, by decide +kernel, Nat.le_of_ble_eq_true rfl, Nat.le_of_ble_eq_true rfl, rfl, rfl⟩
  replace hk := it_f h2 hk
  by_cases h3 : (sh.2.1 x0).1 = 14
  · replace hk := it_t h3 hk
    exact ⟨14, _, yX13_another, _, _, _, "NineDemands$Demand", _, ⟨hd9, h3⟩, rfl, ct_X13_another hk, q1927, q1948, q1949, q111, q1950, Or.inl ⟨q1925, _, _, _, q1953⟩, by decide +kernel, Nat.le_of_ble_eq_true rfl, Nat.le_of_ble_eq_true rfl, rfl, rfl⟩
  replace hk := it_f h3 hk
  by_cases h4 : (sh.2.1 x0).1 = 15
  · replace hk := it_t h4 hk
    exact ⟨15, _, yX14_another, _, _, _, "NineDemands$Demand", _, ⟨hd9, h4⟩, rfl, ct_X14_another hk, q1927, q1933, q1934, q112, q1935, Or.inl ⟨q1925, _, _, _, q1953⟩, by decide +kernel, Nat.le_of_ble_eq_true rfl, Nat.le_of_ble_eq_true rfl, rfl, rfl⟩
  replace hk := it_f h4 hk
  by_cases h5 : (sh.2.1 x0).1 = 16
  · replace hk := it_t h5 hk
    exact ⟨16, _, yX15_another, _, _, _, "NineDemands$Demand", _, ⟨hd9, h5⟩, rfl, ct_X15_another hk, q1927, q1943, q1944, q113, q1945, Or.inl ⟨q1925, _, _, _, q1953⟩, by decide +kernel, Nat.le_of_ble_eq_true rfl, Nat.le_of_ble_eq_true rfl, rfl, rfl⟩
  replace hk := it_f h5 hk
  cases hk
def f_X10_again (sh : SH) (x0 : Nat) (I : II) : Option (Nat × SH × II) := omn3 sh <| bd3 (v_X10_another sh x0 I) fun a1 S1 I1 => og (sh.1 ≤ S1.1) <| omn3 S1 <| ockD S1 x0 <| ockwD S1 a1 <| ockD (shR S1 a1 3 (S1.2.2 x0 3)) x0 <| ockwD (shR S1 a1 3 (S1.2.2 x0 3)) a1 <| some (a1, shR (shR S1 a1 3 (S1.2.2 x0 3)) a1 4 ((shR S1 a1 3 (S1.2.2 x0 3)).2.2 x0 4), I1)
abbrev rmf_X10_again : Nat := 5
abbrev rml_X10_again : Nat := 119
theorem mv_X10_again_ok : callOK yX10_again 0 := by decide +kernel
theorem mv_X10_again : MV yX10_again cX10_again 2 (some (.object "NineDemands$Demand")) 0 := ⟨q1915, q1916, q108, q1923, mv_X10_again_ok⟩
set_option maxHeartbeats 4000000 in
theorem ct_X10_again {G : WG} {l : Launch} {sh : SH} {I : II} {x0 : Nat} {Z : (Nat × SH × II)} (hk : f_X10_again sh x0 I = some Z) : CT G l yX10_again (ws_ yX10_again cX10_again 2 (some (.object "NineDemands$Demand"))) (rmA rmf_X10_again rml_X10_again (Z.2.1.1 - sh.1)) [.ref (wad G x0)] (sh, I) (.returned (some (.ref (wad G Z.1)))) Z.2 := by
  refine CT.ofJ "NineDemands$Demand" rfl (by decide) (Nat.le_of_ble_eq_true rfl) ?_
  intro p e s m args below meth c C
  unfold f_X10_again at hk
  refine j_lv (lv' := [some (.ref (wad G x0)), none]) rfl ?_
  replace hk := omn3_some hk
  obtain ⟨hz0, hk⟩ := hk
  have hm0 : sh.1 ≤ sh.1 := Nat.le_refl _
  refine j_kn (k' := sh.1 - sh.1) (n' := 200 * (sh.1 - sh.1)) (Nat.sub_self _).symm (rb2 _) ?_
  refine j_aload_n (pc := 0) C dX10_again_0 rfl rfl ?_
  replace hk := bd3_some hk
  obtain ⟨a1, S1, I1, h1, hk⟩ := hk
  replace hk := og_some hk
  obtain ⟨h2, hk⟩ := hk
  replace hk := omn3_some hk
  obtain ⟨h3, hk⟩ := hk
  have h4 : sh.1 ≤ S1.1 := Nat.le_trans hm0 h2
  refine x_callX (pc := 1) C (vc_X10_another h1) q1924 dX10_again_1 rfl rfl (Nat.le_of_ble_eq_true rfl) (Nat.le_of_ble_eq_true rfl) (Nat.le_of_ble_eq_true rfl) (rm1 hm0 h2 h3) (rm2 hm0 h2 h3) ?_
  refine j_kn (k' := S1.1 - sh.1) (n' := 200 * (S1.1 - sh.1)) (rk1 hm0 h2) (rk2 hm0 h2) ?_
  refine j_astore_n (pc := 4) C dX10_again_4 rfl (Nat.le_of_ble_eq_true rfl) rfl ?_
  refine j_aload_n (pc := 5) C dX10_again_5 rfl rfl ?_
  refine j_aload_n (pc := 6) C dX10_again_6 rfl rfl ?_
  replace hk := ockD_some hk
  obtain ⟨ch5, ch5h, h5, hk⟩ := hk
  refine x_getN (pc := 7) C (fdD_3 ch5h) (fl1 C q566) h5 dX10_again_7 ?_
  replace hk := ockwD_some hk
  obtain ⟨ch6, ch6h, h6, hk⟩ := hk
  refine x_putN (pc := 10) (o := (S1.2.2 x0 3)) C (fdD_3 ch6h) (fl1 C q566) h6 rfl dX10_again_10 ?_
  refine j_aload_n (pc := 13) C dX10_again_13 rfl rfl ?_
  refine j_aload_n (pc := 14) C dX10_again_14 rfl rfl ?_
  replace hk := ockD_some hk
  obtain ⟨ch7, ch7h, h7, hk⟩ := hk
  refine x_getN (pc := 15) C (fdD_4 ch7h) (fl1 C q579) h7 dX10_again_15 ?_
  replace hk := ockwD_some hk
  obtain ⟨ch8, ch8h, h8, hk⟩ := hk
  refine x_putN (pc := 18) (o := ((shR S1 a1 3 (S1.2.2 x0 3)).2.2 x0 4)) C (fdD_4 ch8h) (fl1 C q579) h8 rfl dX10_again_18 ?_
  refine j_aload_n (pc := 21) C dX10_again_21 rfl rfl ?_
  obtain rfl := Option.some.inj hk
  exact x_aret (pc := 22) C dX10_again_22 (Nat.le_refl _) (Nat.le_refl _) rfl
def v_X10_again (sh : SH) (x0 : Nat) (I : II) : Option (Nat × SH × II) := og (x0 < sh.1 ∨ (exA ≤ x0 ∧ x0 < exA + exN)) <| if (sh.2.1 x0).1 = 11 then f_X10_again sh x0 I else if (sh.2.1 x0).1 = 12 then f_X10_again sh x0 I else if (sh.2.1 x0).1 = 13 then f_X10_again sh x0 I else if (sh.2.1 x0).1 = 14 then f_X10_again sh x0 I else if (sh.2.1 x0).1 = 15 then f_X10_again sh x0 I else if (sh.2.1 x0).1 = 16 then f_X10_again sh x0 I else none
set_option maxHeartbeats 4000000 in
theorem vc_X10_again {G : WG} {l : Launch} {sh : SH} {I : II} {x0 : Nat} {Z : (Nat × SH × II)} (hk : v_X10_again sh x0 I = some Z) : VC G l ⟨"NineDemands$Demand", "again", "()LNineDemands$Demand;"⟩ x0 [] (sh, I) (some (.ref (wad G Z.1))) Z.2 6 140 (Z.2.1.1 - sh.1) (200 * (Z.2.1.1 - sh.1)) 0 := by
  unfold v_X10_again at hk
  replace hk := og_some hk
  obtain ⟨hd9, hk⟩ := hk
  by_cases h0 : (sh.2.1 x0).1 = 11
  · replace hk := it_t h0 hk
    exact ⟨11, _, yX10_again, _, _, _, "NineDemands$Demand", _, ⟨hd9, h0⟩, rfl, ct_X10_again hk, q1917, q1916, q1915, q108, q1923, Or.inl ⟨q1915, _, _, _, q1923⟩, by decide +kernel, Nat.le_of_ble_eq_true rfl, Nat.le_of_ble_eq_true rfl, rfl, rfl⟩
  replace hk := it_f h0 hk
  by_cases h1 : (sh.2.1 x0).1 = 12
  · replace hk := it_t h1 hk
    exact ⟨12, _, yX10_again, _, _, _, "NineDemands$Demand", _, ⟨hd9, h1⟩, rfl, ct_X10_again hk, q1917, q1920, q1915, q108, q1923, Or.inl ⟨q1915, _, _, _, q1923⟩, by decide +kernel, Nat.le_of_ble_eq_true rfl, Nat.le_of_ble_eq_true rfl, rfl, rfl⟩
  replace hk := it_f h1 hk
  by_cases h2 : (sh.2.1 x0).1 = 13
  · replace hk := it_t h2 hk
    exact ⟨13, _, yX10_again, _, _, _, "NineDemands$Demand", _, ⟨hd9, h2⟩, rfl, ct_X10_again hk, q1917, q1918, q1915, q108, q1923, Or.inl ⟨q1915, _, _, _, q1923⟩, by decide +kernel, Nat.le_of_ble_eq_true rfl, Nat.le_of_ble_eq_true rfl, rfl, rfl⟩
  replace hk := it_f h2 hk
  by_cases h3 : (sh.2.1 x0).1 = 14
  · replace hk := it_t h3 hk
    exact ⟨14, _, yX10_again, _, _, _, "NineDemands$Demand", _, ⟨hd9, h3⟩, rfl, ct_X10_again hk, q1917, q1922, q1915, q108, q1923, Or.inl ⟨q1915, _, _, _, q1923⟩, by decide +kernel, Nat.le_of_ble_eq_true rfl, Nat.le_of_ble_eq_true rfl, rfl, rfl⟩
  replace hk := it_f h3 hk
  by_cases h4 : (sh.2.1 x0).1 = 15
  · replace hk := it_t h4 hk
    exact ⟨15, _, yX10_again, _, _, _, "NineDemands$Demand", _, ⟨hd9, h4⟩, rfl, ct_X10_again hk, q1917, q1919, q1915, q108, q1923, Or.inl ⟨q1915, _, _, _, q1923⟩, by decide +kernel, Nat.le_of_ble_eq_true rfl, Nat.le_of_ble_eq_true rfl, rfl, rfl⟩
  replace hk := it_f h4 hk
  by_cases h5 : (sh.2.1 x0).1 = 16
  · replace hk := it_t h5 hk
    exact ⟨16, _, yX10_again, _, _, _, "NineDemands$Demand", _, ⟨hd9, h5⟩, rfl, ct_X10_again hk, q1917, q1921, q1915, q108, q1923, Or.inl ⟨q1915, _, _, _, q1923⟩, by decide +kernel, Nat.le_of_ble_eq_true rfl, Nat.le_of_ble_eq_true rfl, rfl, rfl⟩
  replace hk := it_f h5 hk
  cases hk
