/-! the class: walks -/
set_option maxRecDepth 100000
def f_X7_begin_L2 (F : Nat) (sh : SH) : Nat → Int32 → II → Option II
  | 0, _, _ => none
  | n2 + 1, x1, I => if (nI 12) ≤ x1 then some (up2 (up2 I 17 2 (nI 0)) 17 3 (nI 0)) else oix x1 12 fun i15 => (f_X7_begin_L2 F sh n2) (x1 + (nI 1)) (up2 I 19 i15 (nI 14))
def f_X7_begin (F : Nat) (sh : SH) (I : II) : Option II := f_X7_begin_L2 F sh F (nI 0) I
abbrev rm_X7_begin : Room := { frames := 0, cells := 0, slots := 0, locals := 0 }
theorem mv_X7_begin_ok : callOK yX7_begin 0 := by decide +kernel
theorem mv_X7_begin : MV yX7_begin cX7_begin 2 none 0 := ⟨q1548, q1549, q104, q1550, mv_X7_begin_ok⟩
set_option maxHeartbeats 4000000 in
theorem ct_X7_begin {G : WG} {l : Launch} {sh : SH} (hS : stN sh) {I : II} {F : Nat}  {Z : II} (hk : f_X7_begin F sh I = some Z) : CT G l yX7_begin (ws_ yX7_begin cX7_begin 2 none) rm_X7_begin [.ref (wad G 17)] (sh, I) (.returned none) (sh, Z) := by
  refine CT.ofJ "NineDemands$Showing" rfl (by decide) (Nat.le_of_ble_eq_true rfl) ?_
  intro p e s m args below meth c C
  unfold f_X7_begin at hk
  refine j_lv (lv' := [some (.ref (wad G 17)), none]) rfl ?_
  refine j_iconst (pc := 0) (v := nI 0) C dX7_begin_0 (by decide) ?_
  refine j_istore_n (pc := 1) C dX7_begin_1 rfl (Nat.le_of_ble_eq_true rfl) rfl ?_
  have L2 : ∀  (n2 : Nat) (x1 : Int32) (I : II), f_X7_begin_L2 F sh n2 x1 I = some Z → J G p l e rm_X7_begin s m args below meth c 2 (.returned none) (sh, Z) (rm_X7_begin).cells (rm_X7_begin).slots (sh, I) 0 0 2 [some (.ref (wad G 17)), some (.int x1)] [] := by
    intro  n2
    induction n2 with
    | zero => intro x1 I hk; rw [f_X7_begin_L2] at hk; cases hk
    | succ n2 ih2 =>
      intro x1 I hk
      rw [f_X7_begin_L2] at hk
      generalize f_X7_begin_L2 F sh n2 = k2 at ih2 hk
      refine j_iload_n (pc := 2) C dX7_begin_2 rfl rfl ?_
      refine j_bipush (pc := 3) (v := nI 12) C dX7_begin_3 (by decide) ?_
      refine j_icmp_ge (pc := 5) 22 C dX7_begin_5 (by decide) (fun h1 => ?_) (fun h1 => ?_)
      · replace hk := it_t h1 hk
        refine j_aload_n (pc := 22) C dX7_begin_22 rfl rfl ?_
        refine j_iconst (pc := 23) (v := nI 0) C dX7_begin_23 (by decide) ?_
        refine x_putI (pc := 24) C fd_8_2 (fl1 C q348) (stN_o17 hS) rfl rfl dX7_begin_24 ?_
        refine j_aload_n (pc := 27) C dX7_begin_27 rfl rfl ?_
        refine j_iconst (pc := 28) (v := nI 0) C dX7_begin_28 (by decide) ?_
        refine x_putI (pc := 29) C fd_8_3 (fl1 C q350) (stN_o17 hS) rfl rfl dX7_begin_29 ?_
        obtain rfl := Option.some.inj hk
        exact j_vret (pc := 32) C dX7_begin_32 (Nat.le_of_ble_eq_true rfl) (Nat.le_of_ble_eq_true rfl)
      · replace hk := it_f h1 hk
        refine j_aload_n (pc := 8) C dX7_begin_8 rfl rfl ?_
        refine x_getR (pc := 9) C fd_8_1 (fl1 C q347) (stN_o17 hS).r (stN_r17_1 hS) dX7_begin_9 ?_
        refine j_iload_n (pc := 12) C dX7_begin_12 rfl rfl ?_
        refine j_bipush (pc := 13) (v := nI 14) C dX7_begin_13 (by decide) ?_
        replace hk := oix_ex hk
        obtain ⟨i15, e15, h2, hk⟩ := hk
        refine j_iast (pc := 15) C (stN_a19 hS) h2 e15 dX7_begin_15 ?_
        refine j_iinc (pc := 16) (nI 1) C dX7_begin_16 rfl (by decide) (Nat.le_of_ble_eq_true rfl) rfl ?_
        refine j_goto (pc := 19) 2 C dX7_begin_19 (by decide) ?_
        exact j_mask [true, true] (ih2 _ _ hk)
  exact j_mask [true, true] (L2  _ _ _ hk)
def f_X0_check_J98 (F : Nat) (sh : SH) (s0 : Nat) (I : II) : Option (Int32 × II) := bd2 (f_X0_finds sh s0 I) fun r101 I101 => some (r101, I101)
def f_X0_check_J70 (F : Nat) (sh : SH) (x3 : Nat) (x4 : Int32) (I : II) : Option (Int32 × II) := (v_X24_size sh x3 I).bind fun r73 => if x4 = r73 then if (I 17 3) = 0 then some ((x4 + (nI 1)), I) else some ((nI 0), I) else some ((x4 + (nI 1)), I)
def f_X0_check_L41 (F : Nat) (sh : SH) (x1 : Int32) (x3 : Nat) : Nat → Int32 → II → Option (Int32 × II)
  | 0, _, _ => none
  | n41 + 1, x4, I => (v_X24_size sh x3 I).bind fun r44 => if r44 ≤ x4 then f_X0_check_J70 F sh x3 x4 I else (v_X24_get sh x3 x4 I).bind fun r55 => bd2 (f_X0_isStep F sh x1 r55 I) fun r58 I58 => if r58 = 0 then f_X0_check_J70 F sh x3 x4 I58 else (f_X0_check_L41 F sh x1 x3 n41) (x4 + (nI 1)) I58
def f_X0_check_J21 (F : Nat) (sh : SH) (x1 : Int32) (x2 : Int32) (s1 : Int32) (I : II) : Option (Int32 × II) := bd2 (f_X0_need sh s1 (nI 1) I) fun u22 I22 => oex u22 (fun _w22 => bd2 (f_X0_sheetAt sh x2 I22) fun u27 I27 => oex u27 (fun a27 => (f_X7_begin F sh I27).bind fun I35 => f_X0_check_L41 F sh x1 a27 F (nI 0) I35) (fun w27 => ock sh w27 1 <| f_X0_check_J98 F sh w27 I27)) (fun w22 => ock sh w22 1 <| f_X0_check_J98 F sh w22 I22)
def f_X0_check_J20 (F : Nat) (sh : SH) (x1 : Int32) (x2 : Int32) (I : II) : Option (Int32 × II) := f_X0_check_J21 F sh x1 x2 (nI 0) I
def f_X0_check (F : Nat) (sh : SH) (x1 : Int32) (x2 : Int32) (I : II) : Option (Int32 × II) := (f_X0_isSet sh x1 I).bind fun r3 => if r3 = 0 then f_X0_check_J20 F sh x1 x2 I else (f_X0_isSheet x2).bind fun r10 => if r10 = 0 then f_X0_check_J20 F sh x1 x2 I else f_X0_check_J21 F sh x1 x2 (nI 1) I
abbrev rm_X0_check : Room := { frames := 5, cells := 0, slots := 0, locals := 119 }
theorem mv_X0_check_ok : callOK yX0_check 2 := by decide +kernel
theorem mw_X0_check : MW yX0_check cX0_check 5 (some .int) [(0, 97, 98, 8)] 2 := ⟨q1582, q1583, q91, q1584, mv_X0_check_ok⟩
set_option maxHeartbeats 4000000 in
theorem ct_X0_check {G : WG} {l : Launch} {sh : SH} (hS : stN sh) {I : II} {F : Nat} {x1 : Int32} {x2 : Int32} {Z : (Int32 × II)} (hk : f_X0_check F sh x1 x2 I = some Z) : CT G l yX0_check (wsW_ yX0_check cX0_check 5 (some .int) [(0, 97, 98, 8)]) rm_X0_check [.ref (wad G 0), .int x1, .int x2] (sh, I) (.returned (some (.int Z.1))) (sh, Z.2) := by
  refine CT.ofJW "NineDemands" rfl (by decide) (Nat.le_of_ble_eq_true rfl) ?_
  intro p e s m args below meth c C
  unfold f_X0_check at hk
  refine j_lv (lv' := [some (.ref (wad G 0)), some (.int x1), some (.int x2), none, none]) rfl ?_
  refine j_aload_n (pc := 0) C dX0_check_0 rfl rfl ?_
  refine j_aload_n (pc := 1) C dX0_check_1 rfl rfl ?_
  refine j_iload_n (pc := 2) C dX0_check_2 rfl rfl ?_
  replace hk := ob_some hk
  obtain ⟨r3, h1, hk⟩ := hk
  refine x_callV (pc := 3) C (ct_X0_isSet hS h1) mv_X0_isSet (stN_o0 hS).r rfl rfl q1415 dX0_check_3 rfl rfl (Nat.le_of_ble_eq_true rfl) rfl ?_
  have Jn21 : ∀ (x1 : Int32) (x2 : Int32) (s1 : Int32) (I : II), f_X0_check_J21 F sh x1 x2 s1 I = some Z → J G p l e rm_X0_check s m args below meth c 5 (.returned (some (.int Z.1))) (sh, Z.2) (rm_X0_check).cells (rm_X0_check).slots (sh, I) 0 0 21 [some (.ref (wad G 0)), some (.int x1), some (.int x2), none, none] [.int s1, .ref (wad G 0)] := by
    intro x1 x2 s1 I hk
    unfold f_X0_check_J21 at hk
    refine j_iconst (pc := 21) (v := nI 1) C dX0_check_21 (by decide) ?_
    have Jn98 : ∀ (s0 : Nat) (I : II), f_X0_check_J98 F sh s0 I = some Z → J G p l e rm_X0_check s m args below meth c 5 (.returned (some (.int Z.1))) (sh, Z.2) (rm_X0_check).cells (rm_X0_check).slots (sh, I) 0 0 98 [some (.ref (wad G 0)), none, none, none, none] [.ref (wad G s0)] := by
      intro s0 I hk
      unfold f_X0_check_J98 at hk
      refine j_astore_n (pc := 98) C dX0_check_98 rfl (Nat.le_of_ble_eq_true rfl) rfl ?_
      refine j_aload_n (pc := 99) C dX0_check_99 rfl rfl ?_
      refine j_aload_n (pc := 100) C dX0_check_100 rfl rfl ?_
      replace hk := bd2_some hk
      obtain ⟨r101, I101, h2, hk⟩ := hk
      refine x_callV (pc := 101) C (ct_X0_finds hS h2) mv_X0_finds (stN_o0 hS).r rfl rfl q433 dX0_check_101 rfl rfl (Nat.le_of_ble_eq_true rfl) rfl ?_
      obtain rfl := Option.some.inj hk
      exact j_iret (pc := 104) C dX0_check_104 (Nat.le_of_ble_eq_true rfl) (Nat.le_of_ble_eq_true rfl)
    replace hk := bd2_some hk
    obtain ⟨u22, I22, h3, hk⟩ := hk
    cases u22 with
    | inr w22 =>
      replace hk := oex_r hk
      replace hk := ock_some hk
      obtain ⟨h5, hk⟩ := hk
      refine x_callVC [] [] (0, 97, 98, 8) (pc := 22) C (ct_X0_need hS h3) mv_X0_need (stN_o0 hS).r rfl rfl q416 dX0_check_22 rfl rfl (Nat.le_of_ble_eq_true rfl) rfl rfl h5 rfl (by decide) (by decide) q146 (fun z hz => by cases hz) ?_
      exact j_mask [true, false, false, false, false] (Jn98 _ _ hk)
    | inl _w22 =>
      replace hk := oex_l hk
      refine x_callV (pc := 22) C (ct_X0_need hS h3) mv_X0_need (stN_o0 hS).r rfl rfl q416 dX0_check_22 rfl rfl (Nat.le_of_ble_eq_true rfl) rfl ?_
      refine j_aload_n (pc := 25) C dX0_check_25 rfl rfl ?_
      refine j_iload_n (pc := 26) C dX0_check_26 rfl rfl ?_
      replace hk := bd2_some hk
      obtain ⟨u27, I27, h6, hk⟩ := hk
      cases u27 with
      | inr w27 =>
        replace hk := oex_r hk
        replace hk := ock_some hk
        obtain ⟨h8, hk⟩ := hk
        refine x_callVC [] [] (0, 97, 98, 8) (pc := 27) C (ct_X0_sheetAt hS h6) mv_X0_sheetAt (stN_o0 hS).r rfl rfl q463 dX0_check_27 rfl rfl (Nat.le_of_ble_eq_true rfl) rfl rfl h8 rfl (by decide) (by decide) q146 (fun z hz => by cases hz) ?_
        exact j_mask [true, false, false, false, false] (Jn98 _ _ hk)
      | inl a27 =>
        replace hk := oex_l hk
        refine x_callV (pc := 27) C (ct_X0_sheetAt hS h6) mv_X0_sheetAt (stN_o0 hS).r rfl rfl q463 dX0_check_27 rfl rfl (Nat.le_of_ble_eq_true rfl) rfl ?_
        refine j_astore_n (pc := 30) C dX0_check_30 rfl (Nat.le_of_ble_eq_true rfl) rfl ?_
        refine j_aload_n (pc := 31) C dX0_check_31 rfl rfl ?_
        refine x_getR (pc := 32) C fd_0_7 (fl1 C q379) (stN_o0 hS).r (stN_r0_7 hS) dX0_check_32 ?_
        replace hk := ob_some hk
        obtain ⟨I35, h9, hk⟩ := hk
        refine x_callV (pc := 35) C (ct_X7_begin hS h9) mv_X7_begin (stN_o17 hS).r rfl rfl q1585 dX0_check_35 rfl rfl (Nat.le_of_ble_eq_true rfl) rfl ?_
        refine j_iconst (pc := 38) (v := nI 0) C dX0_check_38 (by decide) ?_
        refine j_istore (pc := 39) C dX0_check_39 (Nat.le_of_ble_eq_true rfl) rfl ?_
        have L41 : ∀ (x1 : Int32) (x3 : Nat) (n41 : Nat) (x4 : Int32) (I : II), f_X0_check_L41 F sh x1 x3 n41 x4 I = some Z → J G p l e rm_X0_check s m args below meth c 5 (.returned (some (.int Z.1))) (sh, Z.2) (rm_X0_check).cells (rm_X0_check).slots (sh, I) 0 0 41 [some (.ref (wad G 0)), some (.int x1), none, some (.ref (wad G x3)), some (.int x4)] [] := by
          intro x1 x3 n41
          induction n41 with
          | zero => intro x4 I hk; rw [f_X0_check_L41] at hk; cases hk
          | succ n41 ih41 =>
            intro x4 I hk
            rw [f_X0_check_L41] at hk
            generalize f_X0_check_L41 F sh x1 x3 n41 = k41 at ih41 hk
            refine j_iload (pc := 41) C dX0_check_41 rfl ?_
            refine j_aload_n (pc := 43) C dX0_check_43 rfl rfl ?_
            replace hk := ob_some hk
            obtain ⟨r44, h10, hk⟩ := hk
            refine x_callX (pc := 44) C (vc_X24_size hS h10) q468 dX0_check_44 rfl rfl (Nat.le_of_ble_eq_true rfl) (Nat.le_of_ble_eq_true rfl) (Nat.le_of_ble_eq_true rfl) (Nat.le_of_ble_eq_true rfl) (Nat.le_of_ble_eq_true rfl) ?_
            have Jn70 : ∀ (x3 : Nat) (x4 : Int32) (I : II), f_X0_check_J70 F sh x3 x4 I = some Z → J G p l e rm_X0_check s m args below meth c 5 (.returned (some (.int Z.1))) (sh, Z.2) (rm_X0_check).cells (rm_X0_check).slots (sh, I) 0 0 70 [some (.ref (wad G 0)), none, none, some (.ref (wad G x3)), some (.int x4)] [] := by
              intro x3 x4 I hk
              unfold f_X0_check_J70 at hk
              refine j_iload (pc := 70) C dX0_check_70 rfl ?_
              refine j_aload_n (pc := 72) C dX0_check_72 rfl rfl ?_
              replace hk := ob_some hk
              obtain ⟨r73, h11, hk⟩ := hk
              refine x_callX (pc := 73) C (vc_X24_size hS h11) q468 dX0_check_73 rfl rfl (Nat.le_of_ble_eq_true rfl) (Nat.le_of_ble_eq_true rfl) (Nat.le_of_ble_eq_true rfl) (Nat.le_of_ble_eq_true rfl) (Nat.le_of_ble_eq_true rfl) ?_
              refine j_icmp_ne (pc := 76) 93 C dX0_check_76 (by decide) (fun h12 => ?_) (fun h12 => ?_)
              · replace hk := it_f h12 hk
                refine j_iload (pc := 93) C dX0_check_93 rfl ?_
                refine j_iconst (pc := 95) (v := nI 1) C dX0_check_95 (by decide) ?_
                refine j_iadd (pc := 96) C dX0_check_96 ?_
                obtain rfl := Option.some.inj hk
                exact j_iret (pc := 97) C dX0_check_97 (Nat.le_of_ble_eq_true rfl) (Nat.le_of_ble_eq_true rfl)
              · replace hk := it_t h12 hk
                refine j_aload_n (pc := 79) C dX0_check_79 rfl rfl ?_
                refine x_getR (pc := 80) C fd_0_7 (fl1 C q379) (stN_o0 hS).r (stN_r0_7 hS) dX0_check_80 ?_
                refine x_getI (pc := 83) C fd_8_3 (fl3 C q351) (stN_o17 hS).r dX0_check_83 ?_
                refine j_if_eq (pc := 86) 93 C dX0_check_86 (by decide) (fun h13 => ?_) (fun h13 => ?_)
                · replace hk := it_t h13 hk
                  refine j_iload (pc := 93) C dX0_check_93 rfl ?_
                  refine j_iconst (pc := 95) (v := nI 1) C dX0_check_95 (by decide) ?_
                  refine j_iadd (pc := 96) C dX0_check_96 ?_
                  obtain rfl := Option.some.inj hk
                  exact j_iret (pc := 97) C dX0_check_97 (Nat.le_of_ble_eq_true rfl) (Nat.le_of_ble_eq_true rfl)
                · replace hk := it_f h13 hk
                  refine j_iconst (pc := 89) (v := nI 0) C dX0_check_89 (by decide) ?_
                  refine j_goto (pc := 90) 97 C dX0_check_90 (by decide) ?_
                  obtain rfl := Option.some.inj hk
                  exact j_iret (pc := 97) C dX0_check_97 (Nat.le_of_ble_eq_true rfl) (Nat.le_of_ble_eq_true rfl)
            refine j_icmp_ge (pc := 47) 70 C dX0_check_47 (by decide) (fun h14 => ?_) (fun h14 => ?_)
            · replace hk := it_t h14 hk
              exact j_mask [true, false, false, true, true] (Jn70 _ _ _ hk)
            · replace hk := it_f h14 hk
              refine j_aload_n (pc := 50) C dX0_check_50 rfl rfl ?_
              refine j_iload_n (pc := 51) C dX0_check_51 rfl rfl ?_
              refine j_aload_n (pc := 52) C dX0_check_52 rfl rfl ?_
              refine j_iload (pc := 53) C dX0_check_53 rfl ?_
              replace hk := ob_some hk
              obtain ⟨r55, h15, hk⟩ := hk
              refine x_callX (pc := 55) C (vc_X24_get hS h15) q483 dX0_check_55 rfl rfl (Nat.le_of_ble_eq_true rfl) (Nat.le_of_ble_eq_true rfl) (Nat.le_of_ble_eq_true rfl) (Nat.le_of_ble_eq_true rfl) (Nat.le_of_ble_eq_true rfl) ?_
              replace hk := bd2_some hk
              obtain ⟨r58, I58, h16, hk⟩ := hk
              refine x_callV (pc := 58) C (ct_X0_isStep hS h16) mv_X0_isStep (stN_o0 hS).r rfl rfl q1586 dX0_check_58 rfl rfl (Nat.le_of_ble_eq_true rfl) rfl ?_
              refine j_if_eq (pc := 61) 70 C dX0_check_61 (by decide) (fun h17 => ?_) (fun h17 => ?_)
              · replace hk := it_t h17 hk
                exact j_mask [true, false, false, true, true] (Jn70 _ _ _ hk)
              · replace hk := it_f h17 hk
                refine j_iinc (pc := 64) (nI 1) C dX0_check_64 rfl (by decide) (Nat.le_of_ble_eq_true rfl) rfl ?_
                refine j_goto (pc := 67) 41 C dX0_check_67 (by decide) ?_
                exact j_mask [true, true, false, true, true] (ih41 _ _ hk)
        exact j_mask [true, true, false, true, true] (L41 _ _ _ _ _ hk)
  have Jn20 : ∀ (x1 : Int32) (x2 : Int32) (I : II), f_X0_check_J20 F sh x1 x2 I = some Z → J G p l e rm_X0_check s m args below meth c 5 (.returned (some (.int Z.1))) (sh, Z.2) (rm_X0_check).cells (rm_X0_check).slots (sh, I) 0 0 20 [some (.ref (wad G 0)), some (.int x1), some (.int x2), none, none] [.ref (wad G 0)] := by
    intro x1 x2 I hk
    unfold f_X0_check_J20 at hk
    refine j_iconst (pc := 20) (v := nI 0) C dX0_check_20 (by decide) ?_
    exact j_mask [true, true, true, false, false] (Jn21 _ _ _ _ hk)
  refine j_if_eq (pc := 6) 20 C dX0_check_6 (by decide) (fun h18 => ?_) (fun h18 => ?_)
  · replace hk := it_t h18 hk
    exact j_mask [true, true, true, false, false] (Jn20 _ _ _ hk)
  · replace hk := it_f h18 hk
    refine j_iload_n (pc := 9) C dX0_check_9 rfl rfl ?_
    replace hk := ob_some hk
    obtain ⟨r10, h19, hk⟩ := hk
    refine j_callS (pc := 10) C (ct_X0_isSheet h19) ms_X0_isSheet q460 dX0_check_10 rfl rfl (Nat.le_of_ble_eq_true rfl) rfl ?_
    refine j_if_eq (pc := 13) 20 C dX0_check_13 (by decide) (fun h20 => ?_) (fun h20 => ?_)
    · replace hk := it_t h20 hk
      exact j_mask [true, true, true, false, false] (Jn20 _ _ _ hk)
    · replace hk := it_f h20 hk
      refine j_iconst (pc := 16) (v := nI 1) C dX0_check_16 (by decide) ?_
      refine j_goto (pc := 17) 21 C dX0_check_17 (by decide) ?_
      exact j_mask [true, true, true, false, false] (Jn21 _ _ _ _ hk)
def f_X7_strikesFirst_L13 (F : Nat) (sh : SH) (x1 : Nat) (x2 : Int32) (x3 : Int32) : Nat → Int32 → II → Option II
  | 0, _, _ => none
  | n13 + 1, x4, I => if (nI 3) < x4 then some I else if (I 17 3) = 0 then oix x3 12 fun i31 => (f_X0_has (I 19 i31) x4).bind fun r34 => if r34 = 0 then (f_X7_strikesFirst_L13 F sh x1 x2 x3 n13) (x4 + (nI 1)) I else (f_X7_goesFirst F sh x1 x2 x4 I).bind fun r45 => if r45 = 0 then (f_X7_strike sh x1 x3 x4 I).bind fun I56 => (f_X7_strikesFirst_L13 F sh x1 x2 x3 n13) (x4 + (nI 1)) I56 else (f_X7_strikesFirst_L13 F sh x1 x2 x3 n13) (x4 + (nI 1)) I else some I
def f_X7_strikesFirst (F : Nat) (sh : SH) (x1 : Nat) (x2 : Int32) (I : II) : Option II := ockD sh x1 <| orf (sh.2.2 x1 4) fun t1 => ock sh t1 23 <| orf (sh.2.2 t1 0) fun t4 => oarw sh t4 100 fun nh3 => oix x2 nh3 fun i8 => f_X7_strikesFirst_L13 F sh x1 x2 (I t4 i8) F (nI 1) I
abbrev rm_X7_strikesFirst : Room := { frames := 3, cells := 0, slots := 0, locals := 69 }
theorem mv_X7_strikesFirst_ok : callOK yX7_strikesFirst 2 := by decide +kernel
theorem mv_X7_strikesFirst : MV yX7_strikesFirst cX7_strikesFirst 5 none 2 := ⟨q1561, qs33, q104, q1562, mv_X7_strikesFirst_ok⟩
set_option maxHeartbeats 4000000 in
theorem ct_X7_strikesFirst {G : WG} {l : Launch} {sh : SH} (hS : stN sh) {I : II} {F : Nat} {x1 : Nat} {x2 : Int32} {Z : II} (hk : f_X7_strikesFirst F sh x1 x2 I = some Z) : CT G l yX7_strikesFirst (ws_ yX7_strikesFirst cX7_strikesFirst 5 none) rm_X7_strikesFirst [.ref (wad G 17), .ref (wad G x1), .int x2] (sh, I) (.returned none) (sh, Z) := by
  refine CT.ofJ "NineDemands$Showing" rfl (by decide) (Nat.le_of_ble_eq_true rfl) ?_
  intro p e s m args below meth c C
  unfold f_X7_strikesFirst at hk
  refine j_lv (lv' := [some (.ref (wad G 17)), some (.ref (wad G x1)), some (.int x2), none, none]) rfl ?_
  refine j_aload_n (pc := 0) C dX7_strikesFirst_0 rfl rfl ?_
  replace hk := ockD_some hk
  obtain ⟨ch1, ch1h, h1, hk⟩ := hk
  replace hk := orf_some hk
  obtain ⟨t1, et1, hk⟩ := hk
  refine x_getR (pc := 1) C (fdD_4 ch1h) (fl1 C q568) h1 et1 dX7_strikesFirst_1 ?_
  replace hk := ock_some hk
  obtain ⟨h2, hk⟩ := hk
  replace hk := orf_some hk
  obtain ⟨t4, et4, hk⟩ := hk
  refine x_getR (pc := 4) C fd_23_0 (fl3 C q1122) h2 et4 dX7_strikesFirst_4 ?_
  refine j_iload_n (pc := 7) C dX7_strikesFirst_7 rfl rfl ?_
  replace hk := oarw_some hk
  obtain ⟨nh3, h3, hk⟩ := hk
  replace hk := oix_ex hk
  obtain ⟨i8, e8, h4, hk⟩ := hk
  refine j_iald (pc := 8) C h3 h4 e8 dX7_strikesFirst_8 ?_
  refine j_istore_n (pc := 9) C dX7_strikesFirst_9 rfl (Nat.le_of_ble_eq_true rfl) rfl ?_
  refine j_iconst (pc := 10) (v := nI 1) C dX7_strikesFirst_10 (by decide) ?_
  refine j_istore (pc := 11) C dX7_strikesFirst_11 (Nat.le_of_ble_eq_true rfl) rfl ?_
  have L13 : ∀ (x1 : Nat) (x2 : Int32) (x3 : Int32) (n13 : Nat) (x4 : Int32) (I : II), f_X7_strikesFirst_L13 F sh x1 x2 x3 n13 x4 I = some Z → J G p l e rm_X7_strikesFirst s m args below meth c 5 (.returned none) (sh, Z) (rm_X7_strikesFirst).cells (rm_X7_strikesFirst).slots (sh, I) 0 0 13 [some (.ref (wad G 17)), some (.ref (wad G x1)), some (.int x2), some (.int x3), some (.int x4)] [] := by
    intro x1 x2 x3 n13
    induction n13 with
    | zero => intro x4 I hk; rw [f_X7_strikesFirst_L13] at hk; cases hk
    | succ n13 ih13 =>
      intro x4 I hk
      rw [f_X7_strikesFirst_L13] at hk
      generalize f_X7_strikesFirst_L13 F sh x1 x2 x3 n13 = k13 at ih13 hk
      refine j_iload (pc := 13) C dX7_strikesFirst_13 rfl ?_
      refine j_iconst (pc := 15) (v := nI 3) C dX7_strikesFirst_15 (by decide) ?_
      refine j_icmp_gt (pc := 16) 65 C dX7_strikesFirst_16 (by decide) (fun h5 => ?_) (fun h5 => ?_)
      · replace hk := it_t h5 hk
        obtain rfl := Option.some.inj hk
        exact j_vret (pc := 65) C dX7_strikesFirst_65 (Nat.le_of_ble_eq_true rfl) (Nat.le_of_ble_eq_true rfl)
      · replace hk := it_f h5 hk
        refine j_aload_n (pc := 19) C dX7_strikesFirst_19 rfl rfl ?_
        refine x_getI (pc := 20) C fd_8_3 (fl1 C q350) (stN_o17 hS).r dX7_strikesFirst_20 ?_
        refine j_if_ne (pc := 23) 65 C dX7_strikesFirst_23 (by decide) (fun h6 => ?_) (fun h6 => ?_)
        · replace hk := it_f h6 hk
          obtain rfl := Option.some.inj hk
          exact j_vret (pc := 65) C dX7_strikesFirst_65 (Nat.le_of_ble_eq_true rfl) (Nat.le_of_ble_eq_true rfl)
        · replace hk := it_t h6 hk
          refine j_aload_n (pc := 26) C dX7_strikesFirst_26 rfl rfl ?_
          refine x_getR (pc := 27) C fd_8_1 (fl1 C q347) (stN_o17 hS).r (stN_r17_1 hS) dX7_strikesFirst_27 ?_
          refine j_iload_n (pc := 30) C dX7_strikesFirst_30 rfl rfl ?_
          replace hk := oix_ex hk
          obtain ⟨i31, e31, h7, hk⟩ := hk
          refine j_iald (pc := 31) C (stN_a19 hS) h7 e31 dX7_strikesFirst_31 ?_
          refine j_iload (pc := 32) C dX7_strikesFirst_32 rfl ?_
          replace hk := ob_some hk
          obtain ⟨r34, h8, hk⟩ := hk
          refine x_callSN (pc := 34) C (ct_X0_has h8) ms_X0_has q1552 dX7_strikesFirst_34 rfl rfl (Nat.le_of_ble_eq_true rfl) rfl ?_
          refine j_if_eq (pc := 37) 59 C dX7_strikesFirst_37 (by decide) (fun h9 => ?_) (fun h9 => ?_)
          · replace hk := it_t h9 hk
            refine j_iinc (pc := 59) (nI 1) C dX7_strikesFirst_59 rfl (by decide) (Nat.le_of_ble_eq_true rfl) rfl ?_
            refine j_goto (pc := 62) 13 C dX7_strikesFirst_62 (by decide) ?_
            exact j_mask [true, true, true, true, true] (ih13 _ _ hk)
          · replace hk := it_f h9 hk
            refine j_aload_n (pc := 40) C dX7_strikesFirst_40 rfl rfl ?_
            refine j_aload_n (pc := 41) C dX7_strikesFirst_41 rfl rfl ?_
            refine j_iload_n (pc := 42) C dX7_strikesFirst_42 rfl rfl ?_
            refine j_iload (pc := 43) C dX7_strikesFirst_43 rfl ?_
            replace hk := ob_some hk
            obtain ⟨r45, h10, hk⟩ := hk
            refine x_callV (pc := 45) C (ct_X7_goesFirst hS h10) mv_X7_goesFirst (stN_o17 hS).r rfl rfl q1563 dX7_strikesFirst_45 rfl rfl (Nat.le_of_ble_eq_true rfl) rfl ?_
            refine j_if_ne (pc := 48) 59 C dX7_strikesFirst_48 (by decide) (fun h11 => ?_) (fun h11 => ?_)
            · replace hk := it_f h11 hk
              refine j_iinc (pc := 59) (nI 1) C dX7_strikesFirst_59 rfl (by decide) (Nat.le_of_ble_eq_true rfl) rfl ?_
              refine j_goto (pc := 62) 13 C dX7_strikesFirst_62 (by decide) ?_
              exact j_mask [true, true, true, true, true] (ih13 _ _ hk)
            · replace hk := it_t h11 hk
              refine j_aload_n (pc := 51) C dX7_strikesFirst_51 rfl rfl ?_
              refine j_aload_n (pc := 52) C dX7_strikesFirst_52 rfl rfl ?_
              refine j_iload_n (pc := 53) C dX7_strikesFirst_53 rfl rfl ?_
              refine j_iload (pc := 54) C dX7_strikesFirst_54 rfl ?_
              replace hk := ob_some hk
              obtain ⟨I56, h12, hk⟩ := hk
              refine x_callV (pc := 56) C (ct_X7_strike hS h12) mv_X7_strike (stN_o17 hS).r rfl rfl q1569 dX7_strikesFirst_56 rfl rfl (Nat.le_of_ble_eq_true rfl) rfl ?_
              refine j_iinc (pc := 59) (nI 1) C dX7_strikesFirst_59 rfl (by decide) (Nat.le_of_ble_eq_true rfl) rfl ?_
              refine j_goto (pc := 62) 13 C dX7_strikesFirst_62 (by decide) ?_
              exact j_mask [true, true, true, true, true] (ih13 _ _ hk)
  exact j_mask [true, true, true, true, true] (L13 _ _ _ _ _ _ hk)
def f_X7_strikesSecond_L13 (F : Nat) (sh : SH) (x1 : Nat) (x2 : Int32) (x3 : Int32) : Nat → Int32 → II → Option II
  | 0, _, _ => none
  | n13 + 1, x4, I => if (nI 3) < x4 then some I else if (I 17 3) = 0 then oix x3 12 fun i31 => (f_X0_has (I 19 i31) x4).bind fun r34 => if r34 = 0 then (f_X7_strikesSecond_L13 F sh x1 x2 x3 n13) (x4 + (nI 1)) I else (f_X7_goesSecond F sh x1 x2 x4 I).bind fun r45 => if r45 = 0 then (f_X7_strike sh x1 x3 x4 I).bind fun I56 => (f_X7_strikesSecond_L13 F sh x1 x2 x3 n13) (x4 + (nI 1)) I56 else (f_X7_strikesSecond_L13 F sh x1 x2 x3 n13) (x4 + (nI 1)) I else some I
def f_X7_strikesSecond (F : Nat) (sh : SH) (x1 : Nat) (x2 : Int32) (I : II) : Option II := ockD sh x1 <| orf (sh.2.2 x1 4) fun t1 => ock sh t1 23 <| orf (sh.2.2 t1 1) fun t4 => oarw sh t4 100 fun nh3 => oix x2 nh3 fun i8 => f_X7_strikesSecond_L13 F sh x1 x2 (I t4 i8) F (nI 1) I
abbrev rm_X7_strikesSecond : Room := { frames := 3, cells := 0, slots := 0, locals := 69 }
theorem mv_X7_strikesSecond_ok : callOK yX7_strikesSecond 2 := by decide +kernel
theorem mv_X7_strikesSecond : MV yX7_strikesSecond cX7_strikesSecond 5 none 2 := ⟨q1575, qs35, q104, q1576, mv_X7_strikesSecond_ok⟩
set_option maxHeartbeats 4000000 in
theorem ct_X7_strikesSecond {G : WG} {l : Launch} {sh : SH} (hS : stN sh) {I : II} {F : Nat} {x1 : Nat} {x2 : Int32} {Z : II} (hk : f_X7_strikesSecond F sh x1 x2 I = some Z) : CT G l yX7_strikesSecond (ws_ yX7_strikesSecond cX7_strikesSecond 5 none) rm_X7_strikesSecond [.ref (wad G 17), .ref (wad G x1), .int x2] (sh, I) (.returned none) (sh, Z) := by
  refine CT.ofJ "NineDemands$Showing" rfl (by decide) (Nat.le_of_ble_eq_true rfl) ?_
  intro p e s m args below meth c C
  unfold f_X7_strikesSecond at hk
  refine j_lv (lv' := [some (.ref (wad G 17)), some (.ref (wad G x1)), some (.int x2), none, none]) rfl ?_
  refine j_aload_n (pc := 0) C dX7_strikesSecond_0 rfl rfl ?_
  replace hk := ockD_some hk
  obtain ⟨ch1, ch1h, h1, hk⟩ := hk
  replace hk := orf_some hk
  obtain ⟨t1, et1, hk⟩ := hk
  refine x_getR (pc := 1) C (fdD_4 ch1h) (fl1 C q568) h1 et1 dX7_strikesSecond_1 ?_
  replace hk := ock_some hk
  obtain ⟨h2, hk⟩ := hk
  replace hk := orf_some hk
  obtain ⟨t4, et4, hk⟩ := hk
  refine x_getR (pc := 4) C fd_23_1 (fl3 C q1128) h2 et4 dX7_strikesSecond_4 ?_
  refine j_iload_n (pc := 7) C dX7_strikesSecond_7 rfl rfl ?_
  replace hk := oarw_some hk
  obtain ⟨nh3, h3, hk⟩ := hk
  replace hk := oix_ex hk
  obtain ⟨i8, e8, h4, hk⟩ := hk
  refine j_iald (pc := 8) C h3 h4 e8 dX7_strikesSecond_8 ?_
  refine j_istore_n (pc := 9) C dX7_strikesSecond_9 rfl (Nat.le_of_ble_eq_true rfl) rfl ?_
  refine j_iconst (pc := 10) (v := nI 1) C dX7_strikesSecond_10 (by decide) ?_
  refine j_istore (pc := 11) C dX7_strikesSecond_11 (Nat.le_of_ble_eq_true rfl) rfl ?_
  have L13 : ∀ (x1 : Nat) (x2 : Int32) (x3 : Int32) (n13 : Nat) (x4 : Int32) (I : II), f_X7_strikesSecond_L13 F sh x1 x2 x3 n13 x4 I = some Z → J G p l e rm_X7_strikesSecond s m args below meth c 5 (.returned none) (sh, Z) (rm_X7_strikesSecond).cells (rm_X7_strikesSecond).slots (sh, I) 0 0 13 [some (.ref (wad G 17)), some (.ref (wad G x1)), some (.int x2), some (.int x3), some (.int x4)] [] := by
    intro x1 x2 x3 n13
    induction n13 with
    | zero => intro x4 I hk; rw [f_X7_strikesSecond_L13] at hk; cases hk
    | succ n13 ih13 =>
      intro x4 I hk
      rw [f_X7_strikesSecond_L13] at hk
      generalize f_X7_strikesSecond_L13 F sh x1 x2 x3 n13 = k13 at ih13 hk
      refine j_iload (pc := 13) C dX7_strikesSecond_13 rfl ?_
      refine j_iconst (pc := 15) (v := nI 3) C dX7_strikesSecond_15 (by decide) ?_
      refine j_icmp_gt (pc := 16) 65 C dX7_strikesSecond_16 (by decide) (fun h5 => ?_) (fun h5 => ?_)
      · replace hk := it_t h5 hk
        obtain rfl := Option.some.inj hk
        exact j_vret (pc := 65) C dX7_strikesSecond_65 (Nat.le_of_ble_eq_true rfl) (Nat.le_of_ble_eq_true rfl)
      · replace hk := it_f h5 hk
        refine j_aload_n (pc := 19) C dX7_strikesSecond_19 rfl rfl ?_
        refine x_getI (pc := 20) C fd_8_3 (fl1 C q350) (stN_o17 hS).r dX7_strikesSecond_20 ?_
        refine j_if_ne (pc := 23) 65 C dX7_strikesSecond_23 (by decide) (fun h6 => ?_) (fun h6 => ?_)
        · replace hk := it_f h6 hk
          obtain rfl := Option.some.inj hk
          exact j_vret (pc := 65) C dX7_strikesSecond_65 (Nat.le_of_ble_eq_true rfl) (Nat.le_of_ble_eq_true rfl)
        · replace hk := it_t h6 hk
          refine j_aload_n (pc := 26) C dX7_strikesSecond_26 rfl rfl ?_
          refine x_getR (pc := 27) C fd_8_1 (fl1 C q347) (stN_o17 hS).r (stN_r17_1 hS) dX7_strikesSecond_27 ?_
          refine j_iload_n (pc := 30) C dX7_strikesSecond_30 rfl rfl ?_
          replace hk := oix_ex hk
          obtain ⟨i31, e31, h7, hk⟩ := hk
          refine j_iald (pc := 31) C (stN_a19 hS) h7 e31 dX7_strikesSecond_31 ?_
          refine j_iload (pc := 32) C dX7_strikesSecond_32 rfl ?_
          replace hk := ob_some hk
          obtain ⟨r34, h8, hk⟩ := hk
          refine x_callSN (pc := 34) C (ct_X0_has h8) ms_X0_has q1552 dX7_strikesSecond_34 rfl rfl (Nat.le_of_ble_eq_true rfl) rfl ?_
          refine j_if_eq (pc := 37) 59 C dX7_strikesSecond_37 (by decide) (fun h9 => ?_) (fun h9 => ?_)
          · replace hk := it_t h9 hk
            refine j_iinc (pc := 59) (nI 1) C dX7_strikesSecond_59 rfl (by decide) (Nat.le_of_ble_eq_true rfl) rfl ?_
            refine j_goto (pc := 62) 13 C dX7_strikesSecond_62 (by decide) ?_
            exact j_mask [true, true, true, true, true] (ih13 _ _ hk)
          · replace hk := it_f h9 hk
            refine j_aload_n (pc := 40) C dX7_strikesSecond_40 rfl rfl ?_
            refine j_aload_n (pc := 41) C dX7_strikesSecond_41 rfl rfl ?_
            refine j_iload_n (pc := 42) C dX7_strikesSecond_42 rfl rfl ?_
            refine j_iload (pc := 43) C dX7_strikesSecond_43 rfl ?_
            replace hk := ob_some hk
            obtain ⟨r45, h10, hk⟩ := hk
            refine x_callV (pc := 45) C (ct_X7_goesSecond hS h10) mv_X7_goesSecond (stN_o17 hS).r rfl rfl q1577 dX7_strikesSecond_45 rfl rfl (Nat.le_of_ble_eq_true rfl) rfl ?_
            refine j_if_ne (pc := 48) 59 C dX7_strikesSecond_48 (by decide) (fun h11 => ?_) (fun h11 => ?_)
            · replace hk := it_f h11 hk
              refine j_iinc (pc := 59) (nI 1) C dX7_strikesSecond_59 rfl (by decide) (Nat.le_of_ble_eq_true rfl) rfl ?_
              refine j_goto (pc := 62) 13 C dX7_strikesSecond_62 (by decide) ?_
              exact j_mask [true, true, true, true, true] (ih13 _ _ hk)
            · replace hk := it_t h11 hk
              refine j_aload_n (pc := 51) C dX7_strikesSecond_51 rfl rfl ?_
              refine j_aload_n (pc := 52) C dX7_strikesSecond_52 rfl rfl ?_
              refine j_iload_n (pc := 53) C dX7_strikesSecond_53 rfl rfl ?_
              refine j_iload (pc := 54) C dX7_strikesSecond_54 rfl ?_
              replace hk := ob_some hk
              obtain ⟨I56, h12, hk⟩ := hk
              refine x_callV (pc := 56) C (ct_X7_strike hS h12) mv_X7_strike (stN_o17 hS).r rfl rfl q1569 dX7_strikesSecond_56 rfl rfl (Nat.le_of_ble_eq_true rfl) rfl ?_
              refine j_iinc (pc := 59) (nI 1) C dX7_strikesSecond_59 rfl (by decide) (Nat.le_of_ble_eq_true rfl) rfl ?_
              refine j_goto (pc := 62) 13 C dX7_strikesSecond_62 (by decide) ?_
              exact j_mask [true, true, true, true, true] (ih13 _ _ hk)
  exact j_mask [true, true, true, true, true] (L13 _ _ _ _ _ _ hk)
def f_X7_strikes_L2 (F : Nat) (sh : SH) (x1 : Nat) : Nat → Int32 → II → Option II
  | 0, _, _ => none
  | n2 + 1, x2, I => ockD sh x1 <| orf (sh.2.2 x1 4) fun t4 => ock sh t4 23 <| if (I t4 4) ≤ x2 then some I else if (I 17 3) = 0 then (f_X7_strikesFirst F sh x1 x2 I).bind fun I23 => orf (sh.2.2 x1 4) fun t27 => ock sh t27 23 <| (f_X23_isPair sh t27 x2 I23).bind fun r31 => if r31 = 0 then (f_X7_strikes_L2 F sh x1 n2) (x2 + (nI 1)) I23 else if (I23 17 3) = 0 then (f_X7_strikesSecond F sh x1 x2 I23).bind fun I47 => (f_X7_strikes_L2 F sh x1 n2) (x2 + (nI 1)) I47 else (f_X7_strikes_L2 F sh x1 n2) (x2 + (nI 1)) I23 else some I
def f_X7_strikes (F : Nat) (sh : SH) (x1 : Nat) (I : II) : Option II := f_X7_strikes_L2 F sh x1 F (nI 0) I
abbrev rm_X7_strikes : Room := { frames := 4, cells := 0, slots := 0, locals := 93 }
theorem mv_X7_strikes_ok : callOK yX7_strikes 1 := by decide +kernel
theorem mv_X7_strikes : MV yX7_strikes cX7_strikes 3 none 1 := ⟨q1557, qs32, q104, q1558, mv_X7_strikes_ok⟩
set_option maxHeartbeats 4000000 in
theorem ct_X7_strikes {G : WG} {l : Launch} {sh : SH} (hS : stN sh) {I : II} {F : Nat} {x1 : Nat} {Z : II} (hk : f_X7_strikes F sh x1 I = some Z) : CT G l yX7_strikes (ws_ yX7_strikes cX7_strikes 3 none) rm_X7_strikes [.ref (wad G 17), .ref (wad G x1)] (sh, I) (.returned none) (sh, Z) := by
  refine CT.ofJ "NineDemands$Showing" rfl (by decide) (Nat.le_of_ble_eq_true rfl) ?_
  intro p e s m args below meth c C
  unfold f_X7_strikes at hk
  refine j_lv (lv' := [some (.ref (wad G 17)), some (.ref (wad G x1)), none]) rfl ?_
  refine j_iconst (pc := 0) (v := nI 0) C dX7_strikes_0 (by decide) ?_
  refine j_istore_n (pc := 1) C dX7_strikes_1 rfl (Nat.le_of_ble_eq_true rfl) rfl ?_
  have L2 : ∀ (x1 : Nat) (n2 : Nat) (x2 : Int32) (I : II), f_X7_strikes_L2 F sh x1 n2 x2 I = some Z → J G p l e rm_X7_strikes s m args below meth c 3 (.returned none) (sh, Z) (rm_X7_strikes).cells (rm_X7_strikes).slots (sh, I) 0 0 2 [some (.ref (wad G 17)), some (.ref (wad G x1)), some (.int x2)] [] := by
    intro x1 n2
    induction n2 with
    | zero => intro x2 I hk; rw [f_X7_strikes_L2] at hk; cases hk
    | succ n2 ih2 =>
      intro x2 I hk
      rw [f_X7_strikes_L2] at hk
      generalize f_X7_strikes_L2 F sh x1 n2 = k2 at ih2 hk
      refine j_iload_n (pc := 2) C dX7_strikes_2 rfl rfl ?_
      refine j_aload_n (pc := 3) C dX7_strikes_3 rfl rfl ?_
      replace hk := ockD_some hk
      obtain ⟨ch1, ch1h, h1, hk⟩ := hk
      replace hk := orf_some hk
      obtain ⟨t4, et4, hk⟩ := hk
      refine x_getR (pc := 4) C (fdD_4 ch1h) (fl1 C q568) h1 et4 dX7_strikes_4 ?_
      replace hk := ock_some hk
      obtain ⟨h2, hk⟩ := hk
      refine x_getI (pc := 7) C fd_23_4 (fl3 C q1140) h2 dX7_strikes_7 ?_
      refine j_icmp_ge (pc := 10) 56 C dX7_strikes_10 (by decide) (fun h3 => ?_) (fun h3 => ?_)
      · replace hk := it_t h3 hk
        obtain rfl := Option.some.inj hk
        exact j_vret (pc := 56) C dX7_strikes_56 (Nat.le_of_ble_eq_true rfl) (Nat.le_of_ble_eq_true rfl)
      · replace hk := it_f h3 hk
        refine j_aload_n (pc := 13) C dX7_strikes_13 rfl rfl ?_
        refine x_getI (pc := 14) C fd_8_3 (fl1 C q350) (stN_o17 hS).r dX7_strikes_14 ?_
        refine j_if_ne (pc := 17) 56 C dX7_strikes_17 (by decide) (fun h4 => ?_) (fun h4 => ?_)
        · replace hk := it_f h4 hk
          obtain rfl := Option.some.inj hk
          exact j_vret (pc := 56) C dX7_strikes_56 (Nat.le_of_ble_eq_true rfl) (Nat.le_of_ble_eq_true rfl)
        · replace hk := it_t h4 hk
          refine j_aload_n (pc := 20) C dX7_strikes_20 rfl rfl ?_
          refine j_aload_n (pc := 21) C dX7_strikes_21 rfl rfl ?_
          refine j_iload_n (pc := 22) C dX7_strikes_22 rfl rfl ?_
          replace hk := ob_some hk
          obtain ⟨I23, h5, hk⟩ := hk
          refine x_callV (pc := 23) C (ct_X7_strikesFirst hS h5) mv_X7_strikesFirst (stN_o17 hS).r rfl rfl q1559 dX7_strikes_23 rfl rfl (Nat.le_of_ble_eq_true rfl) rfl ?_
          refine j_aload_n (pc := 26) C dX7_strikes_26 rfl rfl ?_
          replace hk := orf_some hk
          obtain ⟨t27, et27, hk⟩ := hk
          refine x_getR (pc := 27) C (fdD_4 ch1h) (fl1 C q568) h1 et27 dX7_strikes_27 ?_
          refine j_iload_n (pc := 30) C dX7_strikes_30 rfl rfl ?_
          replace hk := ock_some hk
          obtain ⟨h6, hk⟩ := hk
          replace hk := ob_some hk
          obtain ⟨r31, h7, hk⟩ := hk
          refine x_callV (pc := 31) C (ct_X23_isPair hS h7) mv_X23_isPair h6 rfl rfl q1567 dX7_strikes_31 rfl rfl (Nat.le_of_ble_eq_true rfl) rfl ?_
          refine j_if_eq (pc := 34) 50 C dX7_strikes_34 (by decide) (fun h8 => ?_) (fun h8 => ?_)
          · replace hk := it_t h8 hk
            refine j_iinc (pc := 50) (nI 1) C dX7_strikes_50 rfl (by decide) (Nat.le_of_ble_eq_true rfl) rfl ?_
            refine j_goto (pc := 53) 2 C dX7_strikes_53 (by decide) ?_
            exact j_mask [true, true, true] (ih2 _ _ hk)
          · replace hk := it_f h8 hk
            refine j_aload_n (pc := 37) C dX7_strikes_37 rfl rfl ?_
            refine x_getI (pc := 38) C fd_8_3 (fl1 C q350) (stN_o17 hS).r dX7_strikes_38 ?_
            refine j_if_ne (pc := 41) 50 C dX7_strikes_41 (by decide) (fun h9 => ?_) (fun h9 => ?_)
            · replace hk := it_f h9 hk
              refine j_iinc (pc := 50) (nI 1) C dX7_strikes_50 rfl (by decide) (Nat.le_of_ble_eq_true rfl) rfl ?_
              refine j_goto (pc := 53) 2 C dX7_strikes_53 (by decide) ?_
              exact j_mask [true, true, true] (ih2 _ _ hk)
            · replace hk := it_t h9 hk
              refine j_aload_n (pc := 44) C dX7_strikes_44 rfl rfl ?_
              refine j_aload_n (pc := 45) C dX7_strikes_45 rfl rfl ?_
              refine j_iload_n (pc := 46) C dX7_strikes_46 rfl rfl ?_
              replace hk := ob_some hk
              obtain ⟨I47, h10, hk⟩ := hk
              refine x_callV (pc := 47) C (ct_X7_strikesSecond hS h10) mv_X7_strikesSecond (stN_o17 hS).r rfl rfl q1573 dX7_strikes_47 rfl rfl (Nat.le_of_ble_eq_true rfl) rfl ?_
              refine j_iinc (pc := 50) (nI 1) C dX7_strikes_50 rfl (by decide) (Nat.le_of_ble_eq_true rfl) rfl ?_
              refine j_goto (pc := 53) 2 C dX7_strikes_53 (by decide) ?_
              exact j_mask [true, true, true] (ih2 _ _ hk)
  exact j_mask [true, true, true] (L2 _ _ _ _ hk)
def f_X7_shows_J70 (F : Nat) (sh : SH) (k6 : Int32 → II → Option II) (x1 : Nat) (x2 : Int32) (x4 : Int32) (I : II) : Option II := if (I 17 2) ≤ x4 then k6 (nI 0) I else k6 (nI 1) I
def f_X7_shows_L26 (F : Nat) (sh : SH) (k6 : Int32 → II → Option II) (x1 : Nat) (x2 : Int32) (x4 : Int32) : Nat → Int32 → II → Option II
  | 0, _, _ => none
  | n26 + 1, x5, I => ock sh x1 3 <| (f_J5_size sh x1 I).bind fun r29 => if r29 ≤ x5 then f_X7_shows_J70 F sh k6 x1 x2 x4 I else if (I 17 3) = 0 then (f_X0_has x2 x5).bind fun r45 => if r45 = 0 then (f_X7_shows_L26 F sh k6 x1 x2 x4 n26) (x5 + (nI 1)) I else (f_J5_get sh x1 x5 I).bind fun a55 => ockD sh a55 <| (f_X7_strikes F sh a55 I).bind fun I61 => (f_X7_shows_L26 F sh k6 x1 x2 x4 n26) (x5 + (nI 1)) I61 else f_X7_shows_J70 F sh k6 x1 x2 x4 I
def f_X7_shows_L6 (F : Nat) (sh : SH) (x1 : Nat) (x2 : Int32) : Nat → Int32 → II → Option II
  | 0, _, _ => none
  | n6 + 1, x3, I => if x3 = 0 then some I else if (I 17 3) = 0 then f_X7_shows_L26 F sh (f_X7_shows_L6 F sh x1 x2 n6) x1 x2 (I 17 2) F (nI 0) I else some I
def f_X7_shows (F : Nat) (sh : SH) (x1 : Nat) (x2 : Int32) (I : II) : Option II := (f_X7_begin F sh I).bind fun I1 => f_X7_shows_L6 F sh x1 x2 F (nI 1) I1
abbrev rm_X7_shows : Room := { frames := 5, cells := 0, slots := 0, locals := 115 }
theorem mv_X7_shows_ok : callOK yX7_shows 2 := by decide +kernel
theorem mv_X7_shows : MV yX7_shows cX7_shows 6 none 2 := ⟨q1544, q1545, q104, q1546, mv_X7_shows_ok⟩
set_option maxHeartbeats 4000000 in
theorem ct_X7_shows {G : WG} {l : Launch} {sh : SH} (hS : stN sh) {I : II} {F : Nat} {x1 : Nat} {x2 : Int32} {Z : II} (hk : f_X7_shows F sh x1 x2 I = some Z) : CT G l yX7_shows (ws_ yX7_shows cX7_shows 6 none) rm_X7_shows [.ref (wad G 17), .ref (wad G x1), .int x2] (sh, I) (.returned none) (sh, Z) := by
  refine CT.ofJ "NineDemands$Showing" rfl (by decide) (Nat.le_of_ble_eq_true rfl) ?_
  intro p e s m args below meth c C
  unfold f_X7_shows at hk
  refine j_lv (lv' := [some (.ref (wad G 17)), some (.ref (wad G x1)), some (.int x2), none, none, none]) rfl ?_
  refine j_aload_n (pc := 0) C dX7_shows_0 rfl rfl ?_
  replace hk := ob_some hk
  obtain ⟨I1, h1, hk⟩ := hk
  refine x_callV (pc := 1) C (ct_X7_begin hS h1) mv_X7_begin (stN_o17 hS).r rfl rfl q1547 dX7_shows_1 rfl rfl (Nat.le_of_ble_eq_true rfl) rfl ?_
  refine j_iconst (pc := 4) (v := nI 1) C dX7_shows_4 (by decide) ?_
  refine j_istore_n (pc := 5) C dX7_shows_5 rfl (Nat.le_of_ble_eq_true rfl) rfl ?_
  have L6 : ∀ (x1 : Nat) (x2 : Int32) (n6 : Nat) (x3 : Int32) (I : II), f_X7_shows_L6 F sh x1 x2 n6 x3 I = some Z → J G p l e rm_X7_shows s m args below meth c 6 (.returned none) (sh, Z) (rm_X7_shows).cells (rm_X7_shows).slots (sh, I) 0 0 6 [some (.ref (wad G 17)), some (.ref (wad G x1)), some (.int x2), some (.int x3), none, none] [] := by
    intro x1 x2 n6
    induction n6 with
    | zero => intro x3 I hk; rw [f_X7_shows_L6] at hk; cases hk
    | succ n6 ih6 =>
      intro x3 I hk
      rw [f_X7_shows_L6] at hk
      generalize f_X7_shows_L6 F sh x1 x2 n6 = k6 at ih6 hk
      refine j_iload_n (pc := 6) C dX7_shows_6 rfl rfl ?_
      refine j_if_eq (pc := 7) 88 C dX7_shows_7 (by decide) (fun h2 => ?_) (fun h2 => ?_)
      · replace hk := it_t h2 hk
        obtain rfl := Option.some.inj hk
        exact j_vret (pc := 88) C dX7_shows_88 (Nat.le_of_ble_eq_true rfl) (Nat.le_of_ble_eq_true rfl)
      · replace hk := it_f h2 hk
        refine j_aload_n (pc := 10) C dX7_shows_10 rfl rfl ?_
        refine x_getI (pc := 11) C fd_8_3 (fl1 C q350) (stN_o17 hS).r dX7_shows_11 ?_
        refine j_if_ne (pc := 14) 88 C dX7_shows_14 (by decide) (fun h3 => ?_) (fun h3 => ?_)
        · replace hk := it_f h3 hk
          obtain rfl := Option.some.inj hk
          exact j_vret (pc := 88) C dX7_shows_88 (Nat.le_of_ble_eq_true rfl) (Nat.le_of_ble_eq_true rfl)
        · replace hk := it_t h3 hk
          refine j_aload_n (pc := 17) C dX7_shows_17 rfl rfl ?_
          refine x_getI (pc := 18) C fd_8_2 (fl1 C q348) (stN_o17 hS).r dX7_shows_18 ?_
          refine j_istore (pc := 21) C dX7_shows_21 (Nat.le_of_ble_eq_true rfl) rfl ?_
          refine j_iconst (pc := 23) (v := nI 0) C dX7_shows_23 (by decide) ?_
          refine j_istore (pc := 24) C dX7_shows_24 (Nat.le_of_ble_eq_true rfl) rfl ?_
          have L26 : ∀ (x4 : Int32) (n26 : Nat) (x5 : Int32) (I : II), f_X7_shows_L26 F sh k6 x1 x2 x4 n26 x5 I = some Z → J G p l e rm_X7_shows s m args below meth c 6 (.returned none) (sh, Z) (rm_X7_shows).cells (rm_X7_shows).slots (sh, I) 0 0 26 [some (.ref (wad G 17)), some (.ref (wad G x1)), some (.int x2), none, some (.int x4), some (.int x5)] [] := by
            intro x4 n26
            induction n26 with
            | zero => intro x5 I hk; rw [f_X7_shows_L26] at hk; cases hk
            | succ n26 ih26 =>
              intro x5 I hk
              rw [f_X7_shows_L26] at hk
              generalize f_X7_shows_L26 F sh k6 x1 x2 x4 n26 = k26 at ih26 hk
              refine j_iload (pc := 26) C dX7_shows_26 rfl ?_
              refine j_aload_n (pc := 28) C dX7_shows_28 rfl rfl ?_
              replace hk := ock_some hk
              obtain ⟨h4, hk⟩ := hk
              replace hk := ob_some hk
              obtain ⟨r29, h5, hk⟩ := hk
              refine x_callV (pc := 29) C (ct_J5_size h5) mv_J5_size h4 rfl rfl q1551 dX7_shows_29 rfl rfl (Nat.le_of_ble_eq_true rfl) rfl ?_
              have Jn70 : ∀ (x4 : Int32) (I : II), f_X7_shows_J70 F sh k6 x1 x2 x4 I = some Z → J G p l e rm_X7_shows s m args below meth c 6 (.returned none) (sh, Z) (rm_X7_shows).cells (rm_X7_shows).slots (sh, I) 0 0 70 [some (.ref (wad G 17)), some (.ref (wad G x1)), some (.int x2), none, some (.int x4), none] [] := by
                intro x4 I hk
                unfold f_X7_shows_J70 at hk
                refine j_aload_n (pc := 70) C dX7_shows_70 rfl rfl ?_
                refine x_getI (pc := 71) C fd_8_2 (fl1 C q348) (stN_o17 hS).r dX7_shows_71 ?_
                refine j_iload (pc := 74) C dX7_shows_74 rfl ?_
                refine j_icmp_le (pc := 76) 83 C dX7_shows_76 (by decide) (fun h6 => ?_) (fun h6 => ?_)
                · replace hk := it_t h6 hk
                  refine j_iconst (pc := 83) (v := nI 0) C dX7_shows_83 (by decide) ?_
                  refine j_istore_n (pc := 84) C dX7_shows_84 rfl (Nat.le_of_ble_eq_true rfl) rfl ?_
                  refine j_goto (pc := 85) 6 C dX7_shows_85 (by decide) ?_
                  exact j_mask [true, true, true, true, false, false] (ih6 _ _ hk)
                · replace hk := it_f h6 hk
                  refine j_iconst (pc := 79) (v := nI 1) C dX7_shows_79 (by decide) ?_
                  refine j_goto (pc := 80) 84 C dX7_shows_80 (by decide) ?_
                  refine j_istore_n (pc := 84) C dX7_shows_84 rfl (Nat.le_of_ble_eq_true rfl) rfl ?_
                  refine j_goto (pc := 85) 6 C dX7_shows_85 (by decide) ?_
                  exact j_mask [true, true, true, true, false, false] (ih6 _ _ hk)
              refine j_icmp_ge (pc := 32) 70 C dX7_shows_32 (by decide) (fun h7 => ?_) (fun h7 => ?_)
              · replace hk := it_t h7 hk
                exact j_mask [true, true, true, false, true, false] (Jn70 _ _ hk)
              · replace hk := it_f h7 hk
                refine j_aload_n (pc := 35) C dX7_shows_35 rfl rfl ?_
                refine x_getI (pc := 36) C fd_8_3 (fl1 C q350) (stN_o17 hS).r dX7_shows_36 ?_
                refine j_if_ne (pc := 39) 70 C dX7_shows_39 (by decide) (fun h8 => ?_) (fun h8 => ?_)
                · replace hk := it_f h8 hk
                  exact j_mask [true, true, true, false, true, false] (Jn70 _ _ hk)
                · replace hk := it_t h8 hk
                  refine j_iload_n (pc := 42) C dX7_shows_42 rfl rfl ?_
                  refine j_iload (pc := 43) C dX7_shows_43 rfl ?_
                  replace hk := ob_some hk
                  obtain ⟨r45, h9, hk⟩ := hk
                  refine x_callSN (pc := 45) C (ct_X0_has h9) ms_X0_has q1552 dX7_shows_45 rfl rfl (Nat.le_of_ble_eq_true rfl) rfl ?_
                  refine j_if_eq (pc := 48) 64 C dX7_shows_48 (by decide) (fun h10 => ?_) (fun h10 => ?_)
                  · replace hk := it_t h10 hk
                    refine j_iinc (pc := 64) (nI 1) C dX7_shows_64 rfl (by decide) (Nat.le_of_ble_eq_true rfl) rfl ?_
                    refine j_goto (pc := 67) 26 C dX7_shows_67 (by decide) ?_
                    exact j_mask [true, true, true, false, true, true] (ih26 _ _ hk)
                  · replace hk := it_f h10 hk
                    refine j_aload_n (pc := 51) C dX7_shows_51 rfl rfl ?_
                    refine j_aload_n (pc := 52) C dX7_shows_52 rfl rfl ?_
                    refine j_iload (pc := 53) C dX7_shows_53 rfl ?_
                    replace hk := ob_some hk
                    obtain ⟨a55, h11, hk⟩ := hk
                    refine x_callV (pc := 55) C (ct_J5_get h11) mv_J5_get h4 rfl rfl q1553 dX7_shows_55 rfl rfl (Nat.le_of_ble_eq_true rfl) rfl ?_
                    refine j_stk (st' := [.ref (wad G a55), .ref (wad G 17)]) rfl ?_
                    replace hk := ockD_some hk
                    obtain ⟨ch12, ch12h, h12, hk⟩ := hk
                    obtain ⟨cr58, hcr58, hcs58⟩ := castD_NineDemands_Demand ch12h
                    refine x_cast (pc := 58) C h12 hcr58 q1554 hcs58 dX7_shows_58 ?_
                    replace hk := ob_some hk
                    obtain ⟨I61, h13, hk⟩ := hk
                    refine x_callV (pc := 61) C (ct_X7_strikes hS h13) mv_X7_strikes (stN_o17 hS).r rfl rfl q1555 dX7_shows_61 rfl rfl (Nat.le_of_ble_eq_true rfl) rfl ?_
                    refine j_iinc (pc := 64) (nI 1) C dX7_shows_64 rfl (by decide) (Nat.le_of_ble_eq_true rfl) rfl ?_
                    refine j_goto (pc := 67) 26 C dX7_shows_67 (by decide) ?_
                    exact j_mask [true, true, true, false, true, true] (ih26 _ _ hk)
          exact j_mask [true, true, true, false, true, true] (L26 _ _ _ _ hk)
  exact j_mask [true, true, true, true, false, false] (L6 _ _ _ _ _ hk)
def f_X0_show_J107 (F : Nat) (sh : SH) (s0 : Nat) (I : II) : Option (Int32 × II) := bd2 (f_X0_finds sh s0 I) fun r110 I110 => some (r110, I110)
def f_X0_show_J56 (F : Nat) (sh : SH) (x2 : Int32) (s1 : Int32) (I : II) : Option (Int32 × II) := bd2 (f_X0_need sh s1 (nI 2) I) fun u57 I57 => oex u57 (fun _w57 => if x2 < 0 then if x2 = (-1) then some ((I57 17 2), I57) else if (I57 17 3) = 0 then some ((nI 0), I57) else some ((nI 1), I57) else oix x2 36 fun i72 => some ((I57 18 i72), I57)) (fun w57 => ock sh w57 1 <| f_X0_show_J107 F sh w57 I57)
def f_X0_show_J20 (F : Nat) (sh : SH) (x1 : Int32) (x2 : Int32) (s1 : Int32) (I : II) : Option (Int32 × II) := bd2 (f_X0_need sh s1 (nI 1) I) fun u21 I21 => oex u21 (fun _w21 => orf (sh.2.2 0 1) fun t29 => ock sh t29 2 <| orf (sh.2.2 t29 1) fun t32 => (f_X7_shows F sh t32 x1 I21).bind fun I36 => if (I36 17 2) ≤ x2 then f_X0_show_J56 F sh x2 (nI 0) I36 else f_X0_show_J56 F sh x2 (nI 1) I36) (fun w21 => ock sh w21 1 <| f_X0_show_J107 F sh w21 I21)
def f_X0_show_J19 (F : Nat) (sh : SH) (x1 : Int32) (x2 : Int32) (I : II) : Option (Int32 × II) := f_X0_show_J20 F sh x1 x2 (nI 0) I
def f_X0_show (F : Nat) (sh : SH) (x1 : Int32) (x2 : Int32) (I : II) : Option (Int32 × II) := (f_X0_isSet sh x1 I).bind fun r3 => if r3 = 0 then f_X0_show_J19 F sh x1 x2 I else if x2 < (-2) then f_X0_show_J19 F sh x1 x2 I else f_X0_show_J20 F sh x1 x2 (nI 1) I
abbrev rm_X0_show : Room := { frames := 6, cells := 0, slots := 0, locals := 140 }
theorem mv_X0_show_ok : callOK yX0_show 2 := by decide +kernel
theorem mw_X0_show : MW yX0_show cX0_show 4 (some .int) [(0, 106, 107, 8)] 2 := ⟨q1540, q1541, q91, q1542, mv_X0_show_ok⟩
set_option maxHeartbeats 4000000 in
theorem ct_X0_show {G : WG} {l : Launch} {sh : SH} (hS : stN sh) {I : II} {F : Nat} {x1 : Int32} {x2 : Int32} {Z : (Int32 × II)} (hk : f_X0_show F sh x1 x2 I = some Z) : CT G l yX0_show (wsW_ yX0_show cX0_show 4 (some .int) [(0, 106, 107, 8)]) rm_X0_show [.ref (wad G 0), .int x1, .int x2] (sh, I) (.returned (some (.int Z.1))) (sh, Z.2) := by
  refine CT.ofJW "NineDemands" rfl (by decide) (Nat.le_of_ble_eq_true rfl) ?_
  intro p e s m args below meth c C
  unfold f_X0_show at hk
  refine j_lv (lv' := [some (.ref (wad G 0)), some (.int x1), some (.int x2), none]) rfl ?_
  refine j_aload_n (pc := 0) C dX0_show_0 rfl rfl ?_
  refine j_aload_n (pc := 1) C dX0_show_1 rfl rfl ?_
  refine j_iload_n (pc := 2) C dX0_show_2 rfl rfl ?_
  replace hk := ob_some hk
  obtain ⟨r3, h1, hk⟩ := hk
  refine x_callV (pc := 3) C (ct_X0_isSet hS h1) mv_X0_isSet (stN_o0 hS).r rfl rfl q1415 dX0_show_3 rfl rfl (Nat.le_of_ble_eq_true rfl) rfl ?_
  have Jn20 : ∀ (x1 : Int32) (x2 : Int32) (s1 : Int32) (I : II), f_X0_show_J20 F sh x1 x2 s1 I = some Z → J G p l e rm_X0_show s m args below meth c 4 (.returned (some (.int Z.1))) (sh, Z.2) (rm_X0_show).cells (rm_X0_show).slots (sh, I) 0 0 20 [some (.ref (wad G 0)), some (.int x1), some (.int x2), none] [.int s1, .ref (wad G 0)] := by
    intro x1 x2 s1 I hk
    unfold f_X0_show_J20 at hk
    refine j_iconst (pc := 20) (v := nI 1) C dX0_show_20 (by decide) ?_
    have Jn107 : ∀ (s0 : Nat) (I : II), f_X0_show_J107 F sh s0 I = some Z → J G p l e rm_X0_show s m args below meth c 4 (.returned (some (.int Z.1))) (sh, Z.2) (rm_X0_show).cells (rm_X0_show).slots (sh, I) 0 0 107 [some (.ref (wad G 0)), none, none, none] [.ref (wad G s0)] := by
      intro s0 I hk
      unfold f_X0_show_J107 at hk
      refine j_astore_n (pc := 107) C dX0_show_107 rfl (Nat.le_of_ble_eq_true rfl) rfl ?_
      refine j_aload_n (pc := 108) C dX0_show_108 rfl rfl ?_
      refine j_aload_n (pc := 109) C dX0_show_109 rfl rfl ?_
      replace hk := bd2_some hk
      obtain ⟨r110, I110, h2, hk⟩ := hk
      refine x_callV (pc := 110) C (ct_X0_finds hS h2) mv_X0_finds (stN_o0 hS).r rfl rfl q433 dX0_show_110 rfl rfl (Nat.le_of_ble_eq_true rfl) rfl ?_
      obtain rfl := Option.some.inj hk
      exact j_iret (pc := 113) C dX0_show_113 (Nat.le_of_ble_eq_true rfl) (Nat.le_of_ble_eq_true rfl)
    replace hk := bd2_some hk
    obtain ⟨u21, I21, h3, hk⟩ := hk
    cases u21 with
    | inr w21 =>
      replace hk := oex_r hk
      replace hk := ock_some hk
      obtain ⟨h5, hk⟩ := hk
      refine x_callVC [] [] (0, 106, 107, 8) (pc := 21) C (ct_X0_need hS h3) mv_X0_need (stN_o0 hS).r rfl rfl q416 dX0_show_21 rfl rfl (Nat.le_of_ble_eq_true rfl) rfl rfl h5 rfl (by decide) (by decide) q146 (fun z hz => by cases hz) ?_
      exact j_mask [true, false, false, false] (Jn107 _ _ hk)
    | inl _w21 =>
      replace hk := oex_l hk
      refine x_callV (pc := 21) C (ct_X0_need hS h3) mv_X0_need (stN_o0 hS).r rfl rfl q416 dX0_show_21 rfl rfl (Nat.le_of_ble_eq_true rfl) rfl ?_
      refine j_aload_n (pc := 24) C dX0_show_24 rfl rfl ?_
      refine x_getR (pc := 25) C fd_0_7 (fl1 C q379) (stN_o0 hS).r (stN_r0_7 hS) dX0_show_25 ?_
      refine j_aload_n (pc := 28) C dX0_show_28 rfl rfl ?_
      replace hk := orf_some hk
      obtain ⟨t29, et29, hk⟩ := hk
      refine x_getR (pc := 29) C fd_0_1 (fl1 C q373) (stN_o0 hS).r et29 dX0_show_29 ?_
      replace hk := ock_some hk
      obtain ⟨h6, hk⟩ := hk
      replace hk := orf_some hk
      obtain ⟨t32, et32, hk⟩ := hk
      refine x_getR (pc := 32) C fd_2_1 (fl3 C q251) h6 et32 dX0_show_32 ?_
      refine j_iload_n (pc := 35) C dX0_show_35 rfl rfl ?_
      replace hk := ob_some hk
      obtain ⟨I36, h7, hk⟩ := hk
      refine x_callV (pc := 36) C (ct_X7_shows hS h7) mv_X7_shows (stN_o17 hS).r rfl rfl q1543 dX0_show_36 rfl rfl (Nat.le_of_ble_eq_true rfl) rfl ?_
      refine j_aload_n (pc := 39) C dX0_show_39 rfl rfl ?_
      refine j_iload_n (pc := 40) C dX0_show_40 rfl rfl ?_
      refine j_aload_n (pc := 41) C dX0_show_41 rfl rfl ?_
      refine x_getR (pc := 42) C fd_0_7 (fl1 C q379) (stN_o0 hS).r (stN_r0_7 hS) dX0_show_42 ?_
      refine x_getI (pc := 45) C fd_8_2 (fl3 C q349) (stN_o17 hS).r dX0_show_45 ?_
      have Jn56 : ∀ (x2 : Int32) (s1 : Int32) (I : II), f_X0_show_J56 F sh x2 s1 I = some Z → J G p l e rm_X0_show s m args below meth c 4 (.returned (some (.int Z.1))) (sh, Z.2) (rm_X0_show).cells (rm_X0_show).slots (sh, I) 0 0 56 [some (.ref (wad G 0)), none, some (.int x2), none] [.int s1, .ref (wad G 0)] := by
        intro x2 s1 I hk
        unfold f_X0_show_J56 at hk
        refine j_iconst (pc := 56) (v := nI 2) C dX0_show_56 (by decide) ?_
        replace hk := bd2_some hk
        obtain ⟨u57, I57, h8, hk⟩ := hk
        cases u57 with
        | inr w57 =>
          replace hk := oex_r hk
          replace hk := ock_some hk
          obtain ⟨h10, hk⟩ := hk
          refine x_callVC [] [] (0, 106, 107, 8) (pc := 57) C (ct_X0_need hS h8) mv_X0_need (stN_o0 hS).r rfl rfl q416 dX0_show_57 rfl rfl (Nat.le_of_ble_eq_true rfl) rfl rfl h10 rfl (by decide) (by decide) q146 (fun z hz => by cases hz) ?_
          exact j_mask [true, false, false, false] (Jn107 _ _ hk)
        | inl _w57 =>
          replace hk := oex_l hk
          refine x_callV (pc := 57) C (ct_X0_need hS h8) mv_X0_need (stN_o0 hS).r rfl rfl q416 dX0_show_57 rfl rfl (Nat.le_of_ble_eq_true rfl) rfl ?_
          refine j_iload_n (pc := 60) C dX0_show_60 rfl rfl ?_
          refine j_if_lt (pc := 61) 76 C dX0_show_61 (by decide) (fun h11 => ?_) (fun h11 => ?_)
          · replace hk := it_t h11 hk
            refine j_iload_n (pc := 76) C dX0_show_76 rfl rfl ?_
            refine j_iconst (pc := 77) (v := (-1)) C dX0_show_77 (by decide) ?_
            refine j_icmp_ne (pc := 78) 91 C dX0_show_78 (by decide) (fun h12 => ?_) (fun h12 => ?_)
            · replace hk := it_f h12 hk
              refine j_aload_n (pc := 91) C dX0_show_91 rfl rfl ?_
              refine x_getR (pc := 92) C fd_0_7 (fl1 C q379) (stN_o0 hS).r (stN_r0_7 hS) dX0_show_92 ?_
              refine x_getI (pc := 95) C fd_8_3 (fl3 C q351) (stN_o17 hS).r dX0_show_95 ?_
              refine j_if_eq (pc := 98) 105 C dX0_show_98 (by decide) (fun h13 => ?_) (fun h13 => ?_)
              · replace hk := it_t h13 hk
                refine j_iconst (pc := 105) (v := nI 0) C dX0_show_105 (by decide) ?_
                obtain rfl := Option.some.inj hk
                exact j_iret (pc := 106) C dX0_show_106 (Nat.le_of_ble_eq_true rfl) (Nat.le_of_ble_eq_true rfl)
              · replace hk := it_f h13 hk
                refine j_iconst (pc := 101) (v := nI 1) C dX0_show_101 (by decide) ?_
                refine j_goto (pc := 102) 106 C dX0_show_102 (by decide) ?_
                obtain rfl := Option.some.inj hk
                exact j_iret (pc := 106) C dX0_show_106 (Nat.le_of_ble_eq_true rfl) (Nat.le_of_ble_eq_true rfl)
            · replace hk := it_t h12 hk
              refine j_aload_n (pc := 81) C dX0_show_81 rfl rfl ?_
              refine x_getR (pc := 82) C fd_0_7 (fl1 C q379) (stN_o0 hS).r (stN_r0_7 hS) dX0_show_82 ?_
              refine x_getI (pc := 85) C fd_8_2 (fl3 C q349) (stN_o17 hS).r dX0_show_85 ?_
              refine j_goto (pc := 88) 106 C dX0_show_88 (by decide) ?_
              obtain rfl := Option.some.inj hk
              exact j_iret (pc := 106) C dX0_show_106 (Nat.le_of_ble_eq_true rfl) (Nat.le_of_ble_eq_true rfl)
          · replace hk := it_f h11 hk
            refine j_aload_n (pc := 64) C dX0_show_64 rfl rfl ?_
            refine x_getR (pc := 65) C fd_0_7 (fl1 C q379) (stN_o0 hS).r (stN_r0_7 hS) dX0_show_65 ?_
            refine x_getR (pc := 68) C fd_8_0 (fl3 C q346) (stN_o17 hS).r (stN_r17_0 hS) dX0_show_68 ?_
            refine j_iload_n (pc := 71) C dX0_show_71 rfl rfl ?_
            replace hk := oix_ex hk
            obtain ⟨i72, e72, h14, hk⟩ := hk
            refine j_iald (pc := 72) C (stN_a18 hS) h14 e72 dX0_show_72 ?_
            refine j_goto (pc := 73) 106 C dX0_show_73 (by decide) ?_
            obtain rfl := Option.some.inj hk
            exact j_iret (pc := 106) C dX0_show_106 (Nat.le_of_ble_eq_true rfl) (Nat.le_of_ble_eq_true rfl)
      refine j_icmp_ge (pc := 48) 55 C dX0_show_48 (by decide) (fun h15 => ?_) (fun h15 => ?_)
      · replace hk := it_t h15 hk
        refine j_iconst (pc := 55) (v := nI 0) C dX0_show_55 (by decide) ?_
        exact j_mask [true, false, true, false] (Jn56 _ _ _ hk)
      · replace hk := it_f h15 hk
        refine j_iconst (pc := 51) (v := nI 1) C dX0_show_51 (by decide) ?_
        refine j_goto (pc := 52) 56 C dX0_show_52 (by decide) ?_
        exact j_mask [true, false, true, false] (Jn56 _ _ _ hk)
  have Jn19 : ∀ (x1 : Int32) (x2 : Int32) (I : II), f_X0_show_J19 F sh x1 x2 I = some Z → J G p l e rm_X0_show s m args below meth c 4 (.returned (some (.int Z.1))) (sh, Z.2) (rm_X0_show).cells (rm_X0_show).slots (sh, I) 0 0 19 [some (.ref (wad G 0)), some (.int x1), some (.int x2), none] [.ref (wad G 0)] := by
    intro x1 x2 I hk
    unfold f_X0_show_J19 at hk
    refine j_iconst (pc := 19) (v := nI 0) C dX0_show_19 (by decide) ?_
    exact j_mask [true, true, true, false] (Jn20 _ _ _ _ hk)
  refine j_if_eq (pc := 6) 19 C dX0_show_6 (by decide) (fun h16 => ?_) (fun h16 => ?_)
  · replace hk := it_t h16 hk
    exact j_mask [true, true, true, false] (Jn19 _ _ _ hk)
  · replace hk := it_f h16 hk
    refine j_iload_n (pc := 9) C dX0_show_9 rfl rfl ?_
    refine j_bipush (pc := 10) (v := (-2)) C dX0_show_10 (by decide) ?_
    refine j_icmp_lt (pc := 12) 19 C dX0_show_12 (by decide) (fun h17 => ?_) (fun h17 => ?_)
    · replace hk := it_t h17 hk
      exact j_mask [true, true, true, false] (Jn19 _ _ _ hk)
    · replace hk := it_f h17 hk
      refine j_iconst (pc := 15) (v := nI 1) C dX0_show_15 (by decide) ?_
      refine j_goto (pc := 16) 20 C dX0_show_16 (by decide) ?_
      exact j_mask [true, true, true, false] (Jn20 _ _ _ _ hk)
def f_X2_breachOf_J39 (F : Nat) (sh : SH) (I : II) (k2 : Int32 → Option Int32) (x0 : Nat) (x1 : Nat) (x2 : Int32) (s0 : Int32) : Option Int32 := ockD sh x0 <| orf (sh.2.2 x0 4) fun t44 => ock sh t44 23 <| orf (sh.2.2 t44 0) fun t47 => oarw sh t47 100 fun nh8 => oix x2 nh8 fun i51 => oarw sh x1 100 fun nh10 => oix (I t47 i51) nh10 fun i52 => (v_X10_goes sh x0 x2 (I x1 i52) s0 I).bind fun r54 => if r54 = 0 then some x2 else k2 (x2 + (nI 1))
def f_X2_breachOf_L2 (F : Nat) (sh : SH) (I : II) (x0 : Nat) (x1 : Nat) : Nat → Int32 → Option Int32
  | 0, _ => none
  | n2 + 1, x2 => ockD sh x0 <| orf (sh.2.2 x0 4) fun t4 => ock sh t4 23 <| if (I t4 4) ≤ x2 then some (-1) else orf (sh.2.2 x0 4) fun t14 => ock sh t14 23 <| (f_X23_isPair sh t14 x2 I).bind fun r18 => if r18 = 0 then f_X2_breachOf_J39 F sh I (f_X2_breachOf_L2 F sh I x0 x1 n2) x0 x1 x2 (nI 1) else orf (sh.2.2 x0 4) fun t26 => ock sh t26 23 <| orf (sh.2.2 t26 1) fun t29 => oarw sh t29 100 fun nh16 => oix x2 nh16 fun i33 => oarw sh x1 100 fun nh18 => oix (I t29 i33) nh18 fun i34 => f_X2_breachOf_J39 F sh I (f_X2_breachOf_L2 F sh I x0 x1 n2) x0 x1 x2 (I x1 i34)
def f_X2_breachOf (F : Nat) (sh : SH) (x0 : Nat) (x1 : Nat) (I : II) : Option Int32 := f_X2_breachOf_L2 F sh I x0 x1 F (nI 0)
abbrev rm_X2_breachOf : Room := { frames := 2, cells := 0, slots := 0, locals := 44 }
theorem ms_X2_breachOf : MS yX2_breachOf cX2_breachOf 4 (some .int) 2 := ⟨q1403, q96, q1404, by decide +kernel⟩
set_option maxHeartbeats 4000000 in
theorem ct_X2_breachOf {G : WG} {l : Launch} {sh : SH} (hS : stN sh) {I : II} {F : Nat} {x0 : Nat} {x1 : Nat} {Z : Int32} (hk : f_X2_breachOf F sh x0 x1 I = some Z) : CT G l yX2_breachOf (ws_ yX2_breachOf cX2_breachOf 4 (some .int)) rm_X2_breachOf [.ref (wad G x0), .ref (wad G x1)] (sh, I) (.returned (some (.int Z))) (sh, I) := by
  refine CT.ofJ "NineDemands$Village" rfl (by decide) (Nat.le_of_ble_eq_true rfl) ?_
  intro p e s m args below meth c C
  unfold f_X2_breachOf at hk
  refine j_lv (lv' := [some (.ref (wad G x0)), some (.ref (wad G x1)), none, none]) rfl ?_
  refine j_iconst (pc := 0) (v := nI 0) C dX2_breachOf_0 (by decide) ?_
  refine j_istore_n (pc := 1) C dX2_breachOf_1 rfl (Nat.le_of_ble_eq_true rfl) rfl ?_
  have L2 : ∀ (x0 : Nat) (x1 : Nat) (n2 : Nat) (x2 : Int32), f_X2_breachOf_L2 F sh I x0 x1 n2 x2 = some Z → J G p l e rm_X2_breachOf s m args below meth c 4 (.returned (some (.int Z))) (sh, I) (rm_X2_breachOf).cells (rm_X2_breachOf).slots (sh, I) 0 0 2 [some (.ref (wad G x0)), some (.ref (wad G x1)), some (.int x2), none] [] := by
    intro x0 x1 n2
    induction n2 with
    | zero => intro x2 hk; rw [f_X2_breachOf_L2] at hk; cases hk
    | succ n2 ih2 =>
      intro x2 hk
      rw [f_X2_breachOf_L2] at hk
      generalize f_X2_breachOf_L2 F sh I x0 x1 n2 = k2 at ih2 hk
      refine j_iload_n (pc := 2) C dX2_breachOf_2 rfl rfl ?_
      refine j_aload_n (pc := 3) C dX2_breachOf_3 rfl rfl ?_
      replace hk := ockD_some hk
      obtain ⟨ch1, ch1h, h1, hk⟩ := hk
      replace hk := orf_some hk
      obtain ⟨t4, et4, hk⟩ := hk
      refine x_getR (pc := 4) C (fdD_4 ch1h) (fl1 C q569) h1 et4 dX2_breachOf_4 ?_
      replace hk := ock_some hk
      obtain ⟨h2, hk⟩ := hk
      refine x_getI (pc := 7) C fd_23_4 (fl3 C q1138) h2 dX2_breachOf_7 ?_
      refine j_icmp_ge (pc := 10) 68 C dX2_breachOf_10 (by decide) (fun h3 => ?_) (fun h3 => ?_)
      · replace hk := it_t h3 hk
        refine j_iconst (pc := 68) (v := (-1)) C dX2_breachOf_68 (by decide) ?_
        obtain rfl := Option.some.inj hk
        exact j_iret (pc := 69) C dX2_breachOf_69 (Nat.le_of_ble_eq_true rfl) (Nat.le_of_ble_eq_true rfl)
      · replace hk := it_f h3 hk
        refine j_aload_n (pc := 13) C dX2_breachOf_13 rfl rfl ?_
        replace hk := orf_some hk
        obtain ⟨t14, et14, hk⟩ := hk
        refine x_getR (pc := 14) C (fdD_4 ch1h) (fl1 C q569) h1 et14 dX2_breachOf_14 ?_
        refine j_iload_n (pc := 17) C dX2_breachOf_17 rfl rfl ?_
        replace hk := ock_some hk
        obtain ⟨h4, hk⟩ := hk
        replace hk := ob_some hk
        obtain ⟨r18, h5, hk⟩ := hk
        refine x_callV (pc := 18) C (ct_X23_isPair hS h5) mv_X23_isPair h4 rfl rfl q1405 dX2_breachOf_18 rfl rfl (Nat.le_of_ble_eq_true rfl) rfl ?_
        have Jn39 : ∀ (x2 : Int32) (s0 : Int32), f_X2_breachOf_J39 F sh I k2 x0 x1 x2 s0 = some Z → J G p l e rm_X2_breachOf s m args below meth c 4 (.returned (some (.int Z))) (sh, I) (rm_X2_breachOf).cells (rm_X2_breachOf).slots (sh, I) 0 0 39 [some (.ref (wad G x0)), some (.ref (wad G x1)), some (.int x2), none] [.int s0] := by
          intro x2 s0 hk
          unfold f_X2_breachOf_J39 at hk
          refine j_istore_n (pc := 39) C dX2_breachOf_39 rfl (Nat.le_of_ble_eq_true rfl) rfl ?_
          refine j_aload_n (pc := 40) C dX2_breachOf_40 rfl rfl ?_
          refine j_iload_n (pc := 41) C dX2_breachOf_41 rfl rfl ?_
          refine j_aload_n (pc := 42) C dX2_breachOf_42 rfl rfl ?_
          refine j_aload_n (pc := 43) C dX2_breachOf_43 rfl rfl ?_
          replace hk := ockD_some hk
          obtain ⟨ch6, ch6h, h6, hk⟩ := hk
          replace hk := orf_some hk
          obtain ⟨t44, et44, hk⟩ := hk
          refine x_getR (pc := 44) C (fdD_4 ch6h) (fl1 C q569) h6 et44 dX2_breachOf_44 ?_
          replace hk := ock_some hk
          obtain ⟨h7, hk⟩ := hk
          replace hk := orf_some hk
          obtain ⟨t47, et47, hk⟩ := hk
          refine x_getR (pc := 47) C fd_23_0 (fl3 C q1120) h7 et47 dX2_breachOf_47 ?_
          refine j_iload_n (pc := 50) C dX2_breachOf_50 rfl rfl ?_
          replace hk := oarw_some hk
          obtain ⟨nh8, h8, hk⟩ := hk
          replace hk := oix_ex hk
          obtain ⟨i51, e51, h9, hk⟩ := hk
          refine j_iald (pc := 51) C h8 h9 e51 dX2_breachOf_51 ?_
          replace hk := oarw_some hk
          obtain ⟨nh10, h10, hk⟩ := hk
          replace hk := oix_ex hk
          obtain ⟨i52, e52, h11, hk⟩ := hk
          refine j_iald (pc := 52) C h10 h11 e52 dX2_breachOf_52 ?_
          refine j_iload_n (pc := 53) C dX2_breachOf_53 rfl rfl ?_
          replace hk := ob_some hk
          obtain ⟨r54, h12, hk⟩ := hk
          refine x_callX (pc := 54) C (vc_X10_goes hS h12) q1406 dX2_breachOf_54 rfl rfl (Nat.le_of_ble_eq_true rfl) (Nat.le_of_ble_eq_true rfl) (Nat.le_of_ble_eq_true rfl) (Nat.le_of_ble_eq_true rfl) (Nat.le_of_ble_eq_true rfl) ?_
          refine j_if_ne (pc := 57) 62 C dX2_breachOf_57 (by decide) (fun h13 => ?_) (fun h13 => ?_)
          · replace hk := it_f h13 hk
            refine j_iinc (pc := 62) (nI 1) C dX2_breachOf_62 rfl (by decide) (Nat.le_of_ble_eq_true rfl) rfl ?_
            refine j_goto (pc := 65) 2 C dX2_breachOf_65 (by decide) ?_
            exact j_mask [true, true, true, false] (ih2 _ hk)
          · replace hk := it_t h13 hk
            refine j_iload_n (pc := 60) C dX2_breachOf_60 rfl rfl ?_
            obtain rfl := Option.some.inj hk
            exact j_iret (pc := 61) C dX2_breachOf_61 (Nat.le_of_ble_eq_true rfl) (Nat.le_of_ble_eq_true rfl)
        refine j_if_eq (pc := 21) 38 C dX2_breachOf_21 (by decide) (fun h14 => ?_) (fun h14 => ?_)
        · replace hk := it_t h14 hk
          refine j_iconst (pc := 38) (v := nI 1) C dX2_breachOf_38 (by decide) ?_
          exact j_mask [true, true, true, false] (Jn39 _ _ hk)
        · replace hk := it_f h14 hk
          refine j_aload_n (pc := 24) C dX2_breachOf_24 rfl rfl ?_
          refine j_aload_n (pc := 25) C dX2_breachOf_25 rfl rfl ?_
          replace hk := orf_some hk
          obtain ⟨t26, et26, hk⟩ := hk
          refine x_getR (pc := 26) C (fdD_4 ch1h) (fl1 C q569) h1 et26 dX2_breachOf_26 ?_
          replace hk := ock_some hk
          obtain ⟨h15, hk⟩ := hk
          replace hk := orf_some hk
          obtain ⟨t29, et29, hk⟩ := hk
          refine x_getR (pc := 29) C fd_23_1 (fl3 C q1127) h15 et29 dX2_breachOf_29 ?_
          refine j_iload_n (pc := 32) C dX2_breachOf_32 rfl rfl ?_
          replace hk := oarw_some hk
          obtain ⟨nh16, h16, hk⟩ := hk
          replace hk := oix_ex hk
          obtain ⟨i33, e33, h17, hk⟩ := hk
          refine j_iald (pc := 33) C h16 h17 e33 dX2_breachOf_33 ?_
          replace hk := oarw_some hk
          obtain ⟨nh18, h18, hk⟩ := hk
          replace hk := oix_ex hk
          obtain ⟨i34, e34, h19, hk⟩ := hk
          refine j_iald (pc := 34) C h18 h19 e34 dX2_breachOf_34 ?_
          refine j_goto (pc := 35) 39 C dX2_breachOf_35 (by decide) ?_
          exact j_mask [true, true, true, false] (Jn39 _ _ hk)
  exact j_mask [true, true, true, false] (L2 _ _ _ _ hk)
def f_X2_fits_L5 (F : Nat) (sh : SH) (I : II) (x0 : Nat) (x1 : Int32) (x2 : Nat) : Nat → Int32 → Int32 → Option Int32
  | 0, _, _ => none
  | n5 + 1, x3, x4 => ock sh x0 2 <| orf (sh.2.2 x0 1) fun t8 => ock sh t8 3 <| (f_J5_size sh t8 I).bind fun r11 => if r11 ≤ x4 then og (x3 = 0 ∨ x3 = 1) <| some x3 else if x3 = 0 then og (x3 = 0 ∨ x3 = 1) <| some x3 else (f_X0_has x1 x4).bind fun r24 => if r24 = 0 then (f_X2_fits_L5 F sh I x0 x1 x2 n5) (nI 1) (x4 + (nI 1)) else orf (sh.2.2 x0 1) fun t31 => ock sh t31 3 <| (f_J5_get sh t31 x4 I).bind fun a36 => ockD sh a36 <| (f_X2_breachOf F sh a36 x2 I).bind fun r43 => if r43 = (-1) then (f_X2_fits_L5 F sh I x0 x1 x2 n5) (nI 1) (x4 + (nI 1)) else (f_X2_fits_L5 F sh I x0 x1 x2 n5) (nI 0) (x4 + (nI 1))
def f_X2_fits (F : Nat) (sh : SH) (x0 : Nat) (x1 : Int32) (x2 : Nat) (I : II) : Option Int32 := f_X2_fits_L5 F sh I x0 x1 x2 F (nI 1) (nI 0)
abbrev rm_X2_fits : Room := { frames := 3, cells := 0, slots := 0, locals := 67 }
theorem mv_X2_fits_ok : callOK yX2_fits 2 := by decide +kernel
theorem mv_X2_fits : MV yX2_fits cX2_fits 5 (some .boolean) 2 := ⟨q1531, q1532, q96, q1533, mv_X2_fits_ok⟩
set_option maxHeartbeats 4000000 in
theorem ct_X2_fits {G : WG} {l : Launch} {sh : SH} (hS : stN sh) {I : II} {F : Nat} {x0 : Nat} {x1 : Int32} {x2 : Nat} {Z : Int32} (hk : f_X2_fits F sh x0 x1 x2 I = some Z) : CT G l yX2_fits (ws_ yX2_fits cX2_fits 5 (some .boolean)) rm_X2_fits [.ref (wad G x0), .int x1, .ref (wad G x2)] (sh, I) (.returned (some (.int Z))) (sh, I) := by
  refine CT.ofJ "NineDemands$Village" rfl (by decide) (Nat.le_of_ble_eq_true rfl) ?_
  intro p e s m args below meth c C
  unfold f_X2_fits at hk
  refine j_lv (lv' := [some (.ref (wad G x0)), some (.int x1), some (.ref (wad G x2)), none, none]) rfl ?_
  refine j_iconst (pc := 0) (v := nI 1) C dX2_fits_0 (by decide) ?_
  refine j_istore_n (pc := 1) C dX2_fits_1 rfl (Nat.le_of_ble_eq_true rfl) rfl ?_
  refine j_iconst (pc := 2) (v := nI 0) C dX2_fits_2 (by decide) ?_
  refine j_istore (pc := 3) C dX2_fits_3 (Nat.le_of_ble_eq_true rfl) rfl ?_
  have L5 : ∀ (x0 : Nat) (x1 : Int32) (x2 : Nat) (n5 : Nat) (x3 : Int32) (x4 : Int32), f_X2_fits_L5 F sh I x0 x1 x2 n5 x3 x4 = some Z → J G p l e rm_X2_fits s m args below meth c 5 (.returned (some (.int Z))) (sh, I) (rm_X2_fits).cells (rm_X2_fits).slots (sh, I) 0 0 5 [some (.ref (wad G x0)), some (.int x1), some (.ref (wad G x2)), some (.int x3), some (.int x4)] [] := by
    intro x0 x1 x2 n5
    induction n5 with
    | zero => intro x3 x4 hk; rw [f_X2_fits_L5] at hk; cases hk
    | succ n5 ih5 =>
      intro x3 x4 hk
      rw [f_X2_fits_L5] at hk
      generalize f_X2_fits_L5 F sh I x0 x1 x2 n5 = k5 at ih5 hk
      refine j_iload (pc := 5) C dX2_fits_5 rfl ?_
      refine j_aload_n (pc := 7) C dX2_fits_7 rfl rfl ?_
      replace hk := ock_some hk
      obtain ⟨h1, hk⟩ := hk
      replace hk := orf_some hk
      obtain ⟨t8, et8, hk⟩ := hk
      refine x_getR (pc := 8) C fd_2_1 (fl1 C q250) h1 et8 dX2_fits_8 ?_
      replace hk := ock_some hk
      obtain ⟨h2, hk⟩ := hk
      replace hk := ob_some hk
      obtain ⟨r11, h3, hk⟩ := hk
      refine x_callV (pc := 11) C (ct_J5_size h3) mv_J5_size h2 rfl rfl q1534 dX2_fits_11 rfl rfl (Nat.le_of_ble_eq_true rfl) rfl ?_
      refine j_icmp_ge (pc := 14) 62 C dX2_fits_14 (by decide) (fun h4 => ?_) (fun h4 => ?_)
      · replace hk := it_t h4 hk
        refine j_iload_n (pc := 62) C dX2_fits_62 rfl rfl ?_
        replace hk := og_some hk
        obtain ⟨h5, hk⟩ := hk
        obtain rfl := Option.some.inj hk
        exact j_zret (pc := 63) C dX2_fits_63 (Nat.le_of_ble_eq_true rfl) (Nat.le_of_ble_eq_true rfl) (isB.nar h5)
      · replace hk := it_f h4 hk
        refine j_iload_n (pc := 17) C dX2_fits_17 rfl rfl ?_
        refine j_if_eq (pc := 18) 62 C dX2_fits_18 (by decide) (fun h6 => ?_) (fun h6 => ?_)
        · replace hk := it_t h6 hk
          refine j_iload_n (pc := 62) C dX2_fits_62 rfl rfl ?_
          replace hk := og_some hk
          obtain ⟨h7, hk⟩ := hk
          obtain rfl := Option.some.inj hk
          exact j_zret (pc := 63) C dX2_fits_63 (Nat.le_of_ble_eq_true rfl) (Nat.le_of_ble_eq_true rfl) (isB.nar h7)
        · replace hk := it_f h6 hk
          refine j_iload_n (pc := 21) C dX2_fits_21 rfl rfl ?_
          refine j_iload (pc := 22) C dX2_fits_22 rfl ?_
          replace hk := ob_some hk
          obtain ⟨r24, h8, hk⟩ := hk
          refine x_callSN (pc := 24) C (ct_X0_has h8) ms_X0_has q1535 dX2_fits_24 rfl rfl (Nat.le_of_ble_eq_true rfl) rfl ?_
          refine j_if_eq (pc := 27) 50 C dX2_fits_27 (by decide) (fun h9 => ?_) (fun h9 => ?_)
          · replace hk := it_t h9 hk
            refine j_iconst (pc := 50) (v := nI 1) C dX2_fits_50 (by decide) ?_
            refine j_goto (pc := 51) 55 C dX2_fits_51 (by decide) ?_
            refine j_istore_n (pc := 55) C dX2_fits_55 rfl (Nat.le_of_ble_eq_true rfl) rfl ?_
            refine j_iinc (pc := 56) (nI 1) C dX2_fits_56 rfl (by decide) (Nat.le_of_ble_eq_true rfl) rfl ?_
            refine j_goto (pc := 59) 5 C dX2_fits_59 (by decide) ?_
            exact j_mask [true, true, true, true, true] (ih5 _ _ hk)
          · replace hk := it_f h9 hk
            refine j_aload_n (pc := 30) C dX2_fits_30 rfl rfl ?_
            replace hk := orf_some hk
            obtain ⟨t31, et31, hk⟩ := hk
            refine x_getR (pc := 31) C fd_2_1 (fl1 C q250) h1 et31 dX2_fits_31 ?_
            refine j_iload (pc := 34) C dX2_fits_34 rfl ?_
            replace hk := ock_some hk
            obtain ⟨h10, hk⟩ := hk
            replace hk := ob_some hk
            obtain ⟨a36, h11, hk⟩ := hk
            refine x_callV (pc := 36) C (ct_J5_get h11) mv_J5_get h10 rfl rfl q1536 dX2_fits_36 rfl rfl (Nat.le_of_ble_eq_true rfl) rfl ?_
            replace hk := ockD_some hk
            obtain ⟨ch12, ch12h, h12, hk⟩ := hk
            obtain ⟨cr39, hcr39, hcs39⟩ := castD_NineDemands_Demand ch12h
            refine x_cast (pc := 39) C h12 hcr39 q1537 hcs39 dX2_fits_39 ?_
            refine j_aload_n (pc := 42) C dX2_fits_42 rfl rfl ?_
            replace hk := ob_some hk
            obtain ⟨r43, h13, hk⟩ := hk
            refine j_callS (pc := 43) C (ct_X2_breachOf hS h13) ms_X2_breachOf q1538 dX2_fits_43 rfl rfl (Nat.le_of_ble_eq_true rfl) rfl ?_
            refine j_iconst (pc := 46) (v := (-1)) C dX2_fits_46 (by decide) ?_
            refine j_icmp_ne (pc := 47) 54 C dX2_fits_47 (by decide) (fun h14 => ?_) (fun h14 => ?_)
            · replace hk := it_f h14 hk
              refine j_iconst (pc := 54) (v := nI 0) C dX2_fits_54 (by decide) ?_
              refine j_istore_n (pc := 55) C dX2_fits_55 rfl (Nat.le_of_ble_eq_true rfl) rfl ?_
              refine j_iinc (pc := 56) (nI 1) C dX2_fits_56 rfl (by decide) (Nat.le_of_ble_eq_true rfl) rfl ?_
              refine j_goto (pc := 59) 5 C dX2_fits_59 (by decide) ?_
              exact j_mask [true, true, true, true, true] (ih5 _ _ hk)
            · replace hk := it_t h14 hk
              refine j_iconst (pc := 50) (v := nI 1) C dX2_fits_50 (by decide) ?_
              refine j_goto (pc := 51) 55 C dX2_fits_51 (by decide) ?_
              refine j_istore_n (pc := 55) C dX2_fits_55 rfl (Nat.le_of_ble_eq_true rfl) rfl ?_
              refine j_iinc (pc := 56) (nI 1) C dX2_fits_56 rfl (by decide) (Nat.le_of_ble_eq_true rfl) rfl ?_
              refine j_goto (pc := 59) 5 C dX2_fits_59 (by decide) ?_
              exact j_mask [true, true, true, true, true] (ih5 _ _ hk)
  exact j_mask [true, true, true, true, true] (L5 _ _ _ _ _ _ hk)
def f_X0_peopleOf (x0 : Int32) : Option Int32 := if (nI 4) ≤ x0 then some (nI 3) else some (nI 2)
abbrev rm_X0_peopleOf : Room := { frames := 0, cells := 0, slots := 0, locals := 0 }
theorem ms_X0_peopleOf : MS yX0_peopleOf cX0_peopleOf 1 (some .int) 1 := ⟨q425, q91, q426, by decide +kernel⟩
set_option maxHeartbeats 4000000 in
theorem ct_X0_peopleOf {G : WG} {l : Launch} {sh : SH} {I : II} {x0 : Int32} {Z : Int32} (hk : f_X0_peopleOf x0 = some Z) : CT G l yX0_peopleOf (ws_ yX0_peopleOf cX0_peopleOf 1 (some .int)) rm_X0_peopleOf [.int x0] (sh, I) (.returned (some (.int Z))) (sh, I) := by
  refine CT.ofJ "NineDemands" rfl (by decide) (Nat.le_of_ble_eq_true rfl) ?_
  intro p e s m args below meth c C
  unfold f_X0_peopleOf at hk
  refine j_lv (lv' := [some (.int x0)]) rfl ?_
  refine j_iload_n (pc := 0) C dX0_peopleOf_0 rfl rfl ?_
  refine j_iconst (pc := 1) (v := nI 4) C dX0_peopleOf_1 (by decide) ?_
  refine j_icmp_ge (pc := 2) 9 C dX0_peopleOf_2 (by decide) (fun h1 => ?_) (fun h1 => ?_)
  · replace hk := it_t h1 hk
    refine j_iconst (pc := 9) (v := nI 3) C dX0_peopleOf_9 (by decide) ?_
    obtain rfl := Option.some.inj hk
    exact j_iret (pc := 10) C dX0_peopleOf_10 (Nat.le_of_ble_eq_true rfl) (Nat.le_of_ble_eq_true rfl)
  · replace hk := it_f h1 hk
    refine j_iconst (pc := 5) (v := nI 2) C dX0_peopleOf_5 (by decide) ?_
    refine j_goto (pc := 6) 10 C dX0_peopleOf_6 (by decide) ?_
    obtain rfl := Option.some.inj hk
    exact j_iret (pc := 10) C dX0_peopleOf_10 (Nat.le_of_ble_eq_true rfl) (Nat.le_of_ble_eq_true rfl)
def f_X0_wants (x0 : Int32) (x1 : Int32) : Option Int32 := (f_X0_peopleOf x0).bind fun r2 => if x1 < r2 then if (nI 4) ≤ x0 then some (((x0 - (nI 4)) >>> (x1 &&& 31)) &&& (nI 1)) else some ((x0 >>> (x1 &&& 31)) &&& (nI 1)) else some (nI 2)
abbrev rm_X0_wants : Room := { frames := 1, cells := 0, slots := 0, locals := 20 }
theorem ms_X0_wants : MS yX0_wants cX0_wants 2 (some .int) 2 := ⟨q431, q91, q432, by decide +kernel⟩
set_option maxHeartbeats 4000000 in
theorem ct_X0_wants {G : WG} {l : Launch} {sh : SH} {I : II} {x0 : Int32} {x1 : Int32} {Z : Int32} (hk : f_X0_wants x0 x1 = some Z) : CT G l yX0_wants (ws_ yX0_wants cX0_wants 2 (some .int)) rm_X0_wants [.int x0, .int x1] (sh, I) (.returned (some (.int Z))) (sh, I) := by
  refine CT.ofJ "NineDemands" rfl (by decide) (Nat.le_of_ble_eq_true rfl) ?_
  intro p e s m args below meth c C
  unfold f_X0_wants at hk
  refine j_lv (lv' := [some (.int x0), some (.int x1)]) rfl ?_
  refine j_iload_n (pc := 0) C dX0_wants_0 rfl rfl ?_
  refine j_iload_n (pc := 1) C dX0_wants_1 rfl rfl ?_
  replace hk := ob_some hk
  obtain ⟨r2, h1, hk⟩ := hk
  refine j_callS (pc := 2) C (ct_X0_peopleOf h1) ms_X0_peopleOf q424 dX0_wants_2 rfl rfl (Nat.le_of_ble_eq_true rfl) rfl ?_
  refine j_icmp_lt (pc := 5) 10 C dX0_wants_5 (by decide) (fun h2 => ?_) (fun h2 => ?_)
  · replace hk := it_t h2 hk
    refine j_iload_n (pc := 10) C dX0_wants_10 rfl rfl ?_
    refine j_iconst (pc := 11) (v := nI 4) C dX0_wants_11 (by decide) ?_
    refine j_icmp_ge (pc := 12) 19 C dX0_wants_12 (by decide) (fun h3 => ?_) (fun h3 => ?_)
    · replace hk := it_t h3 hk
      refine j_iload_n (pc := 19) C dX0_wants_19 rfl rfl ?_
      refine j_iconst (pc := 20) (v := nI 4) C dX0_wants_20 (by decide) ?_
      refine j_isub (pc := 21) C dX0_wants_21 ?_
      refine j_iload_n (pc := 22) C dX0_wants_22 rfl rfl ?_
      refine j_ishr (pc := 23) C dX0_wants_23 ?_
      refine j_iconst (pc := 24) (v := nI 1) C dX0_wants_24 (by decide) ?_
      refine j_iand (pc := 25) C dX0_wants_25 ?_
      obtain rfl := Option.some.inj hk
      exact j_iret (pc := 26) C dX0_wants_26 (Nat.le_of_ble_eq_true rfl) (Nat.le_of_ble_eq_true rfl)
    · replace hk := it_f h3 hk
      refine j_iload_n (pc := 15) C dX0_wants_15 rfl rfl ?_
      refine j_goto (pc := 16) 22 C dX0_wants_16 (by decide) ?_
      refine j_iload_n (pc := 22) C dX0_wants_22 rfl rfl ?_
      refine j_ishr (pc := 23) C dX0_wants_23 ?_
      refine j_iconst (pc := 24) (v := nI 1) C dX0_wants_24 (by decide) ?_
      refine j_iand (pc := 25) C dX0_wants_25 ?_
      obtain rfl := Option.some.inj hk
      exact j_iret (pc := 26) C dX0_wants_26 (Nat.le_of_ble_eq_true rfl) (Nat.le_of_ble_eq_true rfl)
  · replace hk := it_f h2 hk
    refine j_iconst (pc := 8) (v := nI 2) C dX0_wants_8 (by decide) ?_
    obtain rfl := Option.some.inj hk
    exact j_iret (pc := 9) C dX0_wants_9 (Nat.le_of_ble_eq_true rfl) (Nat.le_of_ble_eq_true rfl)
def f_X0_wanting_L4 (F : Nat) (x0 : Int32) (x1 : Int32) : Nat → Int32 → Int32 → Option Int32
  | 0, _, _ => none
  | n4 + 1, x2, x3 => (f_X0_peopleOf x0).bind fun r6 => if r6 ≤ x3 then some x2 else (f_X0_wants x0 x3).bind fun r15 => if r15 = x1 then (f_X0_wanting_L4 F x0 x1 n4) (x2 + (nI 1)) (x3 + (nI 1)) else (f_X0_wanting_L4 F x0 x1 n4) (x2 + (nI 0)) (x3 + (nI 1))
def f_X0_wanting (F : Nat) (x0 : Int32) (x1 : Int32) : Option Int32 := f_X0_wanting_L4 F x0 x1 F (nI 0) (nI 0)
abbrev rm_X0_wanting : Room := { frames := 2, cells := 0, slots := 0, locals := 41 }
theorem ms_X0_wanting : MS yX0_wanting cX0_wanting 4 (some .int) 2 := ⟨q428, q91, q429, by decide +kernel⟩
set_option maxHeartbeats 4000000 in
theorem ct_X0_wanting {G : WG} {l : Launch} {sh : SH} {I : II} {F : Nat} {x0 : Int32} {x1 : Int32} {Z : Int32} (hk : f_X0_wanting F x0 x1 = some Z) : CT G l yX0_wanting (ws_ yX0_wanting cX0_wanting 4 (some .int)) rm_X0_wanting [.int x0, .int x1] (sh, I) (.returned (some (.int Z))) (sh, I) := by
  refine CT.ofJ "NineDemands" rfl (by decide) (Nat.le_of_ble_eq_true rfl) ?_
  intro p e s m args below meth c C
  unfold f_X0_wanting at hk
  refine j_lv (lv' := [some (.int x0), some (.int x1), none, none]) rfl ?_
  refine j_iconst (pc := 0) (v := nI 0) C dX0_wanting_0 (by decide) ?_
  refine j_istore_n (pc := 1) C dX0_wanting_1 rfl (Nat.le_of_ble_eq_true rfl) rfl ?_
  refine j_iconst (pc := 2) (v := nI 0) C dX0_wanting_2 (by decide) ?_
  refine j_istore_n (pc := 3) C dX0_wanting_3 rfl (Nat.le_of_ble_eq_true rfl) rfl ?_
  have L4 : ∀ (x0 : Int32) (x1 : Int32) (n4 : Nat) (x2 : Int32) (x3 : Int32), f_X0_wanting_L4 F x0 x1 n4 x2 x3 = some Z → J G p l e rm_X0_wanting s m args below meth c 4 (.returned (some (.int Z))) (sh, I) (rm_X0_wanting).cells (rm_X0_wanting).slots (sh, I) 0 0 4 [some (.int x0), some (.int x1), some (.int x2), some (.int x3)] [] := by
    intro x0 x1 n4
    induction n4 with
    | zero => intro x2 x3 hk; rw [f_X0_wanting_L4] at hk; cases hk
    | succ n4 ih4 =>
      intro x2 x3 hk
      rw [f_X0_wanting_L4] at hk
      generalize f_X0_wanting_L4 F x0 x1 n4 = k4 at ih4 hk
      refine j_iload_n (pc := 4) C dX0_wanting_4 rfl rfl ?_
      refine j_iload_n (pc := 5) C dX0_wanting_5 rfl rfl ?_
      replace hk := ob_some hk
      obtain ⟨r6, h1, hk⟩ := hk
      refine j_callS (pc := 6) C (ct_X0_peopleOf h1) ms_X0_peopleOf q424 dX0_wanting_6 rfl rfl (Nat.le_of_ble_eq_true rfl) rfl ?_
      refine j_icmp_ge (pc := 9) 35 C dX0_wanting_9 (by decide) (fun h2 => ?_) (fun h2 => ?_)
      · replace hk := it_t h2 hk
        refine j_iload_n (pc := 35) C dX0_wanting_35 rfl rfl ?_
        obtain rfl := Option.some.inj hk
        exact j_iret (pc := 36) C dX0_wanting_36 (Nat.le_of_ble_eq_true rfl) (Nat.le_of_ble_eq_true rfl)
      · replace hk := it_f h2 hk
        refine j_iload_n (pc := 12) C dX0_wanting_12 rfl rfl ?_
        refine j_iload_n (pc := 13) C dX0_wanting_13 rfl rfl ?_
        refine j_iload_n (pc := 14) C dX0_wanting_14 rfl rfl ?_
        replace hk := ob_some hk
        obtain ⟨r15, h3, hk⟩ := hk
        refine j_callS (pc := 15) C (ct_X0_wants h3) ms_X0_wants q430 dX0_wanting_15 rfl rfl (Nat.le_of_ble_eq_true rfl) rfl ?_
        refine j_iload_n (pc := 18) C dX0_wanting_18 rfl rfl ?_
        refine j_icmp_ne (pc := 19) 26 C dX0_wanting_19 (by decide) (fun h4 => ?_) (fun h4 => ?_)
        · replace hk := it_f h4 hk
          refine j_iconst (pc := 26) (v := nI 0) C dX0_wanting_26 (by decide) ?_
          refine j_iadd (pc := 27) C dX0_wanting_27 ?_
          refine j_istore_n (pc := 28) C dX0_wanting_28 rfl (Nat.le_of_ble_eq_true rfl) rfl ?_
          refine j_iinc (pc := 29) (nI 1) C dX0_wanting_29 rfl (by decide) (Nat.le_of_ble_eq_true rfl) rfl ?_
          refine j_goto (pc := 32) 4 C dX0_wanting_32 (by decide) ?_
          exact j_mask [true, true, true, true] (ih4 _ _ hk)
        · replace hk := it_t h4 hk
          refine j_iconst (pc := 22) (v := nI 1) C dX0_wanting_22 (by decide) ?_
          refine j_goto (pc := 23) 27 C dX0_wanting_23 (by decide) ?_
          refine j_iadd (pc := 27) C dX0_wanting_27 ?_
          refine j_istore_n (pc := 28) C dX0_wanting_28 rfl (Nat.le_of_ble_eq_true rfl) rfl ?_
          refine j_iinc (pc := 29) (nI 1) C dX0_wanting_29 rfl (by decide) (Nat.le_of_ble_eq_true rfl) rfl ?_
          refine j_goto (pc := 32) 4 C dX0_wanting_32 (by decide) ?_
          exact j_mask [true, true, true, true] (ih4 _ _ hk)
  exact j_mask [true, true, true, true] (L4 _ _ _ _ _ hk)
def f_X0_evenly (x0 : Int32) (x1 : Int32) : Option Int32 := if x0 = nI 5 then some (nI 3) else if x0 = nI 6 then some (nI 1) else if x0 = nI 7 then some (nI 2) else (f_X0_wants x1 (nI 0)).bind fun r37 => some ((nI 1) + r37)
abbrev rm_X0_evenly : Room := { frames := 2, cells := 0, slots := 0, locals := 41 }
theorem ms_X0_evenly : MS yX0_evenly cX0_evenly 2 (some .int) 2 := ⟨q503, q91, q504, by decide +kernel⟩
set_option maxHeartbeats 4000000 in
theorem ct_X0_evenly {G : WG} {l : Launch} {sh : SH} {I : II} {x0 : Int32} {x1 : Int32} {Z : Int32} (hk : f_X0_evenly x0 x1 = some Z) : CT G l yX0_evenly (ws_ yX0_evenly cX0_evenly 2 (some .int)) rm_X0_evenly [.int x0, .int x1] (sh, I) (.returned (some (.int Z))) (sh, I) := by
  refine CT.ofJ "NineDemands" rfl (by decide) (Nat.le_of_ble_eq_true rfl) ?_
  intro p e s m args below meth c C
  unfold f_X0_evenly at hk
  refine j_lv (lv' := [some (.int x0), some (.int x1)]) rfl ?_
  refine j_iload_n (pc := 0) C dX0_evenly_0 rfl rfl ?_
  by_cases h1 : x0 = nI 5
  · replace hk := it_t h1 hk
    refine j_tableIn (pc := 1) 28 5 C dX0_evenly_1 (sw_in h1 (by decide)) (by decide) (by decide) rfl (by decide) ?_
    refine j_iconst (pc := 28) (v := nI 3) C dX0_evenly_28 (by decide) ?_
    obtain rfl := Option.some.inj hk
    exact j_iret (pc := 29) C dX0_evenly_29 (Nat.le_of_ble_eq_true rfl) (Nat.le_of_ble_eq_true rfl)
  replace hk := it_f h1 hk
  by_cases h2 : x0 = nI 6
  · replace hk := it_t h2 hk
    refine j_tableIn (pc := 1) 30 6 C dX0_evenly_1 (sw_in h2 (by decide)) (by decide) (by decide) rfl (by decide) ?_
    refine j_iconst (pc := 30) (v := nI 1) C dX0_evenly_30 (by decide) ?_
    obtain rfl := Option.some.inj hk
    exact j_iret (pc := 31) C dX0_evenly_31 (Nat.le_of_ble_eq_true rfl) (Nat.le_of_ble_eq_true rfl)
  replace hk := it_f h2 hk
  by_cases h3 : x0 = nI 7
  · replace hk := it_t h3 hk
    refine j_tableIn (pc := 1) 32 7 C dX0_evenly_1 (sw_in h3 (by decide)) (by decide) (by decide) rfl (by decide) ?_
    refine j_iconst (pc := 32) (v := nI 2) C dX0_evenly_32 (by decide) ?_
    obtain rfl := Option.some.inj hk
    exact j_iret (pc := 33) C dX0_evenly_33 (Nat.le_of_ble_eq_true rfl) (Nat.le_of_ble_eq_true rfl)
  replace hk := it_f h3 hk
  refine j_tableOut (pc := 1) 34 C dX0_evenly_1 (sw_out (lo := 5) (hi := 7) (by decide) (fun j a1 a2 => by
    have a3 : j = 5 ∨ j = 6 ∨ j = 7 := by omega
    rcases a3 with rfl | rfl | rfl
    · exact h1
    · exact h2
    · exact h3)) (by decide) ?_
  refine j_iconst (pc := 34) (v := nI 1) C dX0_evenly_34 (by decide) ?_
  refine j_iload_n (pc := 35) C dX0_evenly_35 rfl rfl ?_
  refine j_iconst (pc := 36) (v := nI 0) C dX0_evenly_36 (by decide) ?_
  replace hk := ob_some hk
  obtain ⟨r37, h4, hk⟩ := hk
  refine j_callS (pc := 37) C (ct_X0_wants h4) ms_X0_wants q430 dX0_evenly_37 rfl rfl (Nat.le_of_ble_eq_true rfl) rfl ?_
  refine j_iadd (pc := 40) C dX0_evenly_40 ?_
  obtain rfl := Option.some.inj hk
  exact j_iret (pc := 41) C dX0_evenly_41 (Nat.le_of_ble_eq_true rfl) (Nat.le_of_ble_eq_true rfl)
def f_X0_formed (F : Nat) (x0 : Int32) (x1 : Int32) : Option Int32 := (f_X0_wanting F x1 (nI 0)).bind fun r2 => (f_X0_wanting F x1 (nI 1)).bind fun r8 => if x0 = nI 0 then some (nI 1) else if x0 = nI 1 then some (nI 2) else if x0 = nI 2 then some (nI 3) else if x0 = nI 3 then (f_X0_wants x1 (nI 0)).bind fun r85 => some ((nI 1) + r85) else if x0 = nI 4 then (f_X0_wants x1 (nI 1)).bind fun r93 => some ((nI 1) + r93) else if x0 = nI 5 then if r2 ≤ r8 then if r8 ≤ r2 then (f_X0_evenly x0 x1).bind fun r156 => some r156 else some (nI 2) else some (nI 1) else if x0 = nI 6 then if r2 ≤ r8 then if r8 ≤ r2 then (f_X0_evenly x0 x1).bind fun r156 => some r156 else some (nI 2) else some (nI 1) else if x0 = nI 7 then if r2 ≤ r8 then if r8 ≤ r2 then (f_X0_evenly x0 x1).bind fun r156 => some r156 else some (nI 2) else some (nI 1) else if x0 = nI 8 then if r2 ≤ r8 then if r8 ≤ r2 then (f_X0_evenly x0 x1).bind fun r156 => some r156 else some (nI 2) else some (nI 1) else if x0 = nI 9 then if r8 = 0 then some (nI 1) else if r2 = 0 then some (nI 2) else some (nI 3) else if x0 = nI 10 then if r8 ≤ 0 then some (nI 1) else some (nI 2) else if x0 = nI 11 then if r2 ≤ 0 then some (nI 2) else some (nI 1) else if r2 ≤ r8 then if r8 ≤ r2 then (f_X0_evenly x0 x1).bind fun r156 => some r156 else some (nI 2) else some (nI 1)
abbrev rm_X0_formed : Room := { frames := 3, cells := 0, slots := 0, locals := 64 }
theorem ms_X0_formed : MS yX0_formed cX0_formed 4 (some .int) 2 := ⟨q500, q91, q501, by decide +kernel⟩
set_option maxHeartbeats 4000000 in
theorem ct_X0_formed {G : WG} {l : Launch} {sh : SH} {I : II} {F : Nat} {x0 : Int32} {x1 : Int32} {Z : Int32} (hk : f_X0_formed F x0 x1 = some Z) : CT G l yX0_formed (ws_ yX0_formed cX0_formed 4 (some .int)) rm_X0_formed [.int x0, .int x1] (sh, I) (.returned (some (.int Z))) (sh, I) := by
  refine CT.ofJ "NineDemands" rfl (by decide) (Nat.le_of_ble_eq_true rfl) ?_
  intro p e s m args below meth c C
  unfold f_X0_formed at hk
  refine j_lv (lv' := [some (.int x0), some (.int x1), none, none]) rfl ?_
  refine j_iload_n (pc := 0) C dX0_formed_0 rfl rfl ?_
  refine j_iconst (pc := 1) (v := nI 0) C dX0_formed_1 (by decide) ?_
  replace hk := ob_some hk
  obtain ⟨r2, h1, hk⟩ := hk
  refine j_callS (pc := 2) C (ct_X0_wanting h1) ms_X0_wanting q427 dX0_formed_2 rfl rfl (Nat.le_of_ble_eq_true rfl) rfl ?_
  refine j_istore_n (pc := 5) C dX0_formed_5 rfl (Nat.le_of_ble_eq_true rfl) rfl ?_
  refine j_iload_n (pc := 6) C dX0_formed_6 rfl rfl ?_
  refine j_iconst (pc := 7) (v := nI 1) C dX0_formed_7 (by decide) ?_
  replace hk := ob_some hk
  obtain ⟨r8, h2, hk⟩ := hk
  refine j_callS (pc := 8) C (ct_X0_wanting h2) ms_X0_wanting q427 dX0_formed_8 rfl rfl (Nat.le_of_ble_eq_true rfl) rfl ?_
  refine j_istore_n (pc := 11) C dX0_formed_11 rfl (Nat.le_of_ble_eq_true rfl) rfl ?_
  refine j_iload_n (pc := 12) C dX0_formed_12 rfl rfl ?_
  by_cases h3 : x0 = nI 0
  · replace hk := it_t h3 hk
    refine j_tableIn (pc := 13) 76 0 C dX0_formed_13 (sw_in h3 (by decide)) (by decide) (by decide) rfl (by decide) ?_
    refine j_iconst (pc := 76) (v := nI 1) C dX0_formed_76 (by decide) ?_
    obtain rfl := Option.some.inj hk
    exact j_iret (pc := 77) C dX0_formed_77 (Nat.le_of_ble_eq_true rfl) (Nat.le_of_ble_eq_true rfl)
  replace hk := it_f h3 hk
  by_cases h4 : x0 = nI 1
  · replace hk := it_t h4 hk
    refine j_tableIn (pc := 13) 78 1 C dX0_formed_13 (sw_in h4 (by decide)) (by decide) (by decide) rfl (by decide) ?_
    refine j_iconst (pc := 78) (v := nI 2) C dX0_formed_78 (by decide) ?_
    obtain rfl := Option.some.inj hk
    exact j_iret (pc := 79) C dX0_formed_79 (Nat.le_of_ble_eq_true rfl) (Nat.le_of_ble_eq_true rfl)
  replace hk := it_f h4 hk
  by_cases h5 : x0 = nI 2
  · replace hk := it_t h5 hk
    refine j_tableIn (pc := 13) 80 2 C dX0_formed_13 (sw_in h5 (by decide)) (by decide) (by decide) rfl (by decide) ?_
    refine j_iconst (pc := 80) (v := nI 3) C dX0_formed_80 (by decide) ?_
    obtain rfl := Option.some.inj hk
    exact j_iret (pc := 81) C dX0_formed_81 (Nat.le_of_ble_eq_true rfl) (Nat.le_of_ble_eq_true rfl)
  replace hk := it_f h5 hk
  by_cases h6 : x0 = nI 3
  · replace hk := it_t h6 hk
    refine j_tableIn (pc := 13) 82 3 C dX0_formed_13 (sw_in h6 (by decide)) (by decide) (by decide) rfl (by decide) ?_
    refine j_iconst (pc := 82) (v := nI 1) C dX0_formed_82 (by decide) ?_
    refine j_iload_n (pc := 83) C dX0_formed_83 rfl rfl ?_
    refine j_iconst (pc := 84) (v := nI 0) C dX0_formed_84 (by decide) ?_
    replace hk := ob_some hk
    obtain ⟨r85, h7, hk⟩ := hk
    refine j_callS (pc := 85) C (ct_X0_wants h7) ms_X0_wants q430 dX0_formed_85 rfl rfl (Nat.le_of_ble_eq_true rfl) rfl ?_
    refine j_iadd (pc := 88) C dX0_formed_88 ?_
    obtain rfl := Option.some.inj hk
    exact j_iret (pc := 89) C dX0_formed_89 (Nat.le_of_ble_eq_true rfl) (Nat.le_of_ble_eq_true rfl)
  replace hk := it_f h6 hk
  by_cases h8 : x0 = nI 4
  · replace hk := it_t h8 hk
    refine j_tableIn (pc := 13) 90 4 C dX0_formed_13 (sw_in h8 (by decide)) (by decide) (by decide) rfl (by decide) ?_
    refine j_iconst (pc := 90) (v := nI 1) C dX0_formed_90 (by decide) ?_
    refine j_iload_n (pc := 91) C dX0_formed_91 rfl rfl ?_
    refine j_iconst (pc := 92) (v := nI 1) C dX0_formed_92 (by decide) ?_
    replace hk := ob_some hk
    obtain ⟨r93, h9, hk⟩ := hk
    refine j_callS (pc := 93) C (ct_X0_wants h9) ms_X0_wants q430 dX0_formed_93 rfl rfl (Nat.le_of_ble_eq_true rfl) rfl ?_
    refine j_iadd (pc := 96) C dX0_formed_96 ?_
    obtain rfl := Option.some.inj hk
    exact j_iret (pc := 97) C dX0_formed_97 (Nat.le_of_ble_eq_true rfl) (Nat.le_of_ble_eq_true rfl)
  replace hk := it_f h8 hk
  by_cases h10 : x0 = nI 5
  · replace hk := it_t h10 hk
    refine j_tableIn (pc := 13) 136 5 C dX0_formed_13 (sw_in h10 (by decide)) (by decide) (by decide) rfl (by decide) ?_
    refine j_iload_n (pc := 136) C dX0_formed_136 rfl rfl ?_
    refine j_iload_n (pc := 137) C dX0_formed_137 rfl rfl ?_
    refine j_icmp_le (pc := 138) 145 C dX0_formed_138 (by decide) (fun h11 => ?_) (fun h11 => ?_)
    · replace hk := it_t h11 hk
      refine j_iload_n (pc := 145) C dX0_formed_145 rfl rfl ?_
      refine j_iload_n (pc := 146) C dX0_formed_146 rfl rfl ?_
      refine j_icmp_ge (pc := 147) 154 C dX0_formed_147 (by decide) (fun h12 => ?_) (fun h12 => ?_)
      · replace hk := it_t h12 hk
        refine j_iload_n (pc := 154) C dX0_formed_154 rfl rfl ?_
        refine j_iload_n (pc := 155) C dX0_formed_155 rfl rfl ?_
        replace hk := ob_some hk
        obtain ⟨r156, h13, hk⟩ := hk
        refine j_callS (pc := 156) C (ct_X0_evenly h13) ms_X0_evenly q502 dX0_formed_156 rfl rfl (Nat.le_of_ble_eq_true rfl) rfl ?_
        obtain rfl := Option.some.inj hk
        exact j_iret (pc := 159) C dX0_formed_159 (Nat.le_of_ble_eq_true rfl) (Nat.le_of_ble_eq_true rfl)
      · replace hk := it_f h12 hk
        refine j_iconst (pc := 150) (v := nI 2) C dX0_formed_150 (by decide) ?_
        refine j_goto (pc := 151) 159 C dX0_formed_151 (by decide) ?_
        obtain rfl := Option.some.inj hk
        exact j_iret (pc := 159) C dX0_formed_159 (Nat.le_of_ble_eq_true rfl) (Nat.le_of_ble_eq_true rfl)
    · replace hk := it_f h11 hk
      refine j_iconst (pc := 141) (v := nI 1) C dX0_formed_141 (by decide) ?_
      refine j_goto (pc := 142) 159 C dX0_formed_142 (by decide) ?_
      obtain rfl := Option.some.inj hk
      exact j_iret (pc := 159) C dX0_formed_159 (Nat.le_of_ble_eq_true rfl) (Nat.le_of_ble_eq_true rfl)
  replace hk := it_f h10 hk
  by_cases h14 : x0 = nI 6
  · replace hk := it_t h14 hk
    refine j_tableIn (pc := 13) 136 6 C dX0_formed_13 (sw_in h14 (by decide)) (by decide) (by decide) rfl (by decide) ?_
    refine j_iload_n (pc := 136) C dX0_formed_136 rfl rfl ?_
    refine j_iload_n (pc := 137) C dX0_formed_137 rfl rfl ?_
    refine j_icmp_le (pc := 138) 145 C dX0_formed_138 (by decide) (fun h15 => ?_) (fun h15 => ?_)
    · replace hk := it_t h15 hk
      refine j_iload_n (pc := 145) C dX0_formed_145 rfl rfl ?_
      refine j_iload_n (pc := 146) C dX0_formed_146 rfl rfl ?_
      refine j_icmp_ge (pc := 147) 154 C dX0_formed_147 (by decide) (fun h16 => ?_) (fun h16 => ?_)
      · replace hk := it_t h16 hk
        refine j_iload_n (pc := 154) C dX0_formed_154 rfl rfl ?_
        refine j_iload_n (pc := 155) C dX0_formed_155 rfl rfl ?_
        replace hk := ob_some hk
        obtain ⟨r156, h17, hk⟩ := hk
        refine j_callS (pc := 156) C (ct_X0_evenly h17) ms_X0_evenly q502 dX0_formed_156 rfl rfl (Nat.le_of_ble_eq_true rfl) rfl ?_
        obtain rfl := Option.some.inj hk
        exact j_iret (pc := 159) C dX0_formed_159 (Nat.le_of_ble_eq_true rfl) (Nat.le_of_ble_eq_true rfl)
      · replace hk := it_f h16 hk
        refine j_iconst (pc := 150) (v := nI 2) C dX0_formed_150 (by decide) ?_
        refine j_goto (pc := 151) 159 C dX0_formed_151 (by decide) ?_
        obtain rfl := Option.some.inj hk
        exact j_iret (pc := 159) C dX0_formed_159 (Nat.le_of_ble_eq_true rfl) (Nat.le_of_ble_eq_true rfl)
    · replace hk := it_f h15 hk
      refine j_iconst (pc := 141) (v := nI 1) C dX0_formed_141 (by decide) ?_
      refine j_goto (pc := 142) 159 C dX0_formed_142 (by decide) ?_
      obtain rfl := Option.some.inj hk
      exact j_iret (pc := 159) C dX0_formed_159 (Nat.le_of_ble_eq_true rfl) (Nat.le_of_ble_eq_true rfl)
  replace hk := it_f h14 hk
  by_cases h18 : x0 = nI 7
  · replace hk := it_t h18 hk
    refine j_tableIn (pc := 13) 136 7 C dX0_formed_13 (sw_in h18 (by decide)) (by decide) (by decide) rfl (by decide) ?_
    refine j_iload_n (pc := 136) C dX0_formed_136 rfl rfl ?_
    refine j_iload_n (pc := 137) C dX0_formed_137 rfl rfl ?_
    refine j_icmp_le (pc := 138) 145 C dX0_formed_138 (by decide) (fun h19 => ?_) (fun h19 => ?_)
    · replace hk := it_t h19 hk
      refine j_iload_n (pc := 145) C dX0_formed_145 rfl rfl ?_
      refine j_iload_n (pc := 146) C dX0_formed_146 rfl rfl ?_
      refine j_icmp_ge (pc := 147) 154 C dX0_formed_147 (by decide) (fun h20 => ?_) (fun h20 => ?_)
      · replace hk := it_t h20 hk
        refine j_iload_n (pc := 154) C dX0_formed_154 rfl rfl ?_
        refine j_iload_n (pc := 155) C dX0_formed_155 rfl rfl ?_
        replace hk := ob_some hk
        obtain ⟨r156, h21, hk⟩ := hk
        refine j_callS (pc := 156) C (ct_X0_evenly h21) ms_X0_evenly q502 dX0_formed_156 rfl rfl (Nat.le_of_ble_eq_true rfl) rfl ?_
        obtain rfl := Option.some.inj hk
        exact j_iret (pc := 159) C dX0_formed_159 (Nat.le_of_ble_eq_true rfl) (Nat.le_of_ble_eq_true rfl)
      · replace hk := it_f h20 hk
        refine j_iconst (pc := 150) (v := nI 2) C dX0_formed_150 (by decide) ?_
        refine j_goto (pc := 151) 159 C dX0_formed_151 (by decide) ?_
        obtain rfl := Option.some.inj hk
        exact j_iret (pc := 159) C dX0_formed_159 (Nat.le_of_ble_eq_true rfl) (Nat.le_of_ble_eq_true rfl)
    · replace hk := it_f h19 hk
      refine j_iconst (pc := 141) (v := nI 1) C dX0_formed_141 (by decide) ?_
      refine j_goto (pc := 142) 159 C dX0_formed_142 (by decide) ?_
      obtain rfl := Option.some.inj hk
      exact j_iret (pc := 159) C dX0_formed_159 (Nat.le_of_ble_eq_true rfl) (Nat.le_of_ble_eq_true rfl)
  replace hk := it_f h18 hk
  by_cases h22 : x0 = nI 8
  · replace hk := it_t h22 hk
    refine j_tableIn (pc := 13) 136 8 C dX0_formed_13 (sw_in h22 (by decide)) (by decide) (by decide) rfl (by decide) ?_
    refine j_iload_n (pc := 136) C dX0_formed_136 rfl rfl ?_
    refine j_iload_n (pc := 137) C dX0_formed_137 rfl rfl ?_
    refine j_icmp_le (pc := 138) 145 C dX0_formed_138 (by decide) (fun h23 => ?_) (fun h23 => ?_)
    · replace hk := it_t h23 hk
      refine j_iload_n (pc := 145) C dX0_formed_145 rfl rfl ?_
      refine j_iload_n (pc := 146) C dX0_formed_146 rfl rfl ?_
      refine j_icmp_ge (pc := 147) 154 C dX0_formed_147 (by decide) (fun h24 => ?_) (fun h24 => ?_)
      · replace hk := it_t h24 hk
        refine j_iload_n (pc := 154) C dX0_formed_154 rfl rfl ?_
        refine j_iload_n (pc := 155) C dX0_formed_155 rfl rfl ?_
        replace hk := ob_some hk
        obtain ⟨r156, h25, hk⟩ := hk
        refine j_callS (pc := 156) C (ct_X0_evenly h25) ms_X0_evenly q502 dX0_formed_156 rfl rfl (Nat.le_of_ble_eq_true rfl) rfl ?_
        obtain rfl := Option.some.inj hk
        exact j_iret (pc := 159) C dX0_formed_159 (Nat.le_of_ble_eq_true rfl) (Nat.le_of_ble_eq_true rfl)
      · replace hk := it_f h24 hk
        refine j_iconst (pc := 150) (v := nI 2) C dX0_formed_150 (by decide) ?_
        refine j_goto (pc := 151) 159 C dX0_formed_151 (by decide) ?_
        obtain rfl := Option.some.inj hk
        exact j_iret (pc := 159) C dX0_formed_159 (Nat.le_of_ble_eq_true rfl) (Nat.le_of_ble_eq_true rfl)
    · replace hk := it_f h23 hk
      refine j_iconst (pc := 141) (v := nI 1) C dX0_formed_141 (by decide) ?_
      refine j_goto (pc := 142) 159 C dX0_formed_142 (by decide) ?_
      obtain rfl := Option.some.inj hk
      exact j_iret (pc := 159) C dX0_formed_159 (Nat.le_of_ble_eq_true rfl) (Nat.le_of_ble_eq_true rfl)
  replace hk := it_f h22 hk
  by_cases h26 : x0 = nI 9
  · replace hk := it_t h26 hk
    refine j_tableIn (pc := 13) 98 9 C dX0_formed_13 (sw_in h26 (by decide)) (by decide) (by decide) rfl (by decide) ?_
    refine j_iload_n (pc := 98) C dX0_formed_98 rfl rfl ?_
    refine j_if_ne (pc := 99) 106 C dX0_formed_99 (by decide) (fun h27 => ?_) (fun h27 => ?_)
    · replace hk := it_f h27 hk
      refine j_iload_n (pc := 106) C dX0_formed_106 rfl rfl ?_
      refine j_if_ne (pc := 107) 114 C dX0_formed_107 (by decide) (fun h28 => ?_) (fun h28 => ?_)
      · replace hk := it_f h28 hk
        refine j_iconst (pc := 114) (v := nI 3) C dX0_formed_114 (by decide) ?_
        obtain rfl := Option.some.inj hk
        exact j_iret (pc := 115) C dX0_formed_115 (Nat.le_of_ble_eq_true rfl) (Nat.le_of_ble_eq_true rfl)
      · replace hk := it_t h28 hk
        refine j_iconst (pc := 110) (v := nI 2) C dX0_formed_110 (by decide) ?_
        refine j_goto (pc := 111) 115 C dX0_formed_111 (by decide) ?_
        obtain rfl := Option.some.inj hk
        exact j_iret (pc := 115) C dX0_formed_115 (Nat.le_of_ble_eq_true rfl) (Nat.le_of_ble_eq_true rfl)
    · replace hk := it_t h27 hk
      refine j_iconst (pc := 102) (v := nI 1) C dX0_formed_102 (by decide) ?_
      refine j_goto (pc := 103) 115 C dX0_formed_103 (by decide) ?_
      obtain rfl := Option.some.inj hk
      exact j_iret (pc := 115) C dX0_formed_115 (Nat.le_of_ble_eq_true rfl) (Nat.le_of_ble_eq_true rfl)
  replace hk := it_f h26 hk
  by_cases h29 : x0 = nI 10
  · replace hk := it_t h29 hk
    refine j_tableIn (pc := 13) 116 10 C dX0_formed_13 (sw_in h29 (by decide)) (by decide) (by decide) rfl (by decide) ?_
    refine j_iload_n (pc := 116) C dX0_formed_116 rfl rfl ?_
    refine j_if_le (pc := 117) 124 C dX0_formed_117 (by decide) (fun h30 => ?_) (fun h30 => ?_)
    · replace hk := it_t h30 hk
      refine j_iconst (pc := 124) (v := nI 1) C dX0_formed_124 (by decide) ?_
      obtain rfl := Option.some.inj hk
      exact j_iret (pc := 125) C dX0_formed_125 (Nat.le_of_ble_eq_true rfl) (Nat.le_of_ble_eq_true rfl)
    · replace hk := it_f h30 hk
      refine j_iconst (pc := 120) (v := nI 2) C dX0_formed_120 (by decide) ?_
      refine j_goto (pc := 121) 125 C dX0_formed_121 (by decide) ?_
      obtain rfl := Option.some.inj hk
      exact j_iret (pc := 125) C dX0_formed_125 (Nat.le_of_ble_eq_true rfl) (Nat.le_of_ble_eq_true rfl)
  replace hk := it_f h29 hk
  by_cases h31 : x0 = nI 11
  · replace hk := it_t h31 hk
    refine j_tableIn (pc := 13) 126 11 C dX0_formed_13 (sw_in h31 (by decide)) (by decide) (by decide) rfl (by decide) ?_
    refine j_iload_n (pc := 126) C dX0_formed_126 rfl rfl ?_
    refine j_if_le (pc := 127) 134 C dX0_formed_127 (by decide) (fun h32 => ?_) (fun h32 => ?_)
    · replace hk := it_t h32 hk
      refine j_iconst (pc := 134) (v := nI 2) C dX0_formed_134 (by decide) ?_
      obtain rfl := Option.some.inj hk
      exact j_iret (pc := 135) C dX0_formed_135 (Nat.le_of_ble_eq_true rfl) (Nat.le_of_ble_eq_true rfl)
    · replace hk := it_f h32 hk
      refine j_iconst (pc := 130) (v := nI 1) C dX0_formed_130 (by decide) ?_
      refine j_goto (pc := 131) 135 C dX0_formed_131 (by decide) ?_
      obtain rfl := Option.some.inj hk
      exact j_iret (pc := 135) C dX0_formed_135 (Nat.le_of_ble_eq_true rfl) (Nat.le_of_ble_eq_true rfl)
  replace hk := it_f h31 hk
  refine j_tableOut (pc := 13) 136 C dX0_formed_13 (sw_out (lo := 0) (hi := 11) (by decide) (fun j a1 a2 => by
    have a3 : j = 0 ∨ j = 1 ∨ j = 2 ∨ j = 3 ∨ j = 4 ∨ j = 5 ∨ j = 6 ∨ j = 7 ∨ j = 8 ∨ j = 9 ∨ j = 10 ∨ j = 11 := by omega
    rcases a3 with rfl | rfl | rfl | rfl | rfl | rfl | rfl | rfl | rfl | rfl | rfl | rfl
    · exact h3
    · exact h4
    · exact h5
    · exact h6
    · exact h8
    · exact h10
    · exact h14
    · exact h18
    · exact h22
    · exact h26
    · exact h29
    · exact h31)) (by decide) ?_
  refine j_iload_n (pc := 136) C dX0_formed_136 rfl rfl ?_
  refine j_iload_n (pc := 137) C dX0_formed_137 rfl rfl ?_
  refine j_icmp_le (pc := 138) 145 C dX0_formed_138 (by decide) (fun h33 => ?_) (fun h33 => ?_)
  · replace hk := it_t h33 hk
    refine j_iload_n (pc := 145) C dX0_formed_145 rfl rfl ?_
    refine j_iload_n (pc := 146) C dX0_formed_146 rfl rfl ?_
    refine j_icmp_ge (pc := 147) 154 C dX0_formed_147 (by decide) (fun h34 => ?_) (fun h34 => ?_)
    · replace hk := it_t h34 hk
      refine j_iload_n (pc := 154) C dX0_formed_154 rfl rfl ?_
      refine j_iload_n (pc := 155) C dX0_formed_155 rfl rfl ?_
      replace hk := ob_some hk
      obtain ⟨r156, h35, hk⟩ := hk
      refine j_callS (pc := 156) C (ct_X0_evenly h35) ms_X0_evenly q502 dX0_formed_156 rfl rfl (Nat.le_of_ble_eq_true rfl) rfl ?_
      obtain rfl := Option.some.inj hk
      exact j_iret (pc := 159) C dX0_formed_159 (Nat.le_of_ble_eq_true rfl) (Nat.le_of_ble_eq_true rfl)
    · replace hk := it_f h34 hk
      refine j_iconst (pc := 150) (v := nI 2) C dX0_formed_150 (by decide) ?_
      refine j_goto (pc := 151) 159 C dX0_formed_151 (by decide) ?_
      obtain rfl := Option.some.inj hk
      exact j_iret (pc := 159) C dX0_formed_159 (Nat.le_of_ble_eq_true rfl) (Nat.le_of_ble_eq_true rfl)
  · replace hk := it_f h33 hk
    refine j_iconst (pc := 141) (v := nI 1) C dX0_formed_141 (by decide) ?_
    refine j_goto (pc := 142) 159 C dX0_formed_142 (by decide) ?_
    obtain rfl := Option.some.inj hk
    exact j_iret (pc := 159) C dX0_formed_159 (Nat.le_of_ble_eq_true rfl) (Nat.le_of_ble_eq_true rfl)
