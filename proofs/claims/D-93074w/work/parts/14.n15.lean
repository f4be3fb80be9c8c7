/-! the class: walks -/
set_option maxRecDepth 100000
def f_X0_hall_J72 (F : Nat) (sh : SH) (s0 : Nat) (I : II) : Option (Int32 × II) := bd2 (f_X0_finds sh s0 I) fun r75 I75 => some (r75, I75)
def f_X0_hall_J33 (F : Nat) (sh : SH) (x1 : Int32) (x2 : Int32) (s1 : Int32) (I : II) : Option (Int32 × II) := bd2 (f_X0_need sh s1 (nI 1) I) fun u34 I34 => oex u34 (fun _w34 => if x2 = 0 then (f_X0_peopleOf x1).bind fun r42 => some (r42, I34) else if (nI 3) ≤ x2 then (f_X0_wants x1 (x2 - (nI 10))).bind fun r68 => some (r68, I34) else (f_X0_wanting F x1 (x2 - (nI 1))).bind fun r57 => some (r57, I34)) (fun w34 => ock sh w34 1 <| f_X0_hall_J72 F sh w34 I34)
def f_X0_hall_J32 (F : Nat) (sh : SH) (x1 : Int32) (x2 : Int32) (I : II) : Option (Int32 × II) := f_X0_hall_J33 F sh x1 x2 (nI 0) I
def f_X0_hall_J28 (F : Nat) (sh : SH) (x1 : Int32) (x2 : Int32) (I : II) : Option (Int32 × II) := f_X0_hall_J33 F sh x1 x2 (nI 1) I
def f_X0_hall (F : Nat) (sh : SH) (x1 : Int32) (x2 : Int32) (I : II) : Option (Int32 × II) := (f_X0_isHall x1).bind fun r2 => if r2 = 0 then f_X0_hall_J32 F sh x1 x2 I else (f_X0_in x2 (nI 0) (nI 2)).bind fun r11 => if r11 = 0 then (f_X0_in x2 (nI 10) (nI 12)).bind fun r22 => if r22 = 0 then f_X0_hall_J32 F sh x1 x2 I else f_X0_hall_J28 F sh x1 x2 I else f_X0_hall_J28 F sh x1 x2 I
abbrev rm_X0_hall : Room := { frames := 3, cells := 0, slots := 0, locals := 64 }
theorem mv_X0_hall_ok : callOK yX0_hall 2 := by decide +kernel
theorem mw_X0_hall : MW yX0_hall cX0_hall 4 (some .int) [(0, 71, 72, 8)] 2 := ⟨q407, q408, q91, q409, mv_X0_hall_ok⟩
set_option maxHeartbeats 4000000 in
theorem ct_X0_hall {G : WG} {l : Launch} {sh : SH} (hS : stN sh) {I : II} {F : Nat} {x1 : Int32} {x2 : Int32} {Z : (Int32 × II)} (hk : f_X0_hall F sh x1 x2 I = some Z) : CT G l yX0_hall (wsW_ yX0_hall cX0_hall 4 (some .int) [(0, 71, 72, 8)]) rm_X0_hall [.ref (wad G 0), .int x1, .int x2] (sh, I) (.returned (some (.int Z.1))) (sh, Z.2) := by
  refine CT.ofJW "NineDemands" rfl (by decide) (Nat.le_of_ble_eq_true rfl) ?_
  intro p e s m args below meth c C
  unfold f_X0_hall at hk
  refine j_lv (lv' := [some (.ref (wad G 0)), some (.int x1), some (.int x2), none]) rfl ?_
  refine j_aload_n (pc := 0) C dX0_hall_0 rfl rfl ?_
  refine j_iload_n (pc := 1) C dX0_hall_1 rfl rfl ?_
  replace hk := ob_some hk
  obtain ⟨r2, h1, hk⟩ := hk
  refine j_callS (pc := 2) C (ct_X0_isHall h1) ms_X0_isHall q410 dX0_hall_2 rfl rfl (Nat.le_of_ble_eq_true rfl) rfl ?_
  have Jn33 : ∀ (x1 : Int32) (x2 : Int32) (s1 : Int32) (I : II), f_X0_hall_J33 F sh x1 x2 s1 I = some Z → J G p l e rm_X0_hall s m args below meth c 4 (.returned (some (.int Z.1))) (sh, Z.2) (rm_X0_hall).cells (rm_X0_hall).slots (sh, I) 0 0 33 [some (.ref (wad G 0)), some (.int x1), some (.int x2), none] [.int s1, .ref (wad G 0)] := by
    intro x1 x2 s1 I hk
    unfold f_X0_hall_J33 at hk
    refine j_iconst (pc := 33) (v := nI 1) C dX0_hall_33 (by decide) ?_
    have Jn72 : ∀ (s0 : Nat) (I : II), f_X0_hall_J72 F sh s0 I = some Z → J G p l e rm_X0_hall s m args below meth c 4 (.returned (some (.int Z.1))) (sh, Z.2) (rm_X0_hall).cells (rm_X0_hall).slots (sh, I) 0 0 72 [some (.ref (wad G 0)), none, none, none] [.ref (wad G s0)] := by
      intro s0 I hk
      unfold f_X0_hall_J72 at hk
      refine j_astore_n (pc := 72) C dX0_hall_72 rfl (Nat.le_of_ble_eq_true rfl) rfl ?_
      refine j_aload_n (pc := 73) C dX0_hall_73 rfl rfl ?_
      refine j_aload_n (pc := 74) C dX0_hall_74 rfl rfl ?_
      replace hk := bd2_some hk
      obtain ⟨r75, I75, h2, hk⟩ := hk
      refine x_callV (pc := 75) C (ct_X0_finds hS h2) mv_X0_finds (stN_o0 hS).r rfl rfl q433 dX0_hall_75 rfl rfl (Nat.le_of_ble_eq_true rfl) rfl ?_
      obtain rfl := Option.some.inj hk
      exact j_iret (pc := 78) C dX0_hall_78 (Nat.le_of_ble_eq_true rfl) (Nat.le_of_ble_eq_true rfl)
    replace hk := bd2_some hk
    obtain ⟨u34, I34, h3, hk⟩ := hk
    cases u34 with
    | inr w34 =>
      replace hk := oex_r hk
      replace hk := ock_some hk
      obtain ⟨h5, hk⟩ := hk
      refine x_callVC [] [] (0, 71, 72, 8) (pc := 34) C (ct_X0_need hS h3) mv_X0_need (stN_o0 hS).r rfl rfl q416 dX0_hall_34 rfl rfl (Nat.le_of_ble_eq_true rfl) rfl rfl h5 rfl (by decide) (by decide) q146 (fun z hz => by cases hz) ?_
      exact j_mask [true, false, false, false] (Jn72 _ _ hk)
    | inl _w34 =>
      replace hk := oex_l hk
      refine x_callV (pc := 34) C (ct_X0_need hS h3) mv_X0_need (stN_o0 hS).r rfl rfl q416 dX0_hall_34 rfl rfl (Nat.le_of_ble_eq_true rfl) rfl ?_
      refine j_iload_n (pc := 37) C dX0_hall_37 rfl rfl ?_
      refine j_if_ne (pc := 38) 48 C dX0_hall_38 (by decide) (fun h6 => ?_) (fun h6 => ?_)
      · replace hk := it_f h6 hk
        refine j_iload_n (pc := 48) C dX0_hall_48 rfl rfl ?_
        refine j_iconst (pc := 49) (v := nI 3) C dX0_hall_49 (by decide) ?_
        refine j_icmp_ge (pc := 50) 63 C dX0_hall_50 (by decide) (fun h7 => ?_) (fun h7 => ?_)
        · replace hk := it_t h7 hk
          refine j_iload_n (pc := 63) C dX0_hall_63 rfl rfl ?_
          refine j_iload_n (pc := 64) C dX0_hall_64 rfl rfl ?_
          refine j_bipush (pc := 65) (v := nI 10) C dX0_hall_65 (by decide) ?_
          refine j_isub (pc := 67) C dX0_hall_67 ?_
          replace hk := ob_some hk
          obtain ⟨r68, h8, hk⟩ := hk
          refine j_callS (pc := 68) C (ct_X0_wants h8) ms_X0_wants q430 dX0_hall_68 rfl rfl (Nat.le_of_ble_eq_true rfl) rfl ?_
          obtain rfl := Option.some.inj hk
          exact j_iret (pc := 71) C dX0_hall_71 (Nat.le_of_ble_eq_true rfl) (Nat.le_of_ble_eq_true rfl)
        · replace hk := it_f h7 hk
          refine j_iload_n (pc := 53) C dX0_hall_53 rfl rfl ?_
          refine j_iload_n (pc := 54) C dX0_hall_54 rfl rfl ?_
          refine j_iconst (pc := 55) (v := nI 1) C dX0_hall_55 (by decide) ?_
          refine j_isub (pc := 56) C dX0_hall_56 ?_
          replace hk := ob_some hk
          obtain ⟨r57, h9, hk⟩ := hk
          refine j_callS (pc := 57) C (ct_X0_wanting h9) ms_X0_wanting q427 dX0_hall_57 rfl rfl (Nat.le_of_ble_eq_true rfl) rfl ?_
          refine j_goto (pc := 60) 71 C dX0_hall_60 (by decide) ?_
          obtain rfl := Option.some.inj hk
          exact j_iret (pc := 71) C dX0_hall_71 (Nat.le_of_ble_eq_true rfl) (Nat.le_of_ble_eq_true rfl)
      · replace hk := it_t h6 hk
        refine j_iload_n (pc := 41) C dX0_hall_41 rfl rfl ?_
        replace hk := ob_some hk
        obtain ⟨r42, h10, hk⟩ := hk
        refine j_callS (pc := 42) C (ct_X0_peopleOf h10) ms_X0_peopleOf q424 dX0_hall_42 rfl rfl (Nat.le_of_ble_eq_true rfl) rfl ?_
        refine j_goto (pc := 45) 71 C dX0_hall_45 (by decide) ?_
        obtain rfl := Option.some.inj hk
        exact j_iret (pc := 71) C dX0_hall_71 (Nat.le_of_ble_eq_true rfl) (Nat.le_of_ble_eq_true rfl)
  have Jn32 : ∀ (x1 : Int32) (x2 : Int32) (I : II), f_X0_hall_J32 F sh x1 x2 I = some Z → J G p l e rm_X0_hall s m args below meth c 4 (.returned (some (.int Z.1))) (sh, Z.2) (rm_X0_hall).cells (rm_X0_hall).slots (sh, I) 0 0 32 [some (.ref (wad G 0)), some (.int x1), some (.int x2), none] [.ref (wad G 0)] := by
    intro x1 x2 I hk
    unfold f_X0_hall_J32 at hk
    refine j_iconst (pc := 32) (v := nI 0) C dX0_hall_32 (by decide) ?_
    exact j_mask [true, true, true, false] (Jn33 _ _ _ _ hk)
  refine j_if_eq (pc := 5) 32 C dX0_hall_5 (by decide) (fun h11 => ?_) (fun h11 => ?_)
  · replace hk := it_t h11 hk
    exact j_mask [true, true, true, false] (Jn32 _ _ _ hk)
  · replace hk := it_f h11 hk
    refine j_iload_n (pc := 8) C dX0_hall_8 rfl rfl ?_
    refine j_iconst (pc := 9) (v := nI 0) C dX0_hall_9 (by decide) ?_
    refine j_iconst (pc := 10) (v := nI 2) C dX0_hall_10 (by decide) ?_
    replace hk := ob_some hk
    obtain ⟨r11, h12, hk⟩ := hk
    refine j_callS (pc := 11) C (ct_X0_in h12) ms_X0_in q413 dX0_hall_11 rfl rfl (Nat.le_of_ble_eq_true rfl) rfl ?_
    have Jn28 : ∀ (x1 : Int32) (x2 : Int32) (I : II), f_X0_hall_J28 F sh x1 x2 I = some Z → J G p l e rm_X0_hall s m args below meth c 4 (.returned (some (.int Z.1))) (sh, Z.2) (rm_X0_hall).cells (rm_X0_hall).slots (sh, I) 0 0 28 [some (.ref (wad G 0)), some (.int x1), some (.int x2), none] [.ref (wad G 0)] := by
      intro x1 x2 I hk
      unfold f_X0_hall_J28 at hk
      refine j_iconst (pc := 28) (v := nI 1) C dX0_hall_28 (by decide) ?_
      refine j_goto (pc := 29) 33 C dX0_hall_29 (by decide) ?_
      exact j_mask [true, true, true, false] (Jn33 _ _ _ _ hk)
    refine j_if_ne (pc := 14) 28 C dX0_hall_14 (by decide) (fun h13 => ?_) (fun h13 => ?_)
    · replace hk := it_f h13 hk
      exact j_mask [true, true, true, false] (Jn28 _ _ _ hk)
    · replace hk := it_t h13 hk
      refine j_iload_n (pc := 17) C dX0_hall_17 rfl rfl ?_
      refine j_bipush (pc := 18) (v := nI 10) C dX0_hall_18 (by decide) ?_
      refine j_bipush (pc := 20) (v := nI 12) C dX0_hall_20 (by decide) ?_
      replace hk := ob_some hk
      obtain ⟨r22, h14, hk⟩ := hk
      refine j_callS (pc := 22) C (ct_X0_in h14) ms_X0_in q413 dX0_hall_22 rfl rfl (Nat.le_of_ble_eq_true rfl) rfl ?_
      refine j_if_eq (pc := 25) 32 C dX0_hall_25 (by decide) (fun h15 => ?_) (fun h15 => ?_)
      · replace hk := it_t h15 hk
        exact j_mask [true, true, true, false] (Jn32 _ _ _ hk)
      · replace hk := it_f h15 hk
        exact j_mask [true, true, true, false] (Jn28 _ _ _ hk)
def f_X1_init (sh : SH) (x0 : Nat) (I : II) : Option (SH × II) := omn2 sh <| bd2 (f_J2_init sh x0 none none (nI 0) (nI 0) I) fun S5 I5 => og (sh.1 ≤ S5.1) <| omn2 S5 <| some (S5, I5)
abbrev rmf_X1_init : Nat := 4
abbrev rml_X1_init : Nat := 102
theorem mi_X1_init : MI yX1_init cX1_init 1 0 := ⟨q187, q95, q188, rfl, by decide +kernel⟩
set_option maxHeartbeats 4000000 in
theorem ct_X1_init {G : WG} {l : Launch} {sh : SH} {I : II} {x0 : Nat} {Z : (SH × II)} (hk : f_X1_init sh x0 I = some Z) : CT G l yX1_init (ws_ yX1_init cX1_init 1 none) (rmA rmf_X1_init rml_X1_init (Z.1.1 - sh.1)) [.ref (wad G x0)] (sh, I) (.returned none) Z := by
  refine CT.ofJ "NineDemands$Finding" rfl (by decide) (Nat.le_of_ble_eq_true rfl) ?_
  intro p e s m args below meth c C
  unfold f_X1_init at hk
  refine j_lv (lv' := [some (.ref (wad G x0))]) rfl ?_
  replace hk := omn2_some hk
  obtain ⟨hz0, hk⟩ := hk
  have hm0 : sh.1 ≤ sh.1 := Nat.le_refl _
  refine j_kn (k' := sh.1 - sh.1) (n' := 200 * (sh.1 - sh.1)) (Nat.sub_self _).symm (rb2 _) ?_
  refine j_aload_n (pc := 0) C dX1_init_0 rfl rfl ?_
  refine j_null (pc := 1) C dX1_init_1 ?_
  refine j_null (pc := 2) C dX1_init_2 ?_
  refine j_iconst (pc := 3) (v := nI 0) C dX1_init_3 (by decide) ?_
  refine j_iconst (pc := 4) (v := nI 0) C dX1_init_4 (by decide) ?_
  replace hk := bd2_some hk
  obtain ⟨S5, I5, h1, hk⟩ := hk
  replace hk := og_some hk
  obtain ⟨h2, hk⟩ := hk
  replace hk := omn2_some hk
  obtain ⟨h3, hk⟩ := hk
  have h4 : sh.1 ≤ S5.1 := Nat.le_trans hm0 h2
  refine x_callI (pc := 5) C (ct_J2_init h1) mi_J2_init q189 dX1_init_5 rfl rfl (Nat.le_of_ble_eq_true rfl) (rmOK.i (Nat.le_of_ble_eq_true rfl) (Nat.le_of_ble_eq_true rfl) (rm1 hm0 h2 h3) (rm2 hm0 h2 h3)) ?_
  refine j_kn (k' := S5.1 - sh.1) (n' := 200 * (S5.1 - sh.1)) (rk1 hm0 h2) (rk2 hm0 h2) ?_
  obtain rfl := Option.some.inj hk
  exact j_vret (pc := 8) C dX1_init_8 (Nat.le_refl _) (Nat.le_refl _)
def f_X3_init (sh : SH) (x0 : Nat) (I : II) : Option (SH × II) := omn2 sh <| onw sh <| omn2 (newS sh 100 40) <| ockw (newS sh 100 40) x0 4 <| some (shR (newS sh 100 40) x0 0 (some ((sh).1)), newI sh I)
abbrev rmf_X3_init : Nat := 1
abbrev rml_X3_init : Nat := 30
theorem mi_X3_init : MI yX3_init cX3_init 1 0 := ⟨q277, q100, q278, rfl, by decide +kernel⟩
set_option maxHeartbeats 4000000 in
theorem ct_X3_init {G : WG} {l : Launch} {sh : SH} {I : II} {x0 : Nat} {Z : (SH × II)} (hk : f_X3_init sh x0 I = some Z) : CT G l yX3_init (ws_ yX3_init cX3_init 1 none) (rmA rmf_X3_init rml_X3_init (Z.1.1 - sh.1)) [.ref (wad G x0)] (sh, I) (.returned none) Z := by
  refine CT.ofJ "NineDemands$Trace" rfl (by decide) (Nat.le_of_ble_eq_true rfl) ?_
  intro p e s m args below meth c C
  unfold f_X3_init at hk
  refine j_lv (lv' := [some (.ref (wad G x0))]) rfl ?_
  replace hk := omn2_some hk
  obtain ⟨hz0, hk⟩ := hk
  have hm0 : sh.1 ≤ sh.1 := Nat.le_refl _
  refine j_kn (k' := sh.1 - sh.1) (n' := 200 * (sh.1 - sh.1)) (Nat.sub_self _).symm (rb2 _) ?_
  refine j_aload_n (pc := 0) C dX3_init_0 rfl rfl ?_
  refine x_objInit (pc := 1) C q279 q144 q145 dX3_init_1 (Nat.le_of_ble_eq_true rfl) (Nat.le_of_ble_eq_true rfl) ?_
  refine j_aload_n (pc := 4) C dX3_init_4 rfl rfl ?_
  refine j_bipush (pc := 5) (v := nI 40) C dX3_init_5 (by decide) ?_
  replace hk := onw_some hk
  obtain ⟨h2, hk⟩ := hk
  replace hk := omn2_some hk
  obtain ⟨h3, hk⟩ := hk
  have h3 : sh.1 + 1 ≤ Z.1.1 := h3
  refine x_newaI (pc := 7) (at' := .int) (t := 100) (q := 40) (i := (nI 40)) C (Or.inl ⟨rfl, rfl⟩) q247 (by decide) (by decide) (by decide) h2 (ra1 hm0 h3) (ra2 hm0 h3 (by decide)) dX3_init_7 ?_
  have h4 : sh.1 ≤ sh.1 + 1 := Nat.le_succ_of_le hm0
  refine j_wid (k' := (newS sh 100 40).1 - sh.1) (n' := 200 * ((newS sh 100 40).1 - sh.1)) (rw1 hm0) (rw2 hm0 (by decide)) ?_
  replace hk := ockw_some hk
  obtain ⟨h5, hk⟩ := hk
  refine x_putNF (pc := 9) (o := (some ((sh).1))) C fd_4_0 q280 h5 rfl dX3_init_9 ?_
  obtain rfl := Option.some.inj hk
  exact j_vret (pc := 12) C dX3_init_12 (Nat.le_refl _) (Nat.le_refl _)
def f_X4_init (sh : SH) (x0 : Nat) (I : II) : Option (SH × II) := omn2 sh <| onw sh <| omn2 (newS sh 100 128) <| ockw (newS sh 100 128) x0 5 <| some (shR (newS sh 100 128) x0 0 (some ((sh).1)), newI sh I)
abbrev rmf_X4_init : Nat := 1
abbrev rml_X4_init : Nat := 30
theorem mi_X4_init : MI yX4_init cX4_init 1 0 := ⟨q292, q101, q293, rfl, by decide +kernel⟩
set_option maxHeartbeats 4000000 in
theorem ct_X4_init {G : WG} {l : Launch} {sh : SH} {I : II} {x0 : Nat} {Z : (SH × II)} (hk : f_X4_init sh x0 I = some Z) : CT G l yX4_init (ws_ yX4_init cX4_init 1 none) (rmA rmf_X4_init rml_X4_init (Z.1.1 - sh.1)) [.ref (wad G x0)] (sh, I) (.returned none) Z := by
  refine CT.ofJ "NineDemands$Facts" rfl (by decide) (Nat.le_of_ble_eq_true rfl) ?_
  intro p e s m args below meth c C
  unfold f_X4_init at hk
  refine j_lv (lv' := [some (.ref (wad G x0))]) rfl ?_
  replace hk := omn2_some hk
  obtain ⟨hz0, hk⟩ := hk
  have hm0 : sh.1 ≤ sh.1 := Nat.le_refl _
  refine j_kn (k' := sh.1 - sh.1) (n' := 200 * (sh.1 - sh.1)) (Nat.sub_self _).symm (rb2 _) ?_
  refine j_aload_n (pc := 0) C dX4_init_0 rfl rfl ?_
  refine x_objInit (pc := 1) C q294 q144 q145 dX4_init_1 (Nat.le_of_ble_eq_true rfl) (Nat.le_of_ble_eq_true rfl) ?_
  refine j_aload_n (pc := 4) C dX4_init_4 rfl rfl ?_
  refine j_sipush (pc := 5) (v := nI 128) C dX4_init_5 (by decide) ?_
  replace hk := onw_some hk
  obtain ⟨h2, hk⟩ := hk
  replace hk := omn2_some hk
  obtain ⟨h3, hk⟩ := hk
  have h3 : sh.1 + 1 ≤ Z.1.1 := h3
  refine x_newaI (pc := 8) (at' := .int) (t := 100) (q := 128) (i := (nI 128)) C (Or.inl ⟨rfl, rfl⟩) q247 (by decide) (by decide) (by decide) h2 (ra1 hm0 h3) (ra2 hm0 h3 (by decide)) dX4_init_8 ?_
  have h4 : sh.1 ≤ sh.1 + 1 := Nat.le_succ_of_le hm0
  refine j_wid (k' := (newS sh 100 128).1 - sh.1) (n' := 200 * ((newS sh 100 128).1 - sh.1)) (rw1 hm0) (rw2 hm0 (by decide)) ?_
  replace hk := ockw_some hk
  obtain ⟨h5, hk⟩ := hk
  refine x_putNF (pc := 10) (o := (some ((sh).1))) C fd_5_0 q295 h5 rfl dX4_init_10 ?_
  obtain rfl := Option.some.inj hk
  exact j_vret (pc := 13) C dX4_init_13 (Nat.le_refl _) (Nat.le_refl _)
def f_X6_init (sh : SH) (x0 : Nat) (I : II) : Option (SH × II) := omn2 sh <| onw sh <| omn2 (newS sh 100 12) <| ockw (newS sh 100 12) x0 7 <| onw (shR (newS sh 100 12) x0 0 (some ((sh).1))) <| omn2 (newS (shR (newS sh 100 12) x0 0 (some ((sh).1))) 100 144) <| ockw (newS (shR (newS sh 100 12) x0 0 (some ((sh).1))) 100 144) x0 7 <| some (shR (newS (shR (newS sh 100 12) x0 0 (some ((sh).1))) 100 144) x0 1 (some (((shR (newS sh 100 12) x0 0 (some ((sh).1)))).1)), newI (shR (newS sh 100 12) x0 0 (some ((sh).1))) (newI sh I))
abbrev rmf_X6_init : Nat := 1
abbrev rml_X6_init : Nat := 30
theorem mi_X6_init : MI yX6_init cX6_init 1 0 := ⟨q309, q103, q310, rfl, by decide +kernel⟩
set_option maxHeartbeats 4000000 in
theorem ct_X6_init {G : WG} {l : Launch} {sh : SH} {I : II} {x0 : Nat} {Z : (SH × II)} (hk : f_X6_init sh x0 I = some Z) : CT G l yX6_init (ws_ yX6_init cX6_init 1 none) (rmA rmf_X6_init rml_X6_init (Z.1.1 - sh.1)) [.ref (wad G x0)] (sh, I) (.returned none) Z := by
  refine CT.ofJ "NineDemands$Web" rfl (by decide) (Nat.le_of_ble_eq_true rfl) ?_
  intro p e s m args below meth c C
  unfold f_X6_init at hk
  refine j_lv (lv' := [some (.ref (wad G x0))]) rfl ?_
  replace hk := omn2_some hk
  obtain ⟨hz0, hk⟩ := hk
  have hm0 : sh.1 ≤ sh.1 := Nat.le_refl _
  refine j_kn (k' := sh.1 - sh.1) (n' := 200 * (sh.1 - sh.1)) (Nat.sub_self _).symm (rb2 _) ?_
  refine j_aload_n (pc := 0) C dX6_init_0 rfl rfl ?_
  refine x_objInit (pc := 1) C q311 q144 q145 dX6_init_1 (Nat.le_of_ble_eq_true rfl) (Nat.le_of_ble_eq_true rfl) ?_
  refine j_aload_n (pc := 4) C dX6_init_4 rfl rfl ?_
  refine j_bipush (pc := 5) (v := nI 12) C dX6_init_5 (by decide) ?_
  replace hk := onw_some hk
  obtain ⟨h2, hk⟩ := hk
  replace hk := omn2_some hk
  obtain ⟨h3, hk⟩ := hk
  have h3 : sh.1 + 1 ≤ Z.1.1 := h3
  refine x_newaI (pc := 7) (at' := .int) (t := 100) (q := 12) (i := (nI 12)) C (Or.inl ⟨rfl, rfl⟩) q247 (by decide) (by decide) (by decide) h2 (ra1 hm0 h3) (ra2 hm0 h3 (by decide)) dX6_init_7 ?_
  have h4 : sh.1 ≤ sh.1 + 1 := Nat.le_succ_of_le hm0
  refine j_wid (k' := (newS sh 100 12).1 - sh.1) (n' := 200 * ((newS sh 100 12).1 - sh.1)) (rw1 hm0) (rw2 hm0 (by decide)) ?_
  replace hk := ockw_some hk
  obtain ⟨h5, hk⟩ := hk
  refine x_putNF (pc := 9) (o := (some ((sh).1))) C fd_7_0 q312 h5 rfl dX6_init_9 ?_
  refine j_aload_n (pc := 12) C dX6_init_12 rfl rfl ?_
  refine j_sipush (pc := 13) (v := nI 144) C dX6_init_13 (by decide) ?_
  replace hk := onw_some hk
  obtain ⟨h7, hk⟩ := hk
  replace hk := omn2_some hk
  obtain ⟨h8, hk⟩ := hk
  have h8 : sh.1 + 1 + 1 ≤ Z.1.1 := h8
  refine x_newaI (pc := 16) (at' := .int) (t := 100) (q := 144) (i := (nI 144)) C (Or.inl ⟨rfl, rfl⟩) q247 (by decide) (by decide) (by decide) h7 (ra1 h4 h8) (ra2 h4 h8 (by decide)) dX6_init_16 ?_
  have h9 : sh.1 ≤ sh.1 + 1 + 1 := Nat.le_succ_of_le h4
  refine j_wid (k' := (newS (shR (newS sh 100 12) x0 0 (some ((sh).1))) 100 144).1 - sh.1) (n' := 200 * ((newS (shR (newS sh 100 12) x0 0 (some ((sh).1))) 100 144).1 - sh.1)) (rw1 h4) (rw2 h4 (by decide)) ?_
  replace hk := ockw_some hk
  obtain ⟨h10, hk⟩ := hk
  refine x_putNF (pc := 18) (o := (some (((shR (newS sh 100 12) x0 0 (some ((sh).1)))).1))) C fd_7_1 q314 h10 rfl dX6_init_18 ?_
  obtain rfl := Option.some.inj hk
  exact j_vret (pc := 21) C dX6_init_21 (Nat.le_refl _) (Nat.le_refl _)
def f_X5_init (sh : SH) (x0 : Nat) (I : II) : Option (SH × II) := omn2 sh <| onw sh <| omn2 (newS sh 7 0) <| bd2 (f_X6_init (newS sh 7 0) ((sh).1) (newI sh I)) fun S9 I9 => og (sh.1 + 1 ≤ S9.1) <| omn2 S9 <| ockw S9 x0 6 <| onw (shR S9 x0 0 (some ((sh).1))) <| omn2 (newS (shR S9 x0 0 (some ((sh).1))) 100 156) <| ockw (newS (shR S9 x0 0 (some ((sh).1))) 100 156) x0 6 <| onw (shR (newS (shR S9 x0 0 (some ((sh).1))) 100 156) x0 1 (some (((shR S9 x0 0 (some ((sh).1)))).1))) <| omn2 (newS (shR (newS (shR S9 x0 0 (some ((sh).1))) 100 156) x0 1 (some (((shR S9 x0 0 (some ((sh).1)))).1))) 100 12) <| ockw (newS (shR (newS (shR S9 x0 0 (some ((sh).1))) 100 156) x0 1 (some (((shR S9 x0 0 (some ((sh).1)))).1))) 100 12) x0 6 <| some (shR (newS (shR (newS (shR S9 x0 0 (some ((sh).1))) 100 156) x0 1 (some (((shR S9 x0 0 (some ((sh).1)))).1))) 100 12) x0 2 (some (((shR (newS (shR S9 x0 0 (some ((sh).1))) 100 156) x0 1 (some (((shR S9 x0 0 (some ((sh).1)))).1)))).1)), newI (shR (newS (shR S9 x0 0 (some ((sh).1))) 100 156) x0 1 (some (((shR S9 x0 0 (some ((sh).1)))).1))) (newI (shR S9 x0 0 (some ((sh).1))) I9))
abbrev rmf_X5_init : Nat := 2
abbrev rml_X5_init : Nat := 50
theorem mi_X5_init : MI yX5_init cX5_init 1 0 := ⟨q303, q102, q304, rfl, by decide +kernel⟩
set_option maxHeartbeats 4000000 in
theorem ct_X5_init {G : WG} {l : Launch} {sh : SH} {I : II} {x0 : Nat} {Z : (SH × II)} (hk : f_X5_init sh x0 I = some Z) : CT G l yX5_init (ws_ yX5_init cX5_init 1 none) (rmA rmf_X5_init rml_X5_init (Z.1.1 - sh.1)) [.ref (wad G x0)] (sh, I) (.returned none) Z := by
  refine CT.ofJ "NineDemands$Search" rfl (by decide) (Nat.le_of_ble_eq_true rfl) ?_
  intro p e s m args below meth c C
  unfold f_X5_init at hk
  refine j_lv (lv' := [some (.ref (wad G x0))]) rfl ?_
  replace hk := omn2_some hk
  obtain ⟨hz0, hk⟩ := hk
  have hm0 : sh.1 ≤ sh.1 := Nat.le_refl _
  refine j_kn (k' := sh.1 - sh.1) (n' := 200 * (sh.1 - sh.1)) (Nat.sub_self _).symm (rb2 _) ?_
  refine j_aload_n (pc := 0) C dX5_init_0 rfl rfl ?_
  refine x_objInit (pc := 1) C q305 q144 q145 dX5_init_1 (Nat.le_of_ble_eq_true rfl) (Nat.le_of_ble_eq_true rfl) ?_
  refine j_aload_n (pc := 4) C dX5_init_4 rfl rfl ?_
  replace hk := onw_some hk
  obtain ⟨h1, hk⟩ := hk
  replace hk := omn2_some hk
  obtain ⟨h2, hk⟩ := hk
  have h2 : sh.1 + 1 ≤ Z.1.1 := h2
  refine x_new (pc := 5) (c2 := 7) C rfl (born_7) q306 q307 q103 h1 (ra1 hm0 h2) (ra2 hm0 h2 (by decide)) dX5_init_5 ?_
  have h3 : sh.1 ≤ sh.1 + 1 := Nat.le_succ_of_le hm0
  refine j_wid (k' := (newS sh 7 0).1 - sh.1) (n' := 200 * ((newS sh 7 0).1 - sh.1)) (rw1 hm0) (rw2 hm0 (by decide)) ?_
  refine j_dup (pc := 8) C dX5_init_8 rfl ?_
  replace hk := bd2_some hk
  obtain ⟨S9, I9, h4, hk⟩ := hk
  replace hk := og_some hk
  obtain ⟨h5, hk⟩ := hk
  replace hk := omn2_some hk
  obtain ⟨h6, hk⟩ := hk
  have h7 : sh.1 ≤ S9.1 := Nat.le_trans h3 h5
  refine x_callIN (pc := 9) C (ct_X6_init h4) mi_X6_init q308 dX5_init_9 rfl rfl (Nat.le_of_ble_eq_true rfl) (rmOK.i (Nat.le_of_ble_eq_true rfl) (Nat.le_of_ble_eq_true rfl) (rm1 h3 h5 h6) (rm2 h3 h5 h6)) ?_
  refine j_kn (k' := S9.1 - sh.1) (n' := 200 * (S9.1 - sh.1)) (rk1 h3 h5) (rk2 h3 h5) ?_
  replace hk := ockw_some hk
  obtain ⟨h8, hk⟩ := hk
  refine x_putNF (pc := 12) (o := (some ((sh).1))) C fd_6_0 q321 h8 rfl dX5_init_12 ?_
  refine j_aload_n (pc := 15) C dX5_init_15 rfl rfl ?_
  refine j_sipush (pc := 16) (v := nI 156) C dX5_init_16 (by decide) ?_
  replace hk := onw_some hk
  obtain ⟨h10, hk⟩ := hk
  replace hk := omn2_some hk
  obtain ⟨h11, hk⟩ := hk
  have h11 : S9.1 + 1 ≤ Z.1.1 := h11
  refine x_newaI (pc := 19) (at' := .int) (t := 100) (q := 156) (i := (nI 156)) C (Or.inl ⟨rfl, rfl⟩) q247 (by decide) (by decide) (by decide) h10 (ra1 h7 h11) (ra2 h7 h11 (by decide)) dX5_init_19 ?_
  have h12 : sh.1 ≤ S9.1 + 1 := Nat.le_succ_of_le h7
  refine j_wid (k' := (newS (shR S9 x0 0 (some ((sh).1))) 100 156).1 - sh.1) (n' := 200 * ((newS (shR S9 x0 0 (some ((sh).1))) 100 156).1 - sh.1)) (rw1 h7) (rw2 h7 (by decide)) ?_
  replace hk := ockw_some hk
  obtain ⟨h13, hk⟩ := hk
  refine x_putNF (pc := 21) (o := (some (((shR S9 x0 0 (some ((sh).1)))).1))) C fd_6_1 q323 h13 rfl dX5_init_21 ?_
  refine j_aload_n (pc := 24) C dX5_init_24 rfl rfl ?_
  refine j_bipush (pc := 25) (v := nI 12) C dX5_init_25 (by decide) ?_
  replace hk := onw_some hk
  obtain ⟨h15, hk⟩ := hk
  replace hk := omn2_some hk
  obtain ⟨h16, hk⟩ := hk
  have h16 : S9.1 + 1 + 1 ≤ Z.1.1 := h16
  refine x_newaI (pc := 27) (at' := .int) (t := 100) (q := 12) (i := (nI 12)) C (Or.inl ⟨rfl, rfl⟩) q247 (by decide) (by decide) (by decide) h15 (ra1 h12 h16) (ra2 h12 h16 (by decide)) dX5_init_27 ?_
  have h17 : sh.1 ≤ S9.1 + 1 + 1 := Nat.le_succ_of_le h12
  refine j_wid (k' := (newS (shR (newS (shR S9 x0 0 (some ((sh).1))) 100 156) x0 1 (some (((shR S9 x0 0 (some ((sh).1)))).1))) 100 12).1 - sh.1) (n' := 200 * ((newS (shR (newS (shR S9 x0 0 (some ((sh).1))) 100 156) x0 1 (some (((shR S9 x0 0 (some ((sh).1)))).1))) 100 12).1 - sh.1)) (rw1 h12) (rw2 h12 (by decide)) ?_
  replace hk := ockw_some hk
  obtain ⟨h18, hk⟩ := hk
  refine x_putNF (pc := 29) (o := (some (((shR (newS (shR S9 x0 0 (some ((sh).1))) 100 156) x0 1 (some (((shR S9 x0 0 (some ((sh).1)))).1)))).1))) C fd_6_2 q324 h18 rfl dX5_init_29 ?_
  obtain rfl := Option.some.inj hk
  exact j_vret (pc := 32) C dX5_init_32 (Nat.le_refl _) (Nat.le_refl _)
def f_X7_init (sh : SH) (x0 : Nat) (I : II) : Option (SH × II) := omn2 sh <| onw sh <| omn2 (newS sh 100 36) <| ockw (newS sh 100 36) x0 8 <| onw (shR (newS sh 100 36) x0 0 (some ((sh).1))) <| omn2 (newS (shR (newS sh 100 36) x0 0 (some ((sh).1))) 100 12) <| ockw (newS (shR (newS sh 100 36) x0 0 (some ((sh).1))) 100 12) x0 8 <| some (shR (newS (shR (newS sh 100 36) x0 0 (some ((sh).1))) 100 12) x0 1 (some (((shR (newS sh 100 36) x0 0 (some ((sh).1)))).1)), newI (shR (newS sh 100 36) x0 0 (some ((sh).1))) (newI sh I))
abbrev rmf_X7_init : Nat := 1
abbrev rml_X7_init : Nat := 30
theorem mi_X7_init : MI yX7_init cX7_init 1 0 := ⟨q342, q104, q343, rfl, by decide +kernel⟩
set_option maxHeartbeats 4000000 in
theorem ct_X7_init {G : WG} {l : Launch} {sh : SH} {I : II} {x0 : Nat} {Z : (SH × II)} (hk : f_X7_init sh x0 I = some Z) : CT G l yX7_init (ws_ yX7_init cX7_init 1 none) (rmA rmf_X7_init rml_X7_init (Z.1.1 - sh.1)) [.ref (wad G x0)] (sh, I) (.returned none) Z := by
  refine CT.ofJ "NineDemands$Showing" rfl (by decide) (Nat.le_of_ble_eq_true rfl) ?_
  intro p e s m args below meth c C
  unfold f_X7_init at hk
  refine j_lv (lv' := [some (.ref (wad G x0))]) rfl ?_
  replace hk := omn2_some hk
  obtain ⟨hz0, hk⟩ := hk
  have hm0 : sh.1 ≤ sh.1 := Nat.le_refl _
  refine j_kn (k' := sh.1 - sh.1) (n' := 200 * (sh.1 - sh.1)) (Nat.sub_self _).symm (rb2 _) ?_
  refine j_aload_n (pc := 0) C dX7_init_0 rfl rfl ?_
  refine x_objInit (pc := 1) C q344 q144 q145 dX7_init_1 (Nat.le_of_ble_eq_true rfl) (Nat.le_of_ble_eq_true rfl) ?_
  refine j_aload_n (pc := 4) C dX7_init_4 rfl rfl ?_
  refine j_bipush (pc := 5) (v := nI 36) C dX7_init_5 (by decide) ?_
  replace hk := onw_some hk
  obtain ⟨h2, hk⟩ := hk
  replace hk := omn2_some hk
  obtain ⟨h3, hk⟩ := hk
  have h3 : sh.1 + 1 ≤ Z.1.1 := h3
  refine x_newaI (pc := 7) (at' := .int) (t := 100) (q := 36) (i := (nI 36)) C (Or.inl ⟨rfl, rfl⟩) q247 (by decide) (by decide) (by decide) h2 (ra1 hm0 h3) (ra2 hm0 h3 (by decide)) dX7_init_7 ?_
  have h4 : sh.1 ≤ sh.1 + 1 := Nat.le_succ_of_le hm0
  refine j_wid (k' := (newS sh 100 36).1 - sh.1) (n' := 200 * ((newS sh 100 36).1 - sh.1)) (rw1 hm0) (rw2 hm0 (by decide)) ?_
  replace hk := ockw_some hk
  obtain ⟨h5, hk⟩ := hk
  refine x_putNF (pc := 9) (o := (some ((sh).1))) C fd_8_0 q345 h5 rfl dX7_init_9 ?_
  refine j_aload_n (pc := 12) C dX7_init_12 rfl rfl ?_
  refine j_bipush (pc := 13) (v := nI 12) C dX7_init_13 (by decide) ?_
  replace hk := onw_some hk
  obtain ⟨h7, hk⟩ := hk
  replace hk := omn2_some hk
  obtain ⟨h8, hk⟩ := hk
  have h8 : sh.1 + 1 + 1 ≤ Z.1.1 := h8
  refine x_newaI (pc := 15) (at' := .int) (t := 100) (q := 12) (i := (nI 12)) C (Or.inl ⟨rfl, rfl⟩) q247 (by decide) (by decide) (by decide) h7 (ra1 h4 h8) (ra2 h4 h8 (by decide)) dX7_init_15 ?_
  have h9 : sh.1 ≤ sh.1 + 1 + 1 := Nat.le_succ_of_le h4
  refine j_wid (k' := (newS (shR (newS sh 100 36) x0 0 (some ((sh).1))) 100 12).1 - sh.1) (n' := 200 * ((newS (shR (newS sh 100 36) x0 0 (some ((sh).1))) 100 12).1 - sh.1)) (rw1 h4) (rw2 h4 (by decide)) ?_
  replace hk := ockw_some hk
  obtain ⟨h10, hk⟩ := hk
  refine x_putNF (pc := 17) (o := (some (((shR (newS sh 100 36) x0 0 (some ((sh).1)))).1))) C fd_8_1 q347 h10 rfl dX7_init_17 ?_
  obtain rfl := Option.some.inj hk
  exact j_vret (pc := 20) C dX7_init_20 (Nat.le_refl _) (Nat.le_refl _)
def f_X8_init (sh : SH) (x0 : Nat) (I : II) : Option Unit := some ()
abbrev rm_X8_init : Room := { frames := 1, cells := 0, slots := 0, locals := 30 }
theorem mi_X8_init : MI yX8_init cX8_init 1 0 := ⟨q365, q105, q366, rfl, by decide +kernel⟩
set_option maxHeartbeats 4000000 in
theorem ct_X8_init {G : WG} {l : Launch} {sh : SH} {I : II} {x0 : Nat} {Z : Unit} (hk : f_X8_init sh x0 I = some Z) : CT G l yX8_init (ws_ yX8_init cX8_init 1 none) rm_X8_init [.ref (wad G x0)] (sh, I) (.returned none) (sh, I) := by
  refine CT.ofJ "NineDemands$Shelf" rfl (by decide) (Nat.le_of_ble_eq_true rfl) ?_
  intro p e s m args below meth c C
  unfold f_X8_init at hk
  refine j_lv (lv' := [some (.ref (wad G x0))]) rfl ?_
  refine j_aload_n (pc := 0) C dX8_init_0 rfl rfl ?_
  refine x_objInit (pc := 1) C q367 q144 q145 dX8_init_1 (Nat.le_of_ble_eq_true rfl) (Nat.le_of_ble_eq_true rfl) ?_
  obtain rfl := Option.some.inj hk
  exact j_vret (pc := 4) C dX8_init_4 (Nat.le_of_ble_eq_true rfl) (Nat.le_of_ble_eq_true rfl)
def f_X0_init_L96 (F : Nat) (x0 : Nat) : Nat → Int32 → SH → II → Option (SH × II)
  | 0, _, _, _ => none
  | n96 + 1, x1, S, I => if (nI 4) ≤ x1 then some (S, I) else ock S x0 0 <| orf (S.2.2 x0 10) fun t102 => onw S <| omn2 (newS S 9 0) <| (f_X8_init (newS S 9 0) ((S).1) (newI S I)).bind fun _ => oarw (newS S 9 0) t102 201 fun nh70 => ock (newS S 9 0) ((S).1) 9 <| oix x1 nh70 fun i113 => (f_X0_init_L96 F x0 n96) (x1 + (nI 1)) (shR (newS S 9 0) t102 i113 (some ((S).1))) (newI S I)
def f_X0_init (F : Nat) (sh : SH) (x0 : Nat) (I : II) : Option (SH × II) := omn2 sh <| onw sh <| omn2 (newS sh 1 0) <| bd2 (f_X1_init (newS sh 1 0) ((sh).1) (newI sh I)) fun S9 I9 => og (sh.1 + 1 ≤ S9.1) <| omn2 S9 <| ockw S9 x0 0 <| onw (shR S9 x0 0 (some ((sh).1))) <| omn2 (newS (shR S9 x0 0 (some ((sh).1))) 2 0) <| bd2 (f_X2_init F (newS (shR S9 x0 0 (some ((sh).1))) 2 0) (((shR S9 x0 0 (some ((sh).1)))).1) (newI (shR S9 x0 0 (some ((sh).1))) I9)) fun S20 I20 => og (S9.1 + 1 ≤ S20.1) <| omn2 S20 <| ockw S20 x0 0 <| onw (shR S20 x0 1 (some (((shR S9 x0 0 (some ((sh).1)))).1))) <| omn2 (newS (shR S20 x0 1 (some (((shR S9 x0 0 (some ((sh).1)))).1))) 4 0) <| bd2 (f_X3_init (newS (shR S20 x0 1 (some (((shR S9 x0 0 (some ((sh).1)))).1))) 4 0) (((shR S20 x0 1 (some (((shR S9 x0 0 (some ((sh).1)))).1)))).1) (newI (shR S20 x0 1 (some (((shR S9 x0 0 (some ((sh).1)))).1))) I20)) fun S31 I31 => og (S20.1 + 1 ≤ S31.1) <| omn2 S31 <| ockw S31 x0 0 <| onw (shR S31 x0 4 (some (((shR S20 x0 1 (some (((shR S9 x0 0 (some ((sh).1)))).1)))).1))) <| omn2 (newS (shR S31 x0 4 (some (((shR S20 x0 1 (some (((shR S9 x0 0 (some ((sh).1)))).1)))).1))) 5 0) <| bd2 (f_X4_init (newS (shR S31 x0 4 (some (((shR S20 x0 1 (some (((shR S9 x0 0 (some ((sh).1)))).1)))).1))) 5 0) (((shR S31 x0 4 (some (((shR S20 x0 1 (some (((shR S9 x0 0 (some ((sh).1)))).1)))).1)))).1) (newI (shR S31 x0 4 (some (((shR S20 x0 1 (some (((shR S9 x0 0 (some ((sh).1)))).1)))).1))) I31)) fun S42 I42 => og (S31.1 + 1 ≤ S42.1) <| omn2 S42 <| ockw S42 x0 0 <| onw (shR S42 x0 5 (some (((shR S31 x0 4 (some (((shR S20 x0 1 (some (((shR S9 x0 0 (some ((sh).1)))).1)))).1)))).1))) <| omn2 (newS (shR S42 x0 5 (some (((shR S31 x0 4 (some (((shR S20 x0 1 (some (((shR S9 x0 0 (some ((sh).1)))).1)))).1)))).1))) 6 0) <| bd2 (f_X5_init (newS (shR S42 x0 5 (some (((shR S31 x0 4 (some (((shR S20 x0 1 (some (((shR S9 x0 0 (some ((sh).1)))).1)))).1)))).1))) 6 0) (((shR S42 x0 5 (some (((shR S31 x0 4 (some (((shR S20 x0 1 (some (((shR S9 x0 0 (some ((sh).1)))).1)))).1)))).1)))).1) (newI (shR S42 x0 5 (some (((shR S31 x0 4 (some (((shR S20 x0 1 (some (((shR S9 x0 0 (some ((sh).1)))).1)))).1)))).1))) I42)) fun S53 I53 => og (S42.1 + 1 ≤ S53.1) <| omn2 S53 <| ockw S53 x0 0 <| onw (shR S53 x0 6 (some (((shR S42 x0 5 (some (((shR S31 x0 4 (some (((shR S20 x0 1 (some (((shR S9 x0 0 (some ((sh).1)))).1)))).1)))).1)))).1))) <| omn2 (newS (shR S53 x0 6 (some (((shR S42 x0 5 (some (((shR S31 x0 4 (some (((shR S20 x0 1 (some (((shR S9 x0 0 (some ((sh).1)))).1)))).1)))).1)))).1))) 8 0) <| bd2 (f_X7_init (newS (shR S53 x0 6 (some (((shR S42 x0 5 (some (((shR S31 x0 4 (some (((shR S20 x0 1 (some (((shR S9 x0 0 (some ((sh).1)))).1)))).1)))).1)))).1))) 8 0) (((shR S53 x0 6 (some (((shR S42 x0 5 (some (((shR S31 x0 4 (some (((shR S20 x0 1 (some (((shR S9 x0 0 (some ((sh).1)))).1)))).1)))).1)))).1)))).1) (newI (shR S53 x0 6 (some (((shR S42 x0 5 (some (((shR S31 x0 4 (some (((shR S20 x0 1 (some (((shR S9 x0 0 (some ((sh).1)))).1)))).1)))).1)))).1))) I53)) fun S64 I64 => og (S53.1 + 1 ≤ S64.1) <| omn2 S64 <| ockw S64 x0 0 <| onw (shR S64 x0 7 (some (((shR S53 x0 6 (some (((shR S42 x0 5 (some (((shR S31 x0 4 (some (((shR S20 x0 1 (some (((shR S9 x0 0 (some ((sh).1)))).1)))).1)))).1)))).1)))).1))) <| omn2 (newS (shR S64 x0 7 (some (((shR S53 x0 6 (some (((shR S42 x0 5 (some (((shR S31 x0 4 (some (((shR S20 x0 1 (some (((shR S9 x0 0 (some ((sh).1)))).1)))).1)))).1)))).1)))).1))) 100 12) <| ockw (newS (shR S64 x0 7 (some (((shR S53 x0 6 (some (((shR S42 x0 5 (some (((shR S31 x0 4 (some (((shR S20 x0 1 (some (((shR S9 x0 0 (some ((sh).1)))).1)))).1)))).1)))).1)))).1))) 100 12) x0 0 <| onw (shR (newS (shR S64 x0 7 (some (((shR S53 x0 6 (some (((shR S42 x0 5 (some (((shR S31 x0 4 (some (((shR S20 x0 1 (some (((shR S9 x0 0 (some ((sh).1)))).1)))).1)))).1)))).1)))).1))) 100 12) x0 8 (some (((shR S64 x0 7 (some (((shR S53 x0 6 (some (((shR S42 x0 5 (some (((shR S31 x0 4 (some (((shR S20 x0 1 (some (((shR S9 x0 0 (some ((sh).1)))).1)))).1)))).1)))).1)))).1)))).1))) <| omn2 (newS (shR (newS (shR S64 x0 7 (some (((shR S53 x0 6 (some (((shR S42 x0 5 (some (((shR S31 x0 4 (some (((shR S20 x0 1 (some (((shR S9 x0 0 (some ((sh).1)))).1)))).1)))).1)))).1)))).1))) 100 12) x0 8 (some (((shR S64 x0 7 (some (((shR S53 x0 6 (some (((shR S42 x0 5 (some (((shR S31 x0 4 (some (((shR S20 x0 1 (some (((shR S9 x0 0 (some ((sh).1)))).1)))).1)))).1)))).1)))).1)))).1))) 100 6) <| ockw (newS (shR (newS (shR S64 x0 7 (some (((shR S53 x0 6 (some (((shR S42 x0 5 (some (((shR S31 x0 4 (some (((shR S20 x0 1 (some (((shR S9 x0 0 (some ((sh).1)))).1)))).1)))).1)))).1)))).1))) 100 12) x0 8 (some (((shR S64 x0 7 (some (((shR S53 x0 6 (some (((shR S42 x0 5 (some (((shR S31 x0 4 (some (((shR S20 x0 1 (some (((shR S9 x0 0 (some ((sh).1)))).1)))).1)))).1)))).1)))).1)))).1))) 100 6) x0 0 <| onw (shR (newS (shR (newS (shR S64 x0 7 (some (((shR S53 x0 6 (some (((shR S42 x0 5 (some (((shR S31 x0 4 (some (((shR S20 x0 1 (some (((shR S9 x0 0 (some ((sh).1)))).1)))).1)))).1)))).1)))).1))) 100 12) x0 8 (some (((shR S64 x0 7 (some (((shR S53 x0 6 (some (((shR S42 x0 5 (some (((shR S31 x0 4 (some (((shR S20 x0 1 (some (((shR S9 x0 0 (some ((sh).1)))).1)))).1)))).1)))).1)))).1)))).1))) 100 6) x0 9 (some (((shR (newS (shR S64 x0 7 (some (((shR S53 x0 6 (some (((shR S42 x0 5 (some (((shR S31 x0 4 (some (((shR S20 x0 1 (some (((shR S9 x0 0 (some ((sh).1)))).1)))).1)))).1)))).1)))).1))) 100 12) x0 8 (some (((shR S64 x0 7 (some (((shR S53 x0 6 (some (((shR S42 x0 5 (some (((shR S31 x0 4 (some (((shR S20 x0 1 (some (((shR S9 x0 0 (some ((sh).1)))).1)))).1)))).1)))).1)))).1)))).1)))).1))) <| omn2 (newS (shR (newS (shR (newS (shR S64 x0 7 (some (((shR S53 x0 6 (some (((shR S42 x0 5 (some (((shR S31 x0 4 (some (((shR S20 x0 1 (some (((shR S9 x0 0 (some ((sh).1)))).1)))).1)))).1)))).1)))).1))) 100 12) x0 8 (some (((shR S64 x0 7 (some (((shR S53 x0 6 (some (((shR S42 x0 5 (some (((shR S31 x0 4 (some (((shR S20 x0 1 (some (((shR S9 x0 0 (some ((sh).1)))).1)))).1)))).1)))).1)))).1)))).1))) 100 6) x0 9 (some (((shR (newS (shR S64 x0 7 (some (((shR S53 x0 6 (some (((shR S42 x0 5 (some (((shR S31 x0 4 (some (((shR S20 x0 1 (some (((shR S9 x0 0 (some ((sh).1)))).1)))).1)))).1)))).1)))).1))) 100 12) x0 8 (some (((shR S64 x0 7 (some (((shR S53 x0 6 (some (((shR S42 x0 5 (some (((shR S31 x0 4 (some (((shR S20 x0 1 (some (((shR S9 x0 0 (some ((sh).1)))).1)))).1)))).1)))).1)))).1)))).1)))).1))) 201 4) <| ockw (newS (shR (newS (shR (newS (shR S64 x0 7 (some (((shR S53 x0 6 (some (((shR S42 x0 5 (some (((shR S31 x0 4 (some (((shR S20 x0 1 (some (((shR S9 x0 0 (some ((sh).1)))).1)))).1)))).1)))).1)))).1))) 100 12) x0 8 (some (((shR S64 x0 7 (some (((shR S53 x0 6 (some (((shR S42 x0 5 (some (((shR S31 x0 4 (some (((shR S20 x0 1 (some (((shR S9 x0 0 (some ((sh).1)))).1)))).1)))).1)))).1)))).1)))).1))) 100 6) x0 9 (some (((shR (newS (shR S64 x0 7 (some (((shR S53 x0 6 (some (((shR S42 x0 5 (some (((shR S31 x0 4 (some (((shR S20 x0 1 (some (((shR S9 x0 0 (some ((sh).1)))).1)))).1)))).1)))).1)))).1))) 100 12) x0 8 (some (((shR S64 x0 7 (some (((shR S53 x0 6 (some (((shR S42 x0 5 (some (((shR S31 x0 4 (some (((shR S20 x0 1 (some (((shR S9 x0 0 (some ((sh).1)))).1)))).1)))).1)))).1)))).1)))).1)))).1))) 201 4) x0 0 <| f_X0_init_L96 F x0 F (nI 0) (shR (newS (shR (newS (shR (newS (shR S64 x0 7 (some (((shR S53 x0 6 (some (((shR S42 x0 5 (some (((shR S31 x0 4 (some (((shR S20 x0 1 (some (((shR S9 x0 0 (some ((sh).1)))).1)))).1)))).1)))).1)))).1))) 100 12) x0 8 (some (((shR S64 x0 7 (some (((shR S53 x0 6 (some (((shR S42 x0 5 (some (((shR S31 x0 4 (some (((shR S20 x0 1 (some (((shR S9 x0 0 (some ((sh).1)))).1)))).1)))).1)))).1)))).1)))).1))) 100 6) x0 9 (some (((shR (newS (shR S64 x0 7 (some (((shR S53 x0 6 (some (((shR S42 x0 5 (some (((shR S31 x0 4 (some (((shR S20 x0 1 (some (((shR S9 x0 0 (some ((sh).1)))).1)))).1)))).1)))).1)))).1))) 100 12) x0 8 (some (((shR S64 x0 7 (some (((shR S53 x0 6 (some (((shR S42 x0 5 (some (((shR S31 x0 4 (some (((shR S20 x0 1 (some (((shR S9 x0 0 (some ((sh).1)))).1)))).1)))).1)))).1)))).1)))).1)))).1))) 201 4) x0 10 (some (((shR (newS (shR (newS (shR S64 x0 7 (some (((shR S53 x0 6 (some (((shR S42 x0 5 (some (((shR S31 x0 4 (some (((shR S20 x0 1 (some (((shR S9 x0 0 (some ((sh).1)))).1)))).1)))).1)))).1)))).1))) 100 12) x0 8 (some (((shR S64 x0 7 (some (((shR S53 x0 6 (some (((shR S42 x0 5 (some (((shR S31 x0 4 (some (((shR S20 x0 1 (some (((shR S9 x0 0 (some ((sh).1)))).1)))).1)))).1)))).1)))).1)))).1))) 100 6) x0 9 (some (((shR (newS (shR S64 x0 7 (some (((shR S53 x0 6 (some (((shR S42 x0 5 (some (((shR S31 x0 4 (some (((shR S20 x0 1 (some (((shR S9 x0 0 (some ((sh).1)))).1)))).1)))).1)))).1)))).1))) 100 12) x0 8 (some (((shR S64 x0 7 (some (((shR S53 x0 6 (some (((shR S42 x0 5 (some (((shR S31 x0 4 (some (((shR S20 x0 1 (some (((shR S9 x0 0 (some ((sh).1)))).1)))).1)))).1)))).1)))).1)))).1)))).1)))).1))) (newI (shR (newS (shR (newS (shR S64 x0 7 (some (((shR S53 x0 6 (some (((shR S42 x0 5 (some (((shR S31 x0 4 (some (((shR S20 x0 1 (some (((shR S9 x0 0 (some ((sh).1)))).1)))).1)))).1)))).1)))).1))) 100 12) x0 8 (some (((shR S64 x0 7 (some (((shR S53 x0 6 (some (((shR S42 x0 5 (some (((shR S31 x0 4 (some (((shR S20 x0 1 (some (((shR S9 x0 0 (some ((sh).1)))).1)))).1)))).1)))).1)))).1)))).1))) 100 6) x0 9 (some (((shR (newS (shR S64 x0 7 (some (((shR S53 x0 6 (some (((shR S42 x0 5 (some (((shR S31 x0 4 (some (((shR S20 x0 1 (some (((shR S9 x0 0 (some ((sh).1)))).1)))).1)))).1)))).1)))).1))) 100 12) x0 8 (some (((shR S64 x0 7 (some (((shR S53 x0 6 (some (((shR S42 x0 5 (some (((shR S31 x0 4 (some (((shR S20 x0 1 (some (((shR S9 x0 0 (some ((sh).1)))).1)))).1)))).1)))).1)))).1)))).1)))).1))) (newI (shR (newS (shR S64 x0 7 (some (((shR S53 x0 6 (some (((shR S42 x0 5 (some (((shR S31 x0 4 (some (((shR S20 x0 1 (some (((shR S9 x0 0 (some ((sh).1)))).1)))).1)))).1)))).1)))).1))) 100 12) x0 8 (some (((shR S64 x0 7 (some (((shR S53 x0 6 (some (((shR S42 x0 5 (some (((shR S31 x0 4 (some (((shR S20 x0 1 (some (((shR S9 x0 0 (some ((sh).1)))).1)))).1)))).1)))).1)))).1)))).1))) (newI (shR S64 x0 7 (some (((shR S53 x0 6 (some (((shR S42 x0 5 (some (((shR S31 x0 4 (some (((shR S20 x0 1 (some (((shR S9 x0 0 (some ((sh).1)))).1)))).1)))).1)))).1)))).1))) I64)))
abbrev rmf_X0_init : Nat := 5
abbrev rml_X0_init : Nat := 122
theorem mi_X0_init : MI yX0_init cX0_init 2 0 := ⟨q141, q91, q142, rfl, by decide +kernel⟩
set_option maxHeartbeats 4000000 in
theorem ct_X0_init {G : WG} {l : Launch} {sh : SH} {I : II} {F : Nat} {x0 : Nat} {Z : (SH × II)} (hk : f_X0_init F sh x0 I = some Z) : CT G l yX0_init (ws_ yX0_init cX0_init 2 none) (rmA rmf_X0_init rml_X0_init (Z.1.1 - sh.1)) [.ref (wad G x0)] (sh, I) (.returned none) Z := by
  refine CT.ofJ "NineDemands" rfl (by decide) (Nat.le_of_ble_eq_true rfl) ?_
  intro p e s m args below meth c C
  unfold f_X0_init at hk
  refine j_lv (lv' := [some (.ref (wad G x0)), none]) rfl ?_
  replace hk := omn2_some hk
  obtain ⟨hz0, hk⟩ := hk
  have hm0 : sh.1 ≤ sh.1 := Nat.le_refl _
  refine j_kn (k' := sh.1 - sh.1) (n' := 200 * (sh.1 - sh.1)) (Nat.sub_self _).symm (rb2 _) ?_
  refine j_aload_n (pc := 0) C dX0_init_0 rfl rfl ?_
  refine x_objInit (pc := 1) C q143 q144 q145 dX0_init_1 (Nat.le_of_ble_eq_true rfl) (Nat.le_of_ble_eq_true rfl) ?_
  refine j_aload_n (pc := 4) C dX0_init_4 rfl rfl ?_
  replace hk := onw_some hk
  obtain ⟨h1, hk⟩ := hk
  replace hk := omn2_some hk
  obtain ⟨h2, hk⟩ := hk
  have h2 : sh.1 + 1 ≤ Z.1.1 := h2
  refine x_new (pc := 5) (c2 := 1) C rfl (born_1) q146 q147 q95 h1 (ra1 hm0 h2) (ra2 hm0 h2 (by decide)) dX0_init_5 ?_
  have h3 : sh.1 ≤ sh.1 + 1 := Nat.le_succ_of_le hm0
  refine j_wid (k' := (newS sh 1 0).1 - sh.1) (n' := 200 * ((newS sh 1 0).1 - sh.1)) (rw1 hm0) (rw2 hm0 (by decide)) ?_
  refine j_dup (pc := 8) C dX0_init_8 rfl ?_
  replace hk := bd2_some hk
  obtain ⟨S9, I9, h4, hk⟩ := hk
  replace hk := og_some hk
  obtain ⟨h5, hk⟩ := hk
  replace hk := omn2_some hk
  obtain ⟨h6, hk⟩ := hk
  have h7 : sh.1 ≤ S9.1 := Nat.le_trans h3 h5
  refine x_callI (pc := 9) C (ct_X1_init h4) mi_X1_init q186 dX0_init_9 rfl rfl (Nat.le_of_ble_eq_true rfl) (rmOK.i (Nat.le_of_ble_eq_true rfl) (Nat.le_of_ble_eq_true rfl) (rm1 h3 h5 h6) (rm2 h3 h5 h6)) ?_
  refine j_kn (k' := S9.1 - sh.1) (n' := 200 * (S9.1 - sh.1)) (rk1 h3 h5) (rk2 h3 h5) ?_
  replace hk := ockw_some hk
  obtain ⟨h8, hk⟩ := hk
  refine x_putNF (pc := 12) (o := (some ((sh).1))) C fd_0_0 q372 h8 rfl dX0_init_12 ?_
  refine j_aload_n (pc := 15) C dX0_init_15 rfl rfl ?_
  replace hk := onw_some hk
  obtain ⟨h9, hk⟩ := hk
  replace hk := omn2_some hk
  obtain ⟨h10, hk⟩ := hk
  have h10 : S9.1 + 1 ≤ Z.1.1 := h10
  refine x_new (pc := 16) (c2 := 2) C rfl (born_2) q215 q216 q96 h9 (ra1 h7 h10) (ra2 h7 h10 (by decide)) dX0_init_16 ?_
  have h11 : sh.1 ≤ S9.1 + 1 := Nat.le_succ_of_le h7
  refine j_wid (k' := (newS (shR S9 x0 0 (some ((sh).1))) 2 0).1 - sh.1) (n' := 200 * ((newS (shR S9 x0 0 (some ((sh).1))) 2 0).1 - sh.1)) (rw1 h7) (rw2 h7 (by decide)) ?_
  refine j_dup (pc := 19) C dX0_init_19 rfl ?_
  replace hk := bd2_some hk
  obtain ⟨S20, I20, h12, hk⟩ := hk
  replace hk := og_some hk
  obtain ⟨h13, hk⟩ := hk
  replace hk := omn2_some hk
  obtain ⟨h14, hk⟩ := hk
  have h15 : sh.1 ≤ S20.1 := Nat.le_trans h11 h13
  refine x_callI (pc := 20) C (ct_X2_init h12) mi_X2_init q217 dX0_init_20 rfl rfl (Nat.le_of_ble_eq_true rfl) (rmOK.i (Nat.le_of_ble_eq_true rfl) (Nat.le_of_ble_eq_true rfl) (rm1 h11 h13 h14) (rm2 h11 h13 h14)) ?_
  refine j_kn (k' := S20.1 - sh.1) (n' := 200 * (S20.1 - sh.1)) (rk1 h11 h13) (rk2 h11 h13) ?_
  replace hk := ockw_some hk
  obtain ⟨h16, hk⟩ := hk
  refine x_putN (pc := 23) (o := (some (((shR S9 x0 0 (some ((sh).1)))).1))) C fd_0_1 (fl1 C q373) h16 rfl dX0_init_23 ?_
  refine j_aload_n (pc := 26) C dX0_init_26 rfl rfl ?_
  replace hk := onw_some hk
  obtain ⟨h17, hk⟩ := hk
  replace hk := omn2_some hk
  obtain ⟨h18, hk⟩ := hk
  have h18 : S20.1 + 1 ≤ Z.1.1 := h18
  refine x_new (pc := 27) (c2 := 4) C rfl (born_4) q274 q275 q100 h17 (ra1 h15 h18) (ra2 h15 h18 (by decide)) dX0_init_27 ?_
  have h19 : sh.1 ≤ S20.1 + 1 := Nat.le_succ_of_le h15
  refine j_wid (k' := (newS (shR S20 x0 1 (some (((shR S9 x0 0 (some ((sh).1)))).1))) 4 0).1 - sh.1) (n' := 200 * ((newS (shR S20 x0 1 (some (((shR S9 x0 0 (some ((sh).1)))).1))) 4 0).1 - sh.1)) (rw1 h15) (rw2 h15 (by decide)) ?_
  refine j_dup (pc := 30) C dX0_init_30 rfl ?_
  replace hk := bd2_some hk
  obtain ⟨S31, I31, h20, hk⟩ := hk
  replace hk := og_some hk
  obtain ⟨h21, hk⟩ := hk
  replace hk := omn2_some hk
  obtain ⟨h22, hk⟩ := hk
  have h23 : sh.1 ≤ S31.1 := Nat.le_trans h19 h21
  refine x_callIN (pc := 31) C (ct_X3_init h20) mi_X3_init q276 dX0_init_31 rfl rfl (Nat.le_of_ble_eq_true rfl) (rmOK.i (Nat.le_of_ble_eq_true rfl) (Nat.le_of_ble_eq_true rfl) (rm1 h19 h21 h22) (rm2 h19 h21 h22)) ?_
  refine j_kn (k' := S31.1 - sh.1) (n' := 200 * (S31.1 - sh.1)) (rk1 h19 h21) (rk2 h19 h21) ?_
  replace hk := ockw_some hk
  obtain ⟨h24, hk⟩ := hk
  refine x_putNF (pc := 34) (o := (some (((shR S20 x0 1 (some (((shR S9 x0 0 (some ((sh).1)))).1)))).1))) C fd_0_4 q376 h24 rfl dX0_init_34 ?_
  refine j_aload_n (pc := 37) C dX0_init_37 rfl rfl ?_
  replace hk := onw_some hk
  obtain ⟨h25, hk⟩ := hk
  replace hk := omn2_some hk
  obtain ⟨h26, hk⟩ := hk
  have h26 : S31.1 + 1 ≤ Z.1.1 := h26
  refine x_new (pc := 38) (c2 := 5) C rfl (born_5) q289 q290 q101 h25 (ra1 h23 h26) (ra2 h23 h26 (by decide)) dX0_init_38 ?_
  have h27 : sh.1 ≤ S31.1 + 1 := Nat.le_succ_of_le h23
  refine j_wid (k' := (newS (shR S31 x0 4 (some (((shR S20 x0 1 (some (((shR S9 x0 0 (some ((sh).1)))).1)))).1))) 5 0).1 - sh.1) (n' := 200 * ((newS (shR S31 x0 4 (some (((shR S20 x0 1 (some (((shR S9 x0 0 (some ((sh).1)))).1)))).1))) 5 0).1 - sh.1)) (rw1 h23) (rw2 h23 (by decide)) ?_
  refine j_dup (pc := 41) C dX0_init_41 rfl ?_
  replace hk := bd2_some hk
  obtain ⟨S42, I42, h28, hk⟩ := hk
  replace hk := og_some hk
  obtain ⟨h29, hk⟩ := hk
  replace hk := omn2_some hk
  obtain ⟨h30, hk⟩ := hk
  have h31 : sh.1 ≤ S42.1 := Nat.le_trans h27 h29
  refine x_callIN (pc := 42) C (ct_X4_init h28) mi_X4_init q291 dX0_init_42 rfl rfl (Nat.le_of_ble_eq_true rfl) (rmOK.i (Nat.le_of_ble_eq_true rfl) (Nat.le_of_ble_eq_true rfl) (rm1 h27 h29 h30) (rm2 h27 h29 h30)) ?_
  refine j_kn (k' := S42.1 - sh.1) (n' := 200 * (S42.1 - sh.1)) (rk1 h27 h29) (rk2 h27 h29) ?_
  replace hk := ockw_some hk
  obtain ⟨h32, hk⟩ := hk
  refine x_putNF (pc := 45) (o := (some (((shR S31 x0 4 (some (((shR S20 x0 1 (some (((shR S9 x0 0 (some ((sh).1)))).1)))).1)))).1))) C fd_0_5 q377 h32 rfl dX0_init_45 ?_
  refine j_aload_n (pc := 48) C dX0_init_48 rfl rfl ?_
  replace hk := onw_some hk
  obtain ⟨h33, hk⟩ := hk
  replace hk := omn2_some hk
  obtain ⟨h34, hk⟩ := hk
  have h34 : S42.1 + 1 ≤ Z.1.1 := h34
  refine x_new (pc := 49) (c2 := 6) C rfl (born_6) q300 q301 q102 h33 (ra1 h31 h34) (ra2 h31 h34 (by decide)) dX0_init_49 ?_
  have h35 : sh.1 ≤ S42.1 + 1 := Nat.le_succ_of_le h31
  refine j_wid (k' := (newS (shR S42 x0 5 (some (((shR S31 x0 4 (some (((shR S20 x0 1 (some (((shR S9 x0 0 (some ((sh).1)))).1)))).1)))).1))) 6 0).1 - sh.1) (n' := 200 * ((newS (shR S42 x0 5 (some (((shR S31 x0 4 (some (((shR S20 x0 1 (some (((shR S9 x0 0 (some ((sh).1)))).1)))).1)))).1))) 6 0).1 - sh.1)) (rw1 h31) (rw2 h31 (by decide)) ?_
  refine j_dup (pc := 52) C dX0_init_52 rfl ?_
  replace hk := bd2_some hk
  obtain ⟨S53, I53, h36, hk⟩ := hk
  replace hk := og_some hk
  obtain ⟨h37, hk⟩ := hk
  replace hk := omn2_some hk
  obtain ⟨h38, hk⟩ := hk
  have h39 : sh.1 ≤ S53.1 := Nat.le_trans h35 h37
  refine x_callIN (pc := 53) C (ct_X5_init h36) mi_X5_init q302 dX0_init_53 rfl rfl (Nat.le_of_ble_eq_true rfl) (rmOK.i (Nat.le_of_ble_eq_true rfl) (Nat.le_of_ble_eq_true rfl) (rm1 h35 h37 h38) (rm2 h35 h37 h38)) ?_
  refine j_kn (k' := S53.1 - sh.1) (n' := 200 * (S53.1 - sh.1)) (rk1 h35 h37) (rk2 h35 h37) ?_
  replace hk := ockw_some hk
  obtain ⟨h40, hk⟩ := hk
  refine x_putNF (pc := 56) (o := (some (((shR S42 x0 5 (some (((shR S31 x0 4 (some (((shR S20 x0 1 (some (((shR S9 x0 0 (some ((sh).1)))).1)))).1)))).1)))).1))) C fd_0_6 q378 h40 rfl dX0_init_56 ?_
  refine j_aload_n (pc := 59) C dX0_init_59 rfl rfl ?_
  replace hk := onw_some hk
  obtain ⟨h41, hk⟩ := hk
  replace hk := omn2_some hk
  obtain ⟨h42, hk⟩ := hk
  have h42 : S53.1 + 1 ≤ Z.1.1 := h42
  refine x_new (pc := 60) (c2 := 8) C rfl (born_8) q339 q340 q104 h41 (ra1 h39 h42) (ra2 h39 h42 (by decide)) dX0_init_60 ?_
  have h43 : sh.1 ≤ S53.1 + 1 := Nat.le_succ_of_le h39
  refine j_wid (k' := (newS (shR S53 x0 6 (some (((shR S42 x0 5 (some (((shR S31 x0 4 (some (((shR S20 x0 1 (some (((shR S9 x0 0 (some ((sh).1)))).1)))).1)))).1)))).1))) 8 0).1 - sh.1) (n' := 200 * ((newS (shR S53 x0 6 (some (((shR S42 x0 5 (some (((shR S31 x0 4 (some (((shR S20 x0 1 (some (((shR S9 x0 0 (some ((sh).1)))).1)))).1)))).1)))).1))) 8 0).1 - sh.1)) (rw1 h39) (rw2 h39 (by decide)) ?_
  refine j_dup (pc := 63) C dX0_init_63 rfl ?_
  replace hk := bd2_some hk
  obtain ⟨S64, I64, h44, hk⟩ := hk
  replace hk := og_some hk
  obtain ⟨h45, hk⟩ := hk
  replace hk := omn2_some hk
  obtain ⟨h46, hk⟩ := hk
  have h47 : sh.1 ≤ S64.1 := Nat.le_trans h43 h45
  refine x_callIN (pc := 64) C (ct_X7_init h44) mi_X7_init q341 dX0_init_64 rfl rfl (Nat.le_of_ble_eq_true rfl) (rmOK.i (Nat.le_of_ble_eq_true rfl) (Nat.le_of_ble_eq_true rfl) (rm1 h43 h45 h46) (rm2 h43 h45 h46)) ?_
  refine j_kn (k' := S64.1 - sh.1) (n' := 200 * (S64.1 - sh.1)) (rk1 h43 h45) (rk2 h43 h45) ?_
  replace hk := ockw_some hk
  obtain ⟨h48, hk⟩ := hk
  refine x_putNF (pc := 67) (o := (some (((shR S53 x0 6 (some (((shR S42 x0 5 (some (((shR S31 x0 4 (some (((shR S20 x0 1 (some (((shR S9 x0 0 (some ((sh).1)))).1)))).1)))).1)))).1)))).1))) C fd_0_7 q379 h48 rfl dX0_init_67 ?_
  refine j_aload_n (pc := 70) C dX0_init_70 rfl rfl ?_
  refine j_bipush (pc := 71) (v := nI 12) C dX0_init_71 (by decide) ?_
  replace hk := onw_some hk
  obtain ⟨h50, hk⟩ := hk
  replace hk := omn2_some hk
  obtain ⟨h51, hk⟩ := hk
  have h51 : S64.1 + 1 ≤ Z.1.1 := h51
  refine x_newaI (pc := 73) (at' := .int) (t := 100) (q := 12) (i := (nI 12)) C (Or.inl ⟨rfl, rfl⟩) q247 (by decide) (by decide) (by decide) h50 (ra1 h47 h51) (ra2 h47 h51 (by decide)) dX0_init_73 ?_
  have h52 : sh.1 ≤ S64.1 + 1 := Nat.le_succ_of_le h47
  refine j_wid (k' := (newS (shR S64 x0 7 (some (((shR S53 x0 6 (some (((shR S42 x0 5 (some (((shR S31 x0 4 (some (((shR S20 x0 1 (some (((shR S9 x0 0 (some ((sh).1)))).1)))).1)))).1)))).1)))).1))) 100 12).1 - sh.1) (n' := 200 * ((newS (shR S64 x0 7 (some (((shR S53 x0 6 (some (((shR S42 x0 5 (some (((shR S31 x0 4 (some (((shR S20 x0 1 (some (((shR S9 x0 0 (some ((sh).1)))).1)))).1)))).1)))).1)))).1))) 100 12).1 - sh.1)) (rw1 h47) (rw2 h47 (by decide)) ?_
  replace hk := ockw_some hk
  obtain ⟨h53, hk⟩ := hk
  refine x_putNF (pc := 75) (o := (some (((shR S64 x0 7 (some (((shR S53 x0 6 (some (((shR S42 x0 5 (some (((shR S31 x0 4 (some (((shR S20 x0 1 (some (((shR S9 x0 0 (some ((sh).1)))).1)))).1)))).1)))).1)))).1)))).1))) C fd_0_8 q380 h53 rfl dX0_init_75 ?_
  refine j_aload_n (pc := 78) C dX0_init_78 rfl rfl ?_
  refine j_bipush (pc := 79) (v := nI 6) C dX0_init_79 (by decide) ?_
  replace hk := onw_some hk
  obtain ⟨h55, hk⟩ := hk
  replace hk := omn2_some hk
  obtain ⟨h56, hk⟩ := hk
  have h56 : S64.1 + 1 + 1 ≤ Z.1.1 := h56
  refine x_newaI (pc := 81) (at' := .int) (t := 100) (q := 6) (i := (nI 6)) C (Or.inl ⟨rfl, rfl⟩) q247 (by decide) (by decide) (by decide) h55 (ra1 h52 h56) (ra2 h52 h56 (by decide)) dX0_init_81 ?_
  have h57 : sh.1 ≤ S64.1 + 1 + 1 := Nat.le_succ_of_le h52
  refine j_wid (k' := (newS (shR (newS (shR S64 x0 7 (some (((shR S53 x0 6 (some (((shR S42 x0 5 (some (((shR S31 x0 4 (some (((shR S20 x0 1 (some (((shR S9 x0 0 (some ((sh).1)))).1)))).1)))).1)))).1)))).1))) 100 12) x0 8 (some (((shR S64 x0 7 (some (((shR S53 x0 6 (some (((shR S42 x0 5 (some (((shR S31 x0 4 (some (((shR S20 x0 1 (some (((shR S9 x0 0 (some ((sh).1)))).1)))).1)))).1)))).1)))).1)))).1))) 100 6).1 - sh.1) (n' := 200 * ((newS (shR (newS (shR S64 x0 7 (some (((shR S53 x0 6 (some (((shR S42 x0 5 (some (((shR S31 x0 4 (some (((shR S20 x0 1 (some (((shR S9 x0 0 (some ((sh).1)))).1)))).1)))).1)))).1)))).1))) 100 12) x0 8 (some (((shR S64 x0 7 (some (((shR S53 x0 6 (some (((shR S42 x0 5 (some (((shR S31 x0 4 (some (((shR S20 x0 1 (some (((shR S9 x0 0 (some ((sh).1)))).1)))).1)))).1)))).1)))).1)))).1))) 100 6).1 - sh.1)) (rw1 h52) (rw2 h52 (by decide)) ?_
  replace hk := ockw_some hk
  obtain ⟨h58, hk⟩ := hk
  refine x_putNF (pc := 83) (o := (some (((shR (newS (shR S64 x0 7 (some (((shR S53 x0 6 (some (((shR S42 x0 5 (some (((shR S31 x0 4 (some (((shR S20 x0 1 (some (((shR S9 x0 0 (some ((sh).1)))).1)))).1)))).1)))).1)))).1))) 100 12) x0 8 (some (((shR S64 x0 7 (some (((shR S53 x0 6 (some (((shR S42 x0 5 (some (((shR S31 x0 4 (some (((shR S20 x0 1 (some (((shR S9 x0 0 (some ((sh).1)))).1)))).1)))).1)))).1)))).1)))).1)))).1))) C fd_0_9 q381 h58 rfl dX0_init_83 ?_
  refine j_aload_n (pc := 86) C dX0_init_86 rfl rfl ?_
  refine j_iconst (pc := 87) (v := nI 4) C dX0_init_87 (by decide) ?_
  replace hk := onw_some hk
  obtain ⟨h60, hk⟩ := hk
  replace hk := omn2_some hk
  obtain ⟨h61, hk⟩ := hk
  have h61 : S64.1 + 1 + 1 + 1 ≤ Z.1.1 := h61
  refine x_anew (pc := 88) (t := 201) (q := 4) (i := (nI 4)) C (Or.inr ⟨rfl, rfl⟩) q361 q362 (by decide) (by decide) (by decide) h60 (ra1 h57 h61) (ra2 h57 h61 (by decide)) dX0_init_88 ?_
  have h62 : sh.1 ≤ S64.1 + 1 + 1 + 1 := Nat.le_succ_of_le h57
  refine j_wid (k' := (newS (shR (newS (shR (newS (shR S64 x0 7 (some (((shR S53 x0 6 (some (((shR S42 x0 5 (some (((shR S31 x0 4 (some (((shR S20 x0 1 (some (((shR S9 x0 0 (some ((sh).1)))).1)))).1)))).1)))).1)))).1))) 100 12) x0 8 (some (((shR S64 x0 7 (some (((shR S53 x0 6 (some (((shR S42 x0 5 (some (((shR S31 x0 4 (some (((shR S20 x0 1 (some (((shR S9 x0 0 (some ((sh).1)))).1)))).1)))).1)))).1)))).1)))).1))) 100 6) x0 9 (some (((shR (newS (shR S64 x0 7 (some (((shR S53 x0 6 (some (((shR S42 x0 5 (some (((shR S31 x0 4 (some (((shR S20 x0 1 (some (((shR S9 x0 0 (some ((sh).1)))).1)))).1)))).1)))).1)))).1))) 100 12) x0 8 (some (((shR S64 x0 7 (some (((shR S53 x0 6 (some (((shR S42 x0 5 (some (((shR S31 x0 4 (some (((shR S20 x0 1 (some (((shR S9 x0 0 (some ((sh).1)))).1)))).1)))).1)))).1)))).1)))).1)))).1))) 201 4).1 - sh.1) (n' := 200 * ((newS (shR (newS (shR (newS (shR S64 x0 7 (some (((shR S53 x0 6 (some (((shR S42 x0 5 (some (((shR S31 x0 4 (some (((shR S20 x0 1 (some (((shR S9 x0 0 (some ((sh).1)))).1)))).1)))).1)))).1)))).1))) 100 12) x0 8 (some (((shR S64 x0 7 (some (((shR S53 x0 6 (some (((shR S42 x0 5 (some (((shR S31 x0 4 (some (((shR S20 x0 1 (some (((shR S9 x0 0 (some ((sh).1)))).1)))).1)))).1)))).1)))).1)))).1))) 100 6) x0 9 (some (((shR (newS (shR S64 x0 7 (some (((shR S53 x0 6 (some (((shR S42 x0 5 (some (((shR S31 x0 4 (some (((shR S20 x0 1 (some (((shR S9 x0 0 (some ((sh).1)))).1)))).1)))).1)))).1)))).1))) 100 12) x0 8 (some (((shR S64 x0 7 (some (((shR S53 x0 6 (some (((shR S42 x0 5 (some (((shR S31 x0 4 (some (((shR S20 x0 1 (some (((shR S9 x0 0 (some ((sh).1)))).1)))).1)))).1)))).1)))).1)))).1)))).1))) 201 4).1 - sh.1)) (rw1 h57) (rw2 h57 (by decide)) ?_
  replace hk := ockw_some hk
  obtain ⟨h63, hk⟩ := hk
  refine x_putNF (pc := 91) (o := (some (((shR (newS (shR (newS (shR S64 x0 7 (some (((shR S53 x0 6 (some (((shR S42 x0 5 (some (((shR S31 x0 4 (some (((shR S20 x0 1 (some (((shR S9 x0 0 (some ((sh).1)))).1)))).1)))).1)))).1)))).1))) 100 12) x0 8 (some (((shR S64 x0 7 (some (((shR S53 x0 6 (some (((shR S42 x0 5 (some (((shR S31 x0 4 (some (((shR S20 x0 1 (some (((shR S9 x0 0 (some ((sh).1)))).1)))).1)))).1)))).1)))).1)))).1))) 100 6) x0 9 (some (((shR (newS (shR S64 x0 7 (some (((shR S53 x0 6 (some (((shR S42 x0 5 (some (((shR S31 x0 4 (some (((shR S20 x0 1 (some (((shR S9 x0 0 (some ((sh).1)))).1)))).1)))).1)))).1)))).1))) 100 12) x0 8 (some (((shR S64 x0 7 (some (((shR S53 x0 6 (some (((shR S42 x0 5 (some (((shR S31 x0 4 (some (((shR S20 x0 1 (some (((shR S9 x0 0 (some ((sh).1)))).1)))).1)))).1)))).1)))).1)))).1)))).1)))).1))) C fd_0_10 q382 h63 rfl dX0_init_91 ?_
  refine j_iconst (pc := 94) (v := nI 0) C dX0_init_94 (by decide) ?_
  refine j_istore_n (pc := 95) C dX0_init_95 rfl (Nat.le_of_ble_eq_true rfl) rfl ?_
  have L96 : ∀ (x0 : Nat) (n96 : Nat) (x1 : Int32) (S : SH) (I : II), sh.1 ≤ S.1 → S.1 ≤ Z.1.1 → f_X0_init_L96 F x0 n96 x1 S I = some Z → J G p l e (rmA rmf_X0_init rml_X0_init (Z.1.1 - sh.1)) s m args below meth c 2 (.returned none) Z ((rmA rmf_X0_init rml_X0_init (Z.1.1 - sh.1))).cells ((rmA rmf_X0_init rml_X0_init (Z.1.1 - sh.1))).slots (S, I) ((S).1 - sh.1) (200 * ((S).1 - sh.1)) 96 [some (.ref (wad G x0)), some (.int x1)] [] := by
    intro x0 n96
    induction n96 with
    | zero => intro x1 S I hm hz hk; rw [f_X0_init_L96] at hk; cases hk
    | succ n96 ih96 =>
      intro x1 S I hm hz hk
      rw [f_X0_init_L96] at hk
      generalize f_X0_init_L96 F x0 n96 = k96 at ih96 hk
      refine j_iload_n (pc := 96) C dX0_init_96 rfl rfl ?_
      refine j_iconst (pc := 97) (v := nI 4) C dX0_init_97 (by decide) ?_
      refine j_icmp_ge (pc := 98) 120 C dX0_init_98 (by decide) (fun h64 => ?_) (fun h64 => ?_)
      · replace hk := it_t h64 hk
        obtain rfl := Option.some.inj hk
        exact j_vret (pc := 120) C dX0_init_120 (Nat.le_refl _) (Nat.le_refl _)
      · replace hk := it_f h64 hk
        refine j_aload_n (pc := 101) C dX0_init_101 rfl rfl ?_
        replace hk := ock_some hk
        obtain ⟨h65, hk⟩ := hk
        replace hk := orf_some hk
        obtain ⟨t102, et102, hk⟩ := hk
        refine x_getR (pc := 102) C fd_0_10 (fl1 C q382) h65 et102 dX0_init_102 ?_
        refine j_iload_n (pc := 105) C dX0_init_105 rfl rfl ?_
        replace hk := onw_some hk
        obtain ⟨h66, hk⟩ := hk
        replace hk := omn2_some hk
        obtain ⟨h67, hk⟩ := hk
        have h67 : S.1 + 1 ≤ Z.1.1 := h67
        refine x_new (pc := 106) (c2 := 9) C rfl (born_9) q361 q363 q105 h66 (ra1 hm h67) (ra2 hm h67 (by decide)) dX0_init_106 ?_
        have h68 : sh.1 ≤ S.1 + 1 := Nat.le_succ_of_le hm
        refine j_wid (k' := (newS S 9 0).1 - sh.1) (n' := 200 * ((newS S 9 0).1 - sh.1)) (rw1 hm) (rw2 hm (by decide)) ?_
        refine j_dup (pc := 109) C dX0_init_109 rfl ?_
        replace hk := ob_some hk
        obtain ⟨_u, h69, hk⟩ := hk
        refine x_callIN (pc := 110) C (ct_X8_init h69) mi_X8_init q364 dX0_init_110 rfl rfl (Nat.le_of_ble_eq_true rfl) (rmOK.i (Nat.le_of_ble_eq_true rfl) (Nat.le_of_ble_eq_true rfl) (rz1 h68 h67) (rz2 h68 h67)) ?_
        replace hk := oarw_some hk
        obtain ⟨nh70, h70, hk⟩ := hk
        replace hk := ock_some hk
        obtain ⟨h72, hk⟩ := hk
        replace hk := oix_ex hk
        obtain ⟨i113, e113, h71, hk⟩ := hk
        refine x_aast (pc := 113) C h70 (by decide) h71 e113 h72 rfl (Or.inr rfl) dX0_init_113 ?_
        refine j_iinc (pc := 114) (nI 1) C dX0_init_114 rfl (by decide) (Nat.le_of_ble_eq_true rfl) rfl ?_
        refine j_goto (pc := 117) 96 C dX0_init_117 (by decide) ?_
        exact j_mask [true, true] (ih96 _ _ _ h68 h67 hk)
  exact j_mask [true, true] (L96 _ _ _ _ _ h62 h61 hk)
