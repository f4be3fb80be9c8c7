/-! the class: walks -/
set_option maxRecDepth 100000
def f_X0_read_J49 (F : Nat) (x1 : Nat) (S : SH) (I : II) : Option ((Nat ⊕ Nat) × SH × II) := ost S <| bd2 (v_X10_lay F S x1 I) fun S54 I54 => og (S.1 ≤ S54.1) <| omn3 S54 <| some ((.inl x1), S54, I54)
def f_X0_read (F : Nat) (sh : SH) (x1 : Nat) (I : II) : Option ((Nat ⊕ Nat) × SH × II) := omn3 sh <| ost sh <| (v_X10_hasText sh x1 I).bind fun r1 => if r1 = 0 then f_X0_read_J49 F x1 sh I else orf (sh.2.2 0 1) fun t8 => ock sh t8 2 <| orf (sh.2.2 0 1) fun t16 => ockw sh t16 2 <| onw sh <| omn3 (newS sh 17 0) <| bd3 (v_X10_names (newS sh 17 0) x1 (newI sh (up2 I t16 3 (nI 0)))) fun a29 S29 I29 => og (sh.1 + 1 ≤ S29.1) <| omn3 S29 <| ost S29 <| orf (S29.2.2 0 1) fun t33 => ock S29 t33 2 <| orf (S29.2.2 t33 2) fun t36 => bd2 (f_X16_init S29 ((sh).1) a29 t36 (I t8 3) I29) fun S40 I40 => og (S29.1 ≤ S40.1) <| omn3 S40 <| ock S40 ((sh).1) 17 <| bd3 (f_X16_read F S40 ((sh).1) I40) fun u43 S43 I43 => og (S40.1 ≤ S43.1) <| omn3 S43 <| oex u43 (fun a43 => ockwD S43 x1 <| f_X0_read_J49 F x1 (shR S43 x1 3 (some a43)) I43) (fun w43 => some (.inr w43, S43, I43))
abbrev rmf_X0_read : Nat := 123
abbrev rml_X0_read : Nat := 2909
theorem mv_X0_read_ok : callOK yX0_read 1 := by decide +kernel
theorem mv_X0_read : MV yX0_read cX0_read 3 (some (.object "NineDemands$Demand")) 1 := ⟨q651, qs4, q91, q652, mv_X0_read_ok⟩
set_option maxHeartbeats 4000000 in
theorem ct_X0_read {G : WG} {l : Launch} {sh : SH} {I : II} {F : Nat} {x1 : Nat} {Z : ((Nat ⊕ Nat) × SH × II)} (hk : f_X0_read F sh x1 I = some Z) : CT G l yX0_read (ws_ yX0_read cX0_read 3 (some (.object "NineDemands$Demand"))) (rmA rmf_X0_read rml_X0_read (Z.2.1.1 - sh.1)) [.ref (wad G 0), .ref (wad G x1)] (sh, I) (ocr G Z.1) Z.2 := by
  refine CT.ofJ "NineDemands" rfl (by decide) (Nat.le_of_ble_eq_true rfl) ?_
  intro p e s m args below meth c C
  unfold f_X0_read at hk
  refine j_lv (lv' := [some (.ref (wad G 0)), some (.ref (wad G x1)), none]) rfl ?_
  replace hk := omn3_some hk
  obtain ⟨hz0, hk⟩ := hk
  have hm0 : sh.1 ≤ sh.1 := Nat.le_refl _
  refine j_kn (k' := sh.1 - sh.1) (n' := 200 * (sh.1 - sh.1)) (Nat.sub_self _).symm (rb2 _) ?_
  refine j_aload_n (pc := 0) C dX0_read_0 rfl rfl ?_
  replace hk := ost_some hk
  obtain ⟨h1, hk⟩ := hk
  replace hk := ob_some hk
  obtain ⟨r1, h2, hk⟩ := hk
  refine x_callX (pc := 1) C (vc_X10_hasText h1 h2) q653 dX0_read_1 rfl rfl (Nat.le_of_ble_eq_true rfl) (Nat.le_of_ble_eq_true rfl) (Nat.le_of_ble_eq_true rfl) (rz1 hm0 hz0) (rz2 hm0 hz0) ?_
  have Jn49 : ∀ (x1 : Nat) (S : SH) (I : II), sh.1 ≤ S.1 → S.1 ≤ Z.2.1.1 → f_X0_read_J49 F x1 S I = some Z → J G p l e (rmA rmf_X0_read rml_X0_read (Z.2.1.1 - sh.1)) s m args below meth c 3 (ocr G Z.1) Z.2 ((rmA rmf_X0_read rml_X0_read (Z.2.1.1 - sh.1))).cells ((rmA rmf_X0_read rml_X0_read (Z.2.1.1 - sh.1))).slots (S, I) ((S).1 - sh.1) (200 * ((S).1 - sh.1)) 49 [some (.ref (wad G 0)), some (.ref (wad G x1)), none] [] := by
    intro x1 S I hm hz hk
    unfold f_X0_read_J49 at hk
    refine j_aload_n (pc := 49) C dX0_read_49 rfl rfl ?_
    refine j_aload_n (pc := 50) C dX0_read_50 rfl rfl ?_
    replace hk := ost_some hk
    obtain ⟨h3, hk⟩ := hk
    refine x_getR (pc := 51) C fd_0_5 (fl1 C q377) (stN_o0 h3).r (stN_r0_5 h3) dX0_read_51 ?_
    replace hk := bd2_some hk
    obtain ⟨S54, I54, h4, hk⟩ := hk
    replace hk := og_some hk
    obtain ⟨h5, hk⟩ := hk
    replace hk := omn3_some hk
    obtain ⟨h6, hk⟩ := hk
    have h7 : sh.1 ≤ S54.1 := Nat.le_trans hm h5
    refine x_callX (pc := 54) C (vc_X10_lay h4) q1103 dX0_read_54 rfl rfl (Nat.le_of_ble_eq_true rfl) (Nat.le_of_ble_eq_true rfl) (Nat.le_of_ble_eq_true rfl) (rm1 hm h5 h6) (rm2 hm h5 h6) ?_
    refine j_kn (k' := S54.1 - sh.1) (n' := 200 * (S54.1 - sh.1)) (rk1 hm h5) (rk2 hm h5) ?_
    refine j_aload_n (pc := 57) C dX0_read_57 rfl rfl ?_
    obtain rfl := Option.some.inj hk
    exact x_aret (pc := 58) C dX0_read_58 (Nat.le_refl _) (Nat.le_refl _) rfl
  refine j_if_eq (pc := 4) 49 C dX0_read_4 (by decide) (fun h8 => ?_) (fun h8 => ?_)
  · replace hk := it_t h8 hk
    exact j_mask [true, true, false] (Jn49 _ _ _ hm0 hz0 hk)
  · replace hk := it_f h8 hk
    refine j_aload_n (pc := 7) C dX0_read_7 rfl rfl ?_
    replace hk := orf_some hk
    obtain ⟨t8, et8, hk⟩ := hk
    refine x_getR (pc := 8) C fd_0_1 (fl1 C q373) (stN_o0 h1).r et8 dX0_read_8 ?_
    replace hk := ock_some hk
    obtain ⟨h9, hk⟩ := hk
    refine x_getI (pc := 11) C fd_2_3 (fl3 C q255) h9 dX0_read_11 ?_
    refine j_istore_n (pc := 14) C dX0_read_14 rfl (Nat.le_of_ble_eq_true rfl) rfl ?_
    refine j_aload_n (pc := 15) C dX0_read_15 rfl rfl ?_
    replace hk := orf_some hk
    obtain ⟨t16, et16, hk⟩ := hk
    refine x_getR (pc := 16) C fd_0_1 (fl1 C q373) (stN_o0 h1).r et16 dX0_read_16 ?_
    refine j_iconst (pc := 19) (v := nI 0) C dX0_read_19 (by decide) ?_
    replace hk := ockw_some hk
    obtain ⟨h10, hk⟩ := hk
    refine x_putI (pc := 20) C fd_2_3 (fl3 C q255) h10 rfl rfl dX0_read_20 ?_
    refine j_aload_n (pc := 23) C dX0_read_23 rfl rfl ?_
    replace hk := onw_some hk
    obtain ⟨h11, hk⟩ := hk
    replace hk := omn3_some hk
    obtain ⟨h12, hk⟩ := hk
    have h12 : sh.1 + 1 ≤ Z.2.1.1 := h12
    refine x_new (pc := 24) (c2 := 17) C rfl (born_17) q672 q673 q114 h11 (ra1 hm0 h12) (ra2 hm0 h12 (by decide)) dX0_read_24 ?_
    have h13 : sh.1 ≤ sh.1 + 1 := Nat.le_succ_of_le hm0
    refine j_wid (k' := (newS sh 17 0).1 - sh.1) (n' := 200 * ((newS sh 17 0).1 - sh.1)) (rw1 hm0) (rw2 hm0 (by decide)) ?_
    refine j_dup (pc := 27) C dX0_read_27 rfl ?_
    refine j_aload_n (pc := 28) C dX0_read_28 rfl rfl ?_
    replace hk := bd3_some hk
    obtain ⟨a29, S29, I29, h14, hk⟩ := hk
    replace hk := og_some hk
    obtain ⟨h15, hk⟩ := hk
    replace hk := omn3_some hk
    obtain ⟨h16, hk⟩ := hk
    have h17 : sh.1 ≤ S29.1 := Nat.le_trans h13 h15
    refine x_callX (pc := 29) C (vc_X10_names h14) q674 dX0_read_29 rfl rfl (Nat.le_of_ble_eq_true rfl) (Nat.le_of_ble_eq_true rfl) (Nat.le_of_ble_eq_true rfl) (rm1 h13 h15 h16) (rm2 h13 h15 h16) ?_
    refine j_kn (k' := S29.1 - sh.1) (n' := 200 * (S29.1 - sh.1)) (rk1 h13 h15) (rk2 h13 h15) ?_
    refine j_stk (st' := [.ref (wad G a29), .ref (wad G (sh).1), .ref (wad G (sh).1), .ref (wad G x1)]) rfl ?_
    refine j_aload_n (pc := 32) C dX0_read_32 rfl rfl ?_
    replace hk := ost_some hk
    obtain ⟨h18, hk⟩ := hk
    replace hk := orf_some hk
    obtain ⟨t33, et33, hk⟩ := hk
    refine x_getR (pc := 33) C fd_0_1 (fl1 C q373) (stN_o0 h18).r et33 dX0_read_33 ?_
    replace hk := ock_some hk
    obtain ⟨h19, hk⟩ := hk
    replace hk := orf_some hk
    obtain ⟨t36, et36, hk⟩ := hk
    refine x_getR (pc := 36) C fd_2_2 (fl3 C q253) h19 et36 dX0_read_36 ?_
    refine j_iload_n (pc := 39) C dX0_read_39 rfl rfl ?_
    replace hk := bd2_some hk
    obtain ⟨S40, I40, h20, hk⟩ := hk
    replace hk := og_some hk
    obtain ⟨h21, hk⟩ := hk
    replace hk := omn3_some hk
    obtain ⟨h22, hk⟩ := hk
    have h23 : sh.1 ≤ S40.1 := Nat.le_trans h17 h21
    refine x_callI (pc := 40) C (ct_X16_init h20) mi_X16_init q913 dX0_read_40 rfl rfl (Nat.le_of_ble_eq_true rfl) (rmOK.i (Nat.le_of_ble_eq_true rfl) (Nat.le_of_ble_eq_true rfl) (rm1 h17 h21 h22) (rm2 h17 h21 h22)) ?_
    refine j_kn (k' := S40.1 - sh.1) (n' := 200 * (S40.1 - sh.1)) (rk1 h17 h21) (rk2 h17 h21) ?_
    replace hk := ock_some hk
    obtain ⟨h24, hk⟩ := hk
    replace hk := bd3_some hk
    obtain ⟨u43, S43, I43, h25, hk⟩ := hk
    replace hk := og_some hk
    obtain ⟨h26, hk⟩ := hk
    replace hk := omn3_some hk
    obtain ⟨h27, hk⟩ := hk
    have h28 : sh.1 ≤ S43.1 := Nat.le_trans h23 h26
    cases u43 with
    | inr w43 =>
      replace hk := oex_r hk
      obtain rfl := Option.some.inj hk
      exact x_callVT (pc := 43) C (ct_X16_read h25) mv_X16_read h24 rfl rfl q933 dX0_read_43 rfl rfl (Nat.le_of_ble_eq_true rfl) (rmOK.i (Nat.le_of_ble_eq_true rfl) (Nat.le_of_ble_eq_true rfl) (rm1 h23 h26 h27) (rm2 h23 h26 h27)) rfl (Nat.le_of_eq (rk1 h23 h26)) (Nat.le_of_eq (rk2 h23 h26))
    | inl a43 =>
      replace hk := oex_l hk
      refine x_callV (pc := 43) C (ct_X16_read h25) mv_X16_read h24 rfl rfl q933 dX0_read_43 rfl rfl (Nat.le_of_ble_eq_true rfl) (rmOK.i (Nat.le_of_ble_eq_true rfl) (Nat.le_of_ble_eq_true rfl) (rm1 h23 h26 h27) (rm2 h23 h26 h27)) ?_
      refine j_kn (k' := S43.1 - sh.1) (n' := 200 * (S43.1 - sh.1)) (rk1 h23 h26) (rk2 h23 h26) ?_
      refine j_stk (st' := [.ref (wad G a43), .ref (wad G x1)]) rfl ?_
      replace hk := ockwD_some hk
      obtain ⟨ch29, ch29h, h29, hk⟩ := hk
      refine x_putN (pc := 46) (o := (some a43)) C (fdD_3 ch29h) (fl1 C q567) h29 rfl dX0_read_46 ?_
      exact j_mask [true, true, false] (Jn49 _ _ _ h28 h27 hk)
def f_X0_demand (sh : SH) (x0 : Int32) (x1 : Nat) (x2 : Int32) (x3 : Int32) (I : II) : Option (Nat × SH × II) := omn3 sh <| if x0 = nI 1 then onw sh <| omn3 (newS sh 12 0) <| bd2 (f_X11_init (newS sh 12 0) ((sh).1) x1 x2 x3 (newI sh I)) fun S43 I43 => og (sh.1 + 1 ≤ S43.1) <| omn3 S43 <| some (((sh).1), S43, I43) else if x0 = nI 2 then onw sh <| omn3 (newS sh 13 0) <| bd2 (f_X12_init (newS sh 13 0) ((sh).1) x1 x2 x3 (newI sh I)) fun S54 I54 => og (sh.1 + 1 ≤ S54.1) <| omn3 S54 <| some (((sh).1), S54, I54) else if x0 = nI 3 then onw sh <| omn3 (newS sh 14 0) <| bd2 (f_X13_init (newS sh 14 0) ((sh).1) x1 x2 x3 (newI sh I)) fun S65 I65 => og (sh.1 + 1 ≤ S65.1) <| omn3 S65 <| some (((sh).1), S65, I65) else if x0 = nI 4 then onw sh <| omn3 (newS sh 15 0) <| bd2 (f_X14_init (newS sh 15 0) ((sh).1) x1 x2 x3 (newI sh I)) fun S76 I76 => og (sh.1 + 1 ≤ S76.1) <| omn3 S76 <| some (((sh).1), S76, I76) else if x0 = nI 5 then onw sh <| omn3 (newS sh 16 0) <| bd2 (f_X15_init (newS sh 16 0) ((sh).1) x1 x2 x3 (newI sh I)) fun S87 I87 => og (sh.1 + 1 ≤ S87.1) <| omn3 S87 <| some (((sh).1), S87, I87) else onw sh <| omn3 (newS sh 11 0) <| bd2 (f_X10_init (newS sh 11 0) ((sh).1) x1 x2 x3 (newI sh I)) fun S98 I98 => og (sh.1 + 1 ≤ S98.1) <| omn3 S98 <| some (((sh).1), S98, I98)
abbrev rmf_X0_demand : Nat := 4
abbrev rml_X0_demand : Nat := 99
theorem ms_X0_demand : MS yX0_demand cX0_demand 4 (some (.object "NineDemands$Demand")) 4 := ⟨q519, q91, q520, by decide +kernel⟩
set_option maxHeartbeats 4000000 in
theorem ct_X0_demand {G : WG} {l : Launch} {sh : SH} {I : II} {x0 : Int32} {x1 : Nat} {x2 : Int32} {x3 : Int32} {Z : (Nat × SH × II)} (hk : f_X0_demand sh x0 x1 x2 x3 I = some Z) : CT G l yX0_demand (ws_ yX0_demand cX0_demand 4 (some (.object "NineDemands$Demand"))) (rmA rmf_X0_demand rml_X0_demand (Z.2.1.1 - sh.1)) [.int x0, .ref (wad G x1), .int x2, .int x3] (sh, I) (.returned (some (.ref (wad G Z.1)))) Z.2 := by
  refine CT.ofJ "NineDemands" rfl (by decide) (Nat.le_of_ble_eq_true rfl) ?_
  intro p e s m args below meth c C
  unfold f_X0_demand at hk
  refine j_lv (lv' := [some (.int x0), some (.ref (wad G x1)), some (.int x2), some (.int x3)]) rfl ?_
  replace hk := omn3_some hk
  obtain ⟨hz0, hk⟩ := hk
  have hm0 : sh.1 ≤ sh.1 := Nat.le_refl _
  refine j_kn (k' := sh.1 - sh.1) (n' := 200 * (sh.1 - sh.1)) (Nat.sub_self _).symm (rb2 _) ?_
  refine j_iload_n (pc := 0) C dX0_demand_0 rfl rfl ?_
  by_cases h1 : x0 = nI 1
  · replace hk := it_t h1 hk
    refine j_tableIn (pc := 1) 36 1 C dX0_demand_1 (sw_in h1 (by decide)) (by decide) (by decide) rfl (by decide) ?_
    replace hk := onw_some hk
    obtain ⟨h2, hk⟩ := hk
    replace hk := omn3_some hk
    obtain ⟨h3, hk⟩ := hk
    have h3 : sh.1 + 1 ≤ Z.2.1.1 := h3
    refine x_new (pc := 36) (c2 := 12) C rfl (born_12) q521 q522 q109 h2 (ra1 hm0 h3) (ra2 hm0 h3 (by decide)) dX0_demand_36 ?_
    have h4 : sh.1 ≤ sh.1 + 1 := Nat.le_succ_of_le hm0
    refine j_wid (k' := (newS sh 12 0).1 - sh.1) (n' := 200 * ((newS sh 12 0).1 - sh.1)) (rw1 hm0) (rw2 hm0 (by decide)) ?_
    refine j_dup (pc := 39) C dX0_demand_39 rfl ?_
    refine j_aload_n (pc := 40) C dX0_demand_40 rfl rfl ?_
    refine j_iload_n (pc := 41) C dX0_demand_41 rfl rfl ?_
    refine j_iload_n (pc := 42) C dX0_demand_42 rfl rfl ?_
    replace hk := bd2_some hk
    obtain ⟨S43, I43, h5, hk⟩ := hk
    replace hk := og_some hk
    obtain ⟨h6, hk⟩ := hk
    replace hk := omn3_some hk
    obtain ⟨h7, hk⟩ := hk
    have h8 : sh.1 ≤ S43.1 := Nat.le_trans h4 h6
    refine x_callI (pc := 43) C (ct_X11_init h5) mi_X11_init q523 dX0_demand_43 rfl rfl (Nat.le_of_ble_eq_true rfl) (rmOK.i (Nat.le_of_ble_eq_true rfl) (Nat.le_of_ble_eq_true rfl) (rm1 h4 h6 h7) (rm2 h4 h6 h7)) ?_
    refine j_kn (k' := S43.1 - sh.1) (n' := 200 * (S43.1 - sh.1)) (rk1 h4 h6) (rk2 h4 h6) ?_
    obtain rfl := Option.some.inj hk
    exact x_aret (pc := 46) C dX0_demand_46 (Nat.le_refl _) (Nat.le_refl _) rfl
  replace hk := it_f h1 hk
  by_cases h9 : x0 = nI 2
  · replace hk := it_t h9 hk
    refine j_tableIn (pc := 1) 47 2 C dX0_demand_1 (sw_in h9 (by decide)) (by decide) (by decide) rfl (by decide) ?_
    replace hk := onw_some hk
    obtain ⟨h10, hk⟩ := hk
    replace hk := omn3_some hk
    obtain ⟨h11, hk⟩ := hk
    have h11 : sh.1 + 1 ≤ Z.2.1.1 := h11
    refine x_new (pc := 47) (c2 := 13) C rfl (born_13) q592 q593 q110 h10 (ra1 hm0 h11) (ra2 hm0 h11 (by decide)) dX0_demand_47 ?_
    have h12 : sh.1 ≤ sh.1 + 1 := Nat.le_succ_of_le hm0
    refine j_wid (k' := (newS sh 13 0).1 - sh.1) (n' := 200 * ((newS sh 13 0).1 - sh.1)) (rw1 hm0) (rw2 hm0 (by decide)) ?_
    refine j_dup (pc := 50) C dX0_demand_50 rfl ?_
    refine j_aload_n (pc := 51) C dX0_demand_51 rfl rfl ?_
    refine j_iload_n (pc := 52) C dX0_demand_52 rfl rfl ?_
    refine j_iload_n (pc := 53) C dX0_demand_53 rfl rfl ?_
    replace hk := bd2_some hk
    obtain ⟨S54, I54, h13, hk⟩ := hk
    replace hk := og_some hk
    obtain ⟨h14, hk⟩ := hk
    replace hk := omn3_some hk
    obtain ⟨h15, hk⟩ := hk
    have h16 : sh.1 ≤ S54.1 := Nat.le_trans h12 h14
    refine x_callI (pc := 54) C (ct_X12_init h13) mi_X12_init q594 dX0_demand_54 rfl rfl (Nat.le_of_ble_eq_true rfl) (rmOK.i (Nat.le_of_ble_eq_true rfl) (Nat.le_of_ble_eq_true rfl) (rm1 h12 h14 h15) (rm2 h12 h14 h15)) ?_
    refine j_kn (k' := S54.1 - sh.1) (n' := 200 * (S54.1 - sh.1)) (rk1 h12 h14) (rk2 h12 h14) ?_
    obtain rfl := Option.some.inj hk
    exact x_aret (pc := 57) C dX0_demand_57 (Nat.le_refl _) (Nat.le_refl _) rfl
  replace hk := it_f h9 hk
  by_cases h17 : x0 = nI 3
  · replace hk := it_t h17 hk
    refine j_tableIn (pc := 1) 58 3 C dX0_demand_1 (sw_in h17 (by decide)) (by decide) (by decide) rfl (by decide) ?_
    replace hk := onw_some hk
    obtain ⟨h18, hk⟩ := hk
    replace hk := omn3_some hk
    obtain ⟨h19, hk⟩ := hk
    have h19 : sh.1 + 1 ≤ Z.2.1.1 := h19
    refine x_new (pc := 58) (c2 := 14) C rfl (born_14) q604 q605 q111 h18 (ra1 hm0 h19) (ra2 hm0 h19 (by decide)) dX0_demand_58 ?_
    have h20 : sh.1 ≤ sh.1 + 1 := Nat.le_succ_of_le hm0
    refine j_wid (k' := (newS sh 14 0).1 - sh.1) (n' := 200 * ((newS sh 14 0).1 - sh.1)) (rw1 hm0) (rw2 hm0 (by decide)) ?_
    refine j_dup (pc := 61) C dX0_demand_61 rfl ?_
    refine j_aload_n (pc := 62) C dX0_demand_62 rfl rfl ?_
    refine j_iload_n (pc := 63) C dX0_demand_63 rfl rfl ?_
    refine j_iload_n (pc := 64) C dX0_demand_64 rfl rfl ?_
    replace hk := bd2_some hk
    obtain ⟨S65, I65, h21, hk⟩ := hk
    replace hk := og_some hk
    obtain ⟨h22, hk⟩ := hk
    replace hk := omn3_some hk
    obtain ⟨h23, hk⟩ := hk
    have h24 : sh.1 ≤ S65.1 := Nat.le_trans h20 h22
    refine x_callI (pc := 65) C (ct_X13_init h21) mi_X13_init q606 dX0_demand_65 rfl rfl (Nat.le_of_ble_eq_true rfl) (rmOK.i (Nat.le_of_ble_eq_true rfl) (Nat.le_of_ble_eq_true rfl) (rm1 h20 h22 h23) (rm2 h20 h22 h23)) ?_
    refine j_kn (k' := S65.1 - sh.1) (n' := 200 * (S65.1 - sh.1)) (rk1 h20 h22) (rk2 h20 h22) ?_
    obtain rfl := Option.some.inj hk
    exact x_aret (pc := 68) C dX0_demand_68 (Nat.le_refl _) (Nat.le_refl _) rfl
  replace hk := it_f h17 hk
  by_cases h25 : x0 = nI 4
  · replace hk := it_t h25 hk
    refine j_tableIn (pc := 1) 69 4 C dX0_demand_1 (sw_in h25 (by decide)) (by decide) (by decide) rfl (by decide) ?_
    replace hk := onw_some hk
    obtain ⟨h26, hk⟩ := hk
    replace hk := omn3_some hk
    obtain ⟨h27, hk⟩ := hk
    have h27 : sh.1 + 1 ≤ Z.2.1.1 := h27
    refine x_new (pc := 69) (c2 := 15) C rfl (born_15) q616 q617 q112 h26 (ra1 hm0 h27) (ra2 hm0 h27 (by decide)) dX0_demand_69 ?_
    have h28 : sh.1 ≤ sh.1 + 1 := Nat.le_succ_of_le hm0
    refine j_wid (k' := (newS sh 15 0).1 - sh.1) (n' := 200 * ((newS sh 15 0).1 - sh.1)) (rw1 hm0) (rw2 hm0 (by decide)) ?_
    refine j_dup (pc := 72) C dX0_demand_72 rfl ?_
    refine j_aload_n (pc := 73) C dX0_demand_73 rfl rfl ?_
    refine j_iload_n (pc := 74) C dX0_demand_74 rfl rfl ?_
    refine j_iload_n (pc := 75) C dX0_demand_75 rfl rfl ?_
    replace hk := bd2_some hk
    obtain ⟨S76, I76, h29, hk⟩ := hk
    replace hk := og_some hk
    obtain ⟨h30, hk⟩ := hk
    replace hk := omn3_some hk
    obtain ⟨h31, hk⟩ := hk
    have h32 : sh.1 ≤ S76.1 := Nat.le_trans h28 h30
    refine x_callI (pc := 76) C (ct_X14_init h29) mi_X14_init q618 dX0_demand_76 rfl rfl (Nat.le_of_ble_eq_true rfl) (rmOK.i (Nat.le_of_ble_eq_true rfl) (Nat.le_of_ble_eq_true rfl) (rm1 h28 h30 h31) (rm2 h28 h30 h31)) ?_
    refine j_kn (k' := S76.1 - sh.1) (n' := 200 * (S76.1 - sh.1)) (rk1 h28 h30) (rk2 h28 h30) ?_
    obtain rfl := Option.some.inj hk
    exact x_aret (pc := 79) C dX0_demand_79 (Nat.le_refl _) (Nat.le_refl _) rfl
  replace hk := it_f h25 hk
  by_cases h33 : x0 = nI 5
  · replace hk := it_t h33 hk
    refine j_tableIn (pc := 1) 80 5 C dX0_demand_1 (sw_in h33 (by decide)) (by decide) (by decide) rfl (by decide) ?_
    replace hk := onw_some hk
    obtain ⟨h34, hk⟩ := hk
    replace hk := omn3_some hk
    obtain ⟨h35, hk⟩ := hk
    have h35 : sh.1 + 1 ≤ Z.2.1.1 := h35
    refine x_new (pc := 80) (c2 := 16) C rfl (born_16) q628 q629 q113 h34 (ra1 hm0 h35) (ra2 hm0 h35 (by decide)) dX0_demand_80 ?_
    have h36 : sh.1 ≤ sh.1 + 1 := Nat.le_succ_of_le hm0
    refine j_wid (k' := (newS sh 16 0).1 - sh.1) (n' := 200 * ((newS sh 16 0).1 - sh.1)) (rw1 hm0) (rw2 hm0 (by decide)) ?_
    refine j_dup (pc := 83) C dX0_demand_83 rfl ?_
    refine j_aload_n (pc := 84) C dX0_demand_84 rfl rfl ?_
    refine j_iload_n (pc := 85) C dX0_demand_85 rfl rfl ?_
    refine j_iload_n (pc := 86) C dX0_demand_86 rfl rfl ?_
    replace hk := bd2_some hk
    obtain ⟨S87, I87, h37, hk⟩ := hk
    replace hk := og_some hk
    obtain ⟨h38, hk⟩ := hk
    replace hk := omn3_some hk
    obtain ⟨h39, hk⟩ := hk
    have h40 : sh.1 ≤ S87.1 := Nat.le_trans h36 h38
    refine x_callI (pc := 87) C (ct_X15_init h37) mi_X15_init q630 dX0_demand_87 rfl rfl (Nat.le_of_ble_eq_true rfl) (rmOK.i (Nat.le_of_ble_eq_true rfl) (Nat.le_of_ble_eq_true rfl) (rm1 h36 h38 h39) (rm2 h36 h38 h39)) ?_
    refine j_kn (k' := S87.1 - sh.1) (n' := 200 * (S87.1 - sh.1)) (rk1 h36 h38) (rk2 h36 h38) ?_
    obtain rfl := Option.some.inj hk
    exact x_aret (pc := 90) C dX0_demand_90 (Nat.le_refl _) (Nat.le_refl _) rfl
  replace hk := it_f h33 hk
  refine j_tableOut (pc := 1) 91 C dX0_demand_1 (sw_out (lo := 1) (hi := 5) (by decide) (fun j a1 a2 => by
    have a3 : j = 1 ∨ j = 2 ∨ j = 3 ∨ j = 4 ∨ j = 5 := by omega
    rcases a3 with rfl | rfl | rfl | rfl | rfl
    · exact h1
    · exact h9
    · exact h17
    · exact h25
    · exact h33)) (by decide) ?_
  replace hk := onw_some hk
  obtain ⟨h41, hk⟩ := hk
  replace hk := omn3_some hk
  obtain ⟨h42, hk⟩ := hk
  have h42 : sh.1 + 1 ≤ Z.2.1.1 := h42
  refine x_new (pc := 91) (c2 := 11) C rfl (born_11) q640 q641 q108 h41 (ra1 hm0 h42) (ra2 hm0 h42 (by decide)) dX0_demand_91 ?_
  have h43 : sh.1 ≤ sh.1 + 1 := Nat.le_succ_of_le hm0
  refine j_wid (k' := (newS sh 11 0).1 - sh.1) (n' := 200 * ((newS sh 11 0).1 - sh.1)) (rw1 hm0) (rw2 hm0 (by decide)) ?_
  refine j_dup (pc := 94) C dX0_demand_94 rfl ?_
  refine j_aload_n (pc := 95) C dX0_demand_95 rfl rfl ?_
  refine j_iload_n (pc := 96) C dX0_demand_96 rfl rfl ?_
  refine j_iload_n (pc := 97) C dX0_demand_97 rfl rfl ?_
  replace hk := bd2_some hk
  obtain ⟨S98, I98, h44, hk⟩ := hk
  replace hk := og_some hk
  obtain ⟨h45, hk⟩ := hk
  replace hk := omn3_some hk
  obtain ⟨h46, hk⟩ := hk
  have h47 : sh.1 ≤ S98.1 := Nat.le_trans h43 h45
  refine x_callI (pc := 98) C (ct_X10_init h44) mi_X10_init q642 dX0_demand_98 rfl rfl (Nat.le_of_ble_eq_true rfl) (rmOK.i (Nat.le_of_ble_eq_true rfl) (Nat.le_of_ble_eq_true rfl) (rm1 h43 h45 h46) (rm2 h43 h45 h46)) ?_
  refine j_kn (k' := S98.1 - sh.1) (n' := 200 * (S98.1 - sh.1)) (rk1 h43 h45) (rk2 h43 h45) ?_
  obtain rfl := Option.some.inj hk
  exact x_aret (pc := 101) C dX0_demand_101 (Nat.le_refl _) (Nat.le_refl _) rfl
def f_X0_law_J101 (F : Nat) (s0 : Nat) (S : SH) (I : II) : Option (Int32 × SH × II) := ock S s0 19 <| some (((-10) - (I s0 6)), S, I)
def f_X0_law_J110 (F : Nat) (s0 : Nat) (S : SH) (I : II) : Option (Int32 × SH × II) := ost S <| bd2 (f_X0_finds S s0 I) fun r113 I113 => some (r113, S, I113)
def f_X0_law_J50 (F : Nat) (x1 : Int32) (x2 : Int32) (s1 : Int32) (S : SH) (I : II) : Option (Int32 × SH × II) := ost S <| bd2 (f_X0_need S s1 (nI 4) I) fun u51 I51 => oex u51 (fun _w51 => orf (S.2.2 0 1) fun t55 => ock S t55 2 <| orf (S.2.2 t55 1) fun t58 => orf (S.2.2 0 1) fun t68 => ock S t68 2 <| orf (S.2.2 t68 1) fun t71 => ock S t71 3 <| (f_J5_size S t71 I51).bind fun r74 => bd3 (f_X0_demand S x1 7 r74 x2 I51) fun a78 S78 I78 => og (S.1 ≤ S78.1) <| omn3 S78 <| ost S78 <| bd3 (f_X0_read F S78 a78 I78) fun u81 S81 I81 => og (S78.1 ≤ S81.1) <| omn3 S81 <| oex u81 (fun a81 => ock S81 t58 3 <| bd3 (f_J5_add S81 t58 a81 I81) fun r84 S84 I84 => og (S81.1 ≤ S84.1) <| omn3 S84 <| ost S84 <| orf (S84.2.2 0 1) fun t89 => ock S84 t89 2 <| orf (S84.2.2 t89 1) fun t92 => ock S84 t92 3 <| (f_J5_size S84 t92 I84).bind fun r95 => some ((r95 - (nI 1)), S84, I84)) (fun w81 => if (S81.2.1 w81).1 = 19 then (ock S81 w81 19 <| f_X0_law_J101 F w81 S81 I81) else (ock S81 w81 1 <| f_X0_law_J110 F w81 S81 I81))) (fun w51 => if (S.2.1 w51).1 = 19 then (ock S w51 19 <| f_X0_law_J101 F w51 S I51) else (ock S w51 1 <| f_X0_law_J110 F w51 S I51))
def f_X0_law_J25 (F : Nat) (x1 : Int32) (x2 : Int32) (s1 : Int32) (S : SH) (I : II) : Option (Int32 × SH × II) := ost S <| bd2 (f_X0_need S s1 (nI 1) I) fun u26 I26 => oex u26 (fun _w26 => orf (S.2.2 0 1) fun t31 => ock S t31 2 <| orf (S.2.2 t31 1) fun t34 => ock S t34 3 <| (f_J5_size S t34 I26).bind fun r37 => if (nI 8) ≤ r37 then f_X0_law_J50 F x1 x2 (nI 0) S I26 else f_X0_law_J50 F x1 x2 (nI 1) S I26) (fun w26 => if (S.2.1 w26).1 = 19 then (ock S w26 19 <| f_X0_law_J101 F w26 S I26) else (ock S w26 1 <| f_X0_law_J110 F w26 S I26))
def f_X0_law_J24 (F : Nat) (x1 : Int32) (x2 : Int32) (S : SH) (I : II) : Option (Int32 × SH × II) := f_X0_law_J25 F x1 x2 (nI 0) S I
def f_X0_law (F : Nat) (sh : SH) (x1 : Int32) (x2 : Int32) (I : II) : Option (Int32 × SH × II) := omn3 sh <| (f_X0_in x1 (nI 0) (nI 5)).bind fun r4 => if r4 = 0 then f_X0_law_J24 F x1 x2 sh I else (f_X0_in x2 (nI 0) (nI 99)).bind fun r14 => if r14 = 0 then f_X0_law_J24 F x1 x2 sh I else f_X0_law_J25 F x1 x2 (nI 1) sh I
abbrev rmf_X0_law : Nat := 124
abbrev rml_X0_law : Nat := 2931
theorem mv_X0_law_ok : callOK yX0_law 2 := by decide +kernel
theorem mw_X0_law : MW yX0_law cX0_law 4 (some .int) [(0, 100, 101, 211), (0, 100, 110, 8)] 2 := ⟨q510, q511, q91, q512, mv_X0_law_ok⟩
set_option maxHeartbeats 4000000 in
theorem ct_X0_law {G : WG} {l : Launch} {sh : SH} {I : II} {F : Nat} {x1 : Int32} {x2 : Int32} {Z : (Int32 × SH × II)} (hk : f_X0_law F sh x1 x2 I = some Z) : CT G l yX0_law (wsW_ yX0_law cX0_law 4 (some .int) [(0, 100, 101, 211), (0, 100, 110, 8)]) (rmA rmf_X0_law rml_X0_law (Z.2.1.1 - sh.1)) [.ref (wad G 0), .int x1, .int x2] (sh, I) (.returned (some (.int Z.1))) Z.2 := by
  refine CT.ofJW "NineDemands" rfl (by decide) (Nat.le_of_ble_eq_true rfl) ?_
  intro p e s m args below meth c C
  unfold f_X0_law at hk
  refine j_lv (lv' := [some (.ref (wad G 0)), some (.int x1), some (.int x2), none]) rfl ?_
  replace hk := omn3_some hk
  obtain ⟨hz0, hk⟩ := hk
  have hm0 : sh.1 ≤ sh.1 := Nat.le_refl _
  refine j_kn (k' := sh.1 - sh.1) (n' := 200 * (sh.1 - sh.1)) (Nat.sub_self _).symm (rb2 _) ?_
  refine j_aload_n (pc := 0) C dX0_law_0 rfl rfl ?_
  refine j_iload_n (pc := 1) C dX0_law_1 rfl rfl ?_
  refine j_iconst (pc := 2) (v := nI 0) C dX0_law_2 (by decide) ?_
  refine j_iconst (pc := 3) (v := nI 5) C dX0_law_3 (by decide) ?_
  replace hk := ob_some hk
  obtain ⟨r4, h1, hk⟩ := hk
  refine j_callS (pc := 4) C (ct_X0_in h1) ms_X0_in q413 dX0_law_4 rfl rfl (Nat.le_of_ble_eq_true rfl) (rmOK.i (Nat.le_of_ble_eq_true rfl) (Nat.le_of_ble_eq_true rfl) (rz1 hm0 hz0) (rz2 hm0 hz0)) ?_
  have Jn25 : ∀ (x1 : Int32) (x2 : Int32) (s1 : Int32) (S : SH) (I : II), sh.1 ≤ S.1 → S.1 ≤ Z.2.1.1 → f_X0_law_J25 F x1 x2 s1 S I = some Z → J G p l e (rmA rmf_X0_law rml_X0_law (Z.2.1.1 - sh.1)) s m args below meth c 4 (.returned (some (.int Z.1))) Z.2 ((rmA rmf_X0_law rml_X0_law (Z.2.1.1 - sh.1))).cells ((rmA rmf_X0_law rml_X0_law (Z.2.1.1 - sh.1))).slots (S, I) ((S).1 - sh.1) (200 * ((S).1 - sh.1)) 25 [some (.ref (wad G 0)), some (.int x1), some (.int x2), none] [.int s1, .ref (wad G 0)] := by
    intro x1 x2 s1 S I hm hz hk
    unfold f_X0_law_J25 at hk
    refine j_iconst (pc := 25) (v := nI 1) C dX0_law_25 (by decide) ?_
    have Jn101 : ∀ (s0 : Nat) (S : SH) (I : II), sh.1 ≤ S.1 → S.1 ≤ Z.2.1.1 → f_X0_law_J101 F s0 S I = some Z → J G p l e (rmA rmf_X0_law rml_X0_law (Z.2.1.1 - sh.1)) s m args below meth c 4 (.returned (some (.int Z.1))) Z.2 ((rmA rmf_X0_law rml_X0_law (Z.2.1.1 - sh.1))).cells ((rmA rmf_X0_law rml_X0_law (Z.2.1.1 - sh.1))).slots (S, I) ((S).1 - sh.1) (200 * ((S).1 - sh.1)) 101 [none, none, none, none] [.ref (wad G s0)] := by
      intro s0 S I hm hz hk
      unfold f_X0_law_J101 at hk
      refine j_astore_n (pc := 101) C dX0_law_101 rfl (Nat.le_of_ble_eq_true rfl) rfl ?_
      refine j_bipush (pc := 102) (v := (-10)) C dX0_law_102 (by decide) ?_
      refine j_aload_n (pc := 104) C dX0_law_104 rfl rfl ?_
      replace hk := ock_some hk
      obtain ⟨h2, hk⟩ := hk
      refine x_getI (pc := 105) C fd_19_6 (fl3 C q1055) h2 dX0_law_105 ?_
      refine j_isub (pc := 108) C dX0_law_108 ?_
      obtain rfl := Option.some.inj hk
      exact j_iret (pc := 109) C dX0_law_109 (Nat.le_refl _) (Nat.le_refl _)
    have Jn110 : ∀ (s0 : Nat) (S : SH) (I : II), sh.1 ≤ S.1 → S.1 ≤ Z.2.1.1 → f_X0_law_J110 F s0 S I = some Z → J G p l e (rmA rmf_X0_law rml_X0_law (Z.2.1.1 - sh.1)) s m args below meth c 4 (.returned (some (.int Z.1))) Z.2 ((rmA rmf_X0_law rml_X0_law (Z.2.1.1 - sh.1))).cells ((rmA rmf_X0_law rml_X0_law (Z.2.1.1 - sh.1))).slots (S, I) ((S).1 - sh.1) (200 * ((S).1 - sh.1)) 110 [some (.ref (wad G 0)), none, none, none] [.ref (wad G s0)] := by
      intro s0 S I hm hz hk
      unfold f_X0_law_J110 at hk
      refine j_astore_n (pc := 110) C dX0_law_110 rfl (Nat.le_of_ble_eq_true rfl) rfl ?_
      refine j_aload_n (pc := 111) C dX0_law_111 rfl rfl ?_
      refine j_aload_n (pc := 112) C dX0_law_112 rfl rfl ?_
      replace hk := ost_some hk
      obtain ⟨h3, hk⟩ := hk
      replace hk := bd2_some hk
      obtain ⟨r113, I113, h4, hk⟩ := hk
      refine x_callV (pc := 113) C (ct_X0_finds h3 h4) mv_X0_finds (stN_o0 h3).r rfl rfl q433 dX0_law_113 rfl rfl (Nat.le_of_ble_eq_true rfl) (rmOK.i (Nat.le_of_ble_eq_true rfl) (Nat.le_of_ble_eq_true rfl) (rz1 hm hz) (rz2 hm hz)) ?_
      obtain rfl := Option.some.inj hk
      exact j_iret (pc := 116) C dX0_law_116 (Nat.le_refl _) (Nat.le_refl _)
    replace hk := ost_some hk
    obtain ⟨h5, hk⟩ := hk
    replace hk := bd2_some hk
    obtain ⟨u26, I26, h6, hk⟩ := hk
    cases u26 with
    | inr w26 =>
      replace hk := oex_r hk
      by_cases h7 : (S.2.1 w26).1 = 19
      · replace hk := it_t h7 hk
        replace hk := ock_some hk
        obtain ⟨h8, hk⟩ := hk
        refine x_callVC [] [(0, 100, 110, 8)] (0, 100, 101, 211) (pc := 26) C (ct_X0_need h5 h6) mv_X0_need (stN_o0 h5).r rfl rfl q416 dX0_law_26 rfl rfl (Nat.le_of_ble_eq_true rfl) (rmOK.i (Nat.le_of_ble_eq_true rfl) (Nat.le_of_ble_eq_true rfl) (rz1 hm hz) (rz2 hm hz)) rfl h8 rfl (by decide) (by decide) q513 (fun z hz => by cases hz) ?_
        exact j_mask [false, false, false, false] (Jn101 _ _ _ hm hz hk)
      replace hk := it_f h7 hk
      replace hk := ock_some hk
      obtain ⟨h10, hk⟩ := hk
      refine x_callVC [(0, 100, 101, 211)] [] (0, 100, 110, 8) (pc := 26) C (ct_X0_need h5 h6) mv_X0_need (stN_o0 h5).r rfl rfl q416 dX0_law_26 rfl rfl (Nat.le_of_ble_eq_true rfl) (rmOK.i (Nat.le_of_ble_eq_true rfl) (Nat.le_of_ble_eq_true rfl) (rz1 hm hz) (rz2 hm hz)) rfl h10 rfl (by decide) (by decide) q146 (fun z hz => by rw [List.mem_singleton.mp hz]; exact Or.inr ⟨by decide, _, q513, ke_nc C⟩) ?_
      exact j_mask [true, false, false, false] (Jn110 _ _ _ hm hz hk)
    | inl _w26 =>
      replace hk := oex_l hk
      refine x_callV (pc := 26) C (ct_X0_need h5 h6) mv_X0_need (stN_o0 h5).r rfl rfl q416 dX0_law_26 rfl rfl (Nat.le_of_ble_eq_true rfl) (rmOK.i (Nat.le_of_ble_eq_true rfl) (Nat.le_of_ble_eq_true rfl) (rz1 hm hz) (rz2 hm hz)) ?_
      refine j_aload_n (pc := 29) C dX0_law_29 rfl rfl ?_
      refine j_aload_n (pc := 30) C dX0_law_30 rfl rfl ?_
      replace hk := orf_some hk
      obtain ⟨t31, et31, hk⟩ := hk
      refine x_getR (pc := 31) C fd_0_1 (fl1 C q373) (stN_o0 h5).r et31 dX0_law_31 ?_
      replace hk := ock_some hk
      obtain ⟨h11, hk⟩ := hk
      replace hk := orf_some hk
      obtain ⟨t34, et34, hk⟩ := hk
      refine x_getR (pc := 34) C fd_2_1 (fl3 C q251) h11 et34 dX0_law_34 ?_
      replace hk := ock_some hk
      obtain ⟨h12, hk⟩ := hk
      replace hk := ob_some hk
      obtain ⟨r37, h13, hk⟩ := hk
      refine x_callV (pc := 37) C (ct_J5_size h13) mv_J5_size h12 rfl rfl q514 dX0_law_37 rfl rfl (Nat.le_of_ble_eq_true rfl) (rmOK.i (Nat.le_of_ble_eq_true rfl) (Nat.le_of_ble_eq_true rfl) (rz1 hm hz) (rz2 hm hz)) ?_
      refine j_bipush (pc := 40) (v := nI 8) C dX0_law_40 (by decide) ?_
      have Jn50 : ∀ (x1 : Int32) (x2 : Int32) (s1 : Int32) (S : SH) (I : II), sh.1 ≤ S.1 → S.1 ≤ Z.2.1.1 → f_X0_law_J50 F x1 x2 s1 S I = some Z → J G p l e (rmA rmf_X0_law rml_X0_law (Z.2.1.1 - sh.1)) s m args below meth c 4 (.returned (some (.int Z.1))) Z.2 ((rmA rmf_X0_law rml_X0_law (Z.2.1.1 - sh.1))).cells ((rmA rmf_X0_law rml_X0_law (Z.2.1.1 - sh.1))).slots (S, I) ((S).1 - sh.1) (200 * ((S).1 - sh.1)) 50 [some (.ref (wad G 0)), some (.int x1), some (.int x2), none] [.int s1, .ref (wad G 0)] := by
        intro x1 x2 s1 S I hm hz hk
        unfold f_X0_law_J50 at hk
        refine j_iconst (pc := 50) (v := nI 4) C dX0_law_50 (by decide) ?_
        replace hk := ost_some hk
        obtain ⟨h14, hk⟩ := hk
        replace hk := bd2_some hk
        obtain ⟨u51, I51, h15, hk⟩ := hk
        cases u51 with
        | inr w51 =>
          replace hk := oex_r hk
          by_cases h16 : (S.2.1 w51).1 = 19
          · replace hk := it_t h16 hk
            replace hk := ock_some hk
            obtain ⟨h17, hk⟩ := hk
            refine x_callVC [] [(0, 100, 110, 8)] (0, 100, 101, 211) (pc := 51) C (ct_X0_need h14 h15) mv_X0_need (stN_o0 h14).r rfl rfl q416 dX0_law_51 rfl rfl (Nat.le_of_ble_eq_true rfl) (rmOK.i (Nat.le_of_ble_eq_true rfl) (Nat.le_of_ble_eq_true rfl) (rz1 hm hz) (rz2 hm hz)) rfl h17 rfl (by decide) (by decide) q513 (fun z hz => by cases hz) ?_
            exact j_mask [false, false, false, false] (Jn101 _ _ _ hm hz hk)
          replace hk := it_f h16 hk
          replace hk := ock_some hk
          obtain ⟨h19, hk⟩ := hk
          refine x_callVC [(0, 100, 101, 211)] [] (0, 100, 110, 8) (pc := 51) C (ct_X0_need h14 h15) mv_X0_need (stN_o0 h14).r rfl rfl q416 dX0_law_51 rfl rfl (Nat.le_of_ble_eq_true rfl) (rmOK.i (Nat.le_of_ble_eq_true rfl) (Nat.le_of_ble_eq_true rfl) (rz1 hm hz) (rz2 hm hz)) rfl h19 rfl (by decide) (by decide) q146 (fun z hz => by rw [List.mem_singleton.mp hz]; exact Or.inr ⟨by decide, _, q513, ke_nc C⟩) ?_
          exact j_mask [true, false, false, false] (Jn110 _ _ _ hm hz hk)
        | inl _w51 =>
          replace hk := oex_l hk
          refine x_callV (pc := 51) C (ct_X0_need h14 h15) mv_X0_need (stN_o0 h14).r rfl rfl q416 dX0_law_51 rfl rfl (Nat.le_of_ble_eq_true rfl) (rmOK.i (Nat.le_of_ble_eq_true rfl) (Nat.le_of_ble_eq_true rfl) (rz1 hm hz) (rz2 hm hz)) ?_
          refine j_aload_n (pc := 54) C dX0_law_54 rfl rfl ?_
          replace hk := orf_some hk
          obtain ⟨t55, et55, hk⟩ := hk
          refine x_getR (pc := 55) C fd_0_1 (fl1 C q373) (stN_o0 h14).r et55 dX0_law_55 ?_
          replace hk := ock_some hk
          obtain ⟨h20, hk⟩ := hk
          replace hk := orf_some hk
          obtain ⟨t58, et58, hk⟩ := hk
          refine x_getR (pc := 58) C fd_2_1 (fl3 C q251) h20 et58 dX0_law_58 ?_
          refine j_aload_n (pc := 61) C dX0_law_61 rfl rfl ?_
          refine j_iload_n (pc := 62) C dX0_law_62 rfl rfl ?_
          refine j_aload_n (pc := 63) C dX0_law_63 rfl rfl ?_
          refine x_getR (pc := 64) C fd_0_4 (fl1 C q376) (stN_o0 h14).r (stN_r0_4 h14) dX0_law_64 ?_
          refine j_aload_n (pc := 67) C dX0_law_67 rfl rfl ?_
          replace hk := orf_some hk
          obtain ⟨t68, et68, hk⟩ := hk
          refine x_getR (pc := 68) C fd_0_1 (fl1 C q373) (stN_o0 h14).r et68 dX0_law_68 ?_
          replace hk := ock_some hk
          obtain ⟨h21, hk⟩ := hk
          replace hk := orf_some hk
          obtain ⟨t71, et71, hk⟩ := hk
          refine x_getR (pc := 71) C fd_2_1 (fl3 C q251) h21 et71 dX0_law_71 ?_
          replace hk := ock_some hk
          obtain ⟨h22, hk⟩ := hk
          replace hk := ob_some hk
          obtain ⟨r74, h23, hk⟩ := hk
          refine x_callV (pc := 74) C (ct_J5_size h23) mv_J5_size h22 rfl rfl q514 dX0_law_74 rfl rfl (Nat.le_of_ble_eq_true rfl) (rmOK.i (Nat.le_of_ble_eq_true rfl) (Nat.le_of_ble_eq_true rfl) (rz1 hm hz) (rz2 hm hz)) ?_
          refine j_iload_n (pc := 77) C dX0_law_77 rfl rfl ?_
          replace hk := bd3_some hk
          obtain ⟨a78, S78, I78, h24, hk⟩ := hk
          replace hk := og_some hk
          obtain ⟨h25, hk⟩ := hk
          replace hk := omn3_some hk
          obtain ⟨h26, hk⟩ := hk
          have h27 : sh.1 ≤ S78.1 := Nat.le_trans hm h25
          refine j_callS (pc := 78) C (ct_X0_demand h24) ms_X0_demand q518 dX0_law_78 rfl rfl (Nat.le_of_ble_eq_true rfl) (rmOK.i (Nat.le_of_ble_eq_true rfl) (Nat.le_of_ble_eq_true rfl) (rm1 hm h25 h26) (rm2 hm h25 h26)) ?_
          refine j_kn (k' := S78.1 - sh.1) (n' := 200 * (S78.1 - sh.1)) (rk1 hm h25) (rk2 hm h25) ?_
          refine j_stk (st' := [.ref (wad G a78), .ref (wad G 0), .ref (wad G t58)]) rfl ?_
          replace hk := ost_some hk
          obtain ⟨h28, hk⟩ := hk
          replace hk := bd3_some hk
          obtain ⟨u81, S81, I81, h29, hk⟩ := hk
          replace hk := og_some hk
          obtain ⟨h30, hk⟩ := hk
          replace hk := omn3_some hk
          obtain ⟨h31, hk⟩ := hk
          have h32 : sh.1 ≤ S81.1 := Nat.le_trans h27 h30
          cases u81 with
          | inr w81 =>
            replace hk := oex_r hk
            by_cases h33 : (S81.2.1 w81).1 = 19
            · replace hk := it_t h33 hk
              replace hk := ock_some hk
              obtain ⟨h34, hk⟩ := hk
              refine x_callVC [] [(0, 100, 110, 8)] (0, 100, 101, 211) (pc := 81) C (ct_X0_read h29) mv_X0_read (stN_o0 h28).r rfl rfl q649 dX0_law_81 rfl rfl (Nat.le_of_ble_eq_true rfl) (rmOK.i (Nat.le_of_ble_eq_true rfl) (Nat.le_of_ble_eq_true rfl) (rm1 h27 h30 h31) (rm2 h27 h30 h31)) rfl h34 rfl (by decide) (by decide) q513 (fun z hz => by cases hz) ?_
              refine j_kn (k' := S81.1 - sh.1) (n' := 200 * (S81.1 - sh.1)) (rk1 h27 h30) (rk2 h27 h30) ?_
              exact j_mask [false, false, false, false] (Jn101 _ _ _ h32 h31 hk)
            replace hk := it_f h33 hk
            replace hk := ock_some hk
            obtain ⟨h36, hk⟩ := hk
            refine x_callVC [(0, 100, 101, 211)] [] (0, 100, 110, 8) (pc := 81) C (ct_X0_read h29) mv_X0_read (stN_o0 h28).r rfl rfl q649 dX0_law_81 rfl rfl (Nat.le_of_ble_eq_true rfl) (rmOK.i (Nat.le_of_ble_eq_true rfl) (Nat.le_of_ble_eq_true rfl) (rm1 h27 h30 h31) (rm2 h27 h30 h31)) rfl h36 rfl (by decide) (by decide) q146 (fun z hz => by rw [List.mem_singleton.mp hz]; exact Or.inr ⟨by decide, _, q513, ke_nc C⟩) ?_
            refine j_kn (k' := S81.1 - sh.1) (n' := 200 * (S81.1 - sh.1)) (rk1 h27 h30) (rk2 h27 h30) ?_
            exact j_mask [true, false, false, false] (Jn110 _ _ _ h32 h31 hk)
          | inl a81 =>
            replace hk := oex_l hk
            refine x_callV (pc := 81) C (ct_X0_read h29) mv_X0_read (stN_o0 h28).r rfl rfl q649 dX0_law_81 rfl rfl (Nat.le_of_ble_eq_true rfl) (rmOK.i (Nat.le_of_ble_eq_true rfl) (Nat.le_of_ble_eq_true rfl) (rm1 h27 h30 h31) (rm2 h27 h30 h31)) ?_
            refine j_kn (k' := S81.1 - sh.1) (n' := 200 * (S81.1 - sh.1)) (rk1 h27 h30) (rk2 h27 h30) ?_
            refine j_stk (st' := [.ref (wad G a81), .ref (wad G t58)]) rfl ?_
            replace hk := ock_some hk
            obtain ⟨h37, hk⟩ := hk
            replace hk := bd3_some hk
            obtain ⟨r84, S84, I84, h38, hk⟩ := hk
            replace hk := og_some hk
            obtain ⟨h39, hk⟩ := hk
            replace hk := omn3_some hk
            obtain ⟨h40, hk⟩ := hk
            have h41 : sh.1 ≤ S84.1 := Nat.le_trans h32 h39
            refine x_callV (pc := 84) C (ct_J5_add h38) mv_J5_add h37 rfl rfl q1260 dX0_law_84 rfl rfl (Nat.le_of_ble_eq_true rfl) (rmOK.i (Nat.le_of_ble_eq_true rfl) (Nat.le_of_ble_eq_true rfl) (rm1 h32 h39 h40) (rm2 h32 h39 h40)) ?_
            refine j_kn (k' := S84.1 - sh.1) (n' := 200 * (S84.1 - sh.1)) (rk1 h32 h39) (rk2 h32 h39) ?_
            refine j_pop (pc := 87) C dX0_law_87 rfl ?_
            refine j_aload_n (pc := 88) C dX0_law_88 rfl rfl ?_
            replace hk := ost_some hk
            obtain ⟨h42, hk⟩ := hk
            replace hk := orf_some hk
            obtain ⟨t89, et89, hk⟩ := hk
            refine x_getR (pc := 89) C fd_0_1 (fl1 C q373) (stN_o0 h42).r et89 dX0_law_89 ?_
            replace hk := ock_some hk
            obtain ⟨h43, hk⟩ := hk
            replace hk := orf_some hk
            obtain ⟨t92, et92, hk⟩ := hk
            refine x_getR (pc := 92) C fd_2_1 (fl3 C q251) h43 et92 dX0_law_92 ?_
            replace hk := ock_some hk
            obtain ⟨h44, hk⟩ := hk
            replace hk := ob_some hk
            obtain ⟨r95, h45, hk⟩ := hk
            refine x_callV (pc := 95) C (ct_J5_size h45) mv_J5_size h44 rfl rfl q514 dX0_law_95 rfl rfl (Nat.le_of_ble_eq_true rfl) (rmOK.i (Nat.le_of_ble_eq_true rfl) (Nat.le_of_ble_eq_true rfl) (rz1 h41 h40) (rz2 h41 h40)) ?_
            refine j_iconst (pc := 98) (v := nI 1) C dX0_law_98 (by decide) ?_
            refine j_isub (pc := 99) C dX0_law_99 ?_
            obtain rfl := Option.some.inj hk
            exact j_iret (pc := 100) C dX0_law_100 (Nat.le_refl _) (Nat.le_refl _)
      refine j_icmp_ge (pc := 42) 49 C dX0_law_42 (by decide) (fun h46 => ?_) (fun h46 => ?_)
      · replace hk := it_t h46 hk
        refine j_iconst (pc := 49) (v := nI 0) C dX0_law_49 (by decide) ?_
        exact j_mask [true, true, true, false] (Jn50 _ _ _ _ _ hm hz hk)
      · replace hk := it_f h46 hk
        refine j_iconst (pc := 45) (v := nI 1) C dX0_law_45 (by decide) ?_
        refine j_goto (pc := 46) 50 C dX0_law_46 (by decide) ?_
        exact j_mask [true, true, true, false] (Jn50 _ _ _ _ _ hm hz hk)
  have Jn24 : ∀ (x1 : Int32) (x2 : Int32) (S : SH) (I : II), sh.1 ≤ S.1 → S.1 ≤ Z.2.1.1 → f_X0_law_J24 F x1 x2 S I = some Z → J G p l e (rmA rmf_X0_law rml_X0_law (Z.2.1.1 - sh.1)) s m args below meth c 4 (.returned (some (.int Z.1))) Z.2 ((rmA rmf_X0_law rml_X0_law (Z.2.1.1 - sh.1))).cells ((rmA rmf_X0_law rml_X0_law (Z.2.1.1 - sh.1))).slots (S, I) ((S).1 - sh.1) (200 * ((S).1 - sh.1)) 24 [some (.ref (wad G 0)), some (.int x1), some (.int x2), none] [.ref (wad G 0)] := by
    intro x1 x2 S I hm hz hk
    unfold f_X0_law_J24 at hk
    refine j_iconst (pc := 24) (v := nI 0) C dX0_law_24 (by decide) ?_
    exact j_mask [true, true, true, false] (Jn25 _ _ _ _ _ hm hz hk)
  refine j_if_eq (pc := 7) 24 C dX0_law_7 (by decide) (fun h47 => ?_) (fun h47 => ?_)
  · replace hk := it_t h47 hk
    exact j_mask [true, true, true, false] (Jn24 _ _ _ _ hm0 hz0 hk)
  · replace hk := it_f h47 hk
    refine j_iload_n (pc := 10) C dX0_law_10 rfl rfl ?_
    refine j_iconst (pc := 11) (v := nI 0) C dX0_law_11 (by decide) ?_
    refine j_bipush (pc := 12) (v := nI 99) C dX0_law_12 (by decide) ?_
    replace hk := ob_some hk
    obtain ⟨r14, h48, hk⟩ := hk
    refine j_callS (pc := 14) C (ct_X0_in h48) ms_X0_in q413 dX0_law_14 rfl rfl (Nat.le_of_ble_eq_true rfl) (rmOK.i (Nat.le_of_ble_eq_true rfl) (Nat.le_of_ble_eq_true rfl) (rz1 hm0 hz0) (rz2 hm0 hz0)) ?_
    refine j_if_eq (pc := 17) 24 C dX0_law_17 (by decide) (fun h49 => ?_) (fun h49 => ?_)
    · replace hk := it_t h49 hk
      exact j_mask [true, true, true, false] (Jn24 _ _ _ _ hm0 hz0 hk)
    · replace hk := it_f h49 hk
      refine j_iconst (pc := 20) (v := nI 1) C dX0_law_20 (by decide) ?_
      refine j_goto (pc := 21) 25 C dX0_law_21 (by decide) ?_
      exact j_mask [true, true, true, false] (Jn25 _ _ _ _ _ hm0 hz0 hk)
def f_X0_feed_J96 (F : Nat) (sh : SH) (s0 : Nat) (I : II) : Option (Int32 × II) := bd2 (f_X0_finds sh s0 I) fun r101 I101 => some (r101, I101)
def f_X0_feed_L39 (F : Nat) (sh : SH) (x1 : Int64) (x3 : Int32) : Nat → Int32 → II → Option (Int32 × II)
  | 0, _, _ => none
  | n39 + 1, x4, I => if x3 ≤ x4 then orf (sh.2.2 0 1) fun t89 => ock sh t89 2 <| some ((I t89 3), I) else orf (sh.2.2 0 1) fun t46 => ock sh t46 2 <| orf (sh.2.2 t46 2) fun t49 => orf (sh.2.2 0 1) fun t53 => ock sh t53 2 <| oarw sh t49 101 fun nh14 => oix (I t53 3) nh14 fun i68 => orf (sh.2.2 0 1) fun t70 => ock sh t70 2 <| ockw sh t70 2 <| (f_X0_feed_L39 F sh x1 x3 n39) (x4 + (nI 1)) (up2 (up2 I t49 i68 (Int8.toInt32 (Int32.toInt8 (Int64.toInt32 (x1 >>> (Int32.toInt64 ((nI 8) * x4) &&& 63)))))) t70 3 (((up2 I t49 i68 (Int8.toInt32 (Int32.toInt8 (Int64.toInt32 (x1 >>> (Int32.toInt64 ((nI 8) * x4) &&& 63)))))) t70 3) + (nI 1)))
def f_X0_feed_J32 (F : Nat) (sh : SH) (x1 : Int64) (x3 : Int32) (s1 : Int32) (I : II) : Option (Int32 × II) := bd2 (f_X0_need sh s1 (nI 4) I) fun u33 I33 => oex u33 (fun _w33 => f_X0_feed_L39 F sh x1 x3 F (nI 0) I33) (fun w33 => ock sh w33 1 <| f_X0_feed_J96 F sh w33 I33)
def f_X0_feed (F : Nat) (sh : SH) (x1 : Int64) (x3 : Int32) (I : II) : Option (Int32 × II) := (f_X0_in x3 (nI 1) (nI 8)).bind fun r5 => bd2 (f_X0_need sh r5 (nI 1) I) fun u9 I9 => oex u9 (fun _w9 => orf (sh.2.2 0 1) fun t14 => ock sh t14 2 <| if (nI 50) < ((I9 t14 3) + x3) then f_X0_feed_J32 F sh x1 x3 (nI 0) I9 else f_X0_feed_J32 F sh x1 x3 (nI 1) I9) (fun w9 => ock sh w9 1 <| f_X0_feed_J96 F sh w9 I9)
abbrev rm_X0_feed : Room := { frames := 2, cells := 0, slots := 0, locals := 43 }
theorem mv_X0_feed_ok : callOK yX0_feed 2 := by decide +kernel
theorem mw_X0_feed : MW yX0_feed cX0_feed 5 (some .int) [(0, 95, 96, 8)] 2 := ⟨q506, q507, q91, q508, mv_X0_feed_ok⟩
set_option maxHeartbeats 4000000 in
theorem ct_X0_feed {G : WG} {l : Launch} {sh : SH} (hS : stN sh) {I : II} {F : Nat} {x1 : Int64} {x3 : Int32} {Z : (Int32 × II)} (hk : f_X0_feed F sh x1 x3 I = some Z) : CT G l yX0_feed (wsW_ yX0_feed cX0_feed 5 (some .int) [(0, 95, 96, 8)]) rm_X0_feed [.ref (wad G 0), .long x1, .int x3] (sh, I) (.returned (some (.int Z.1))) (sh, Z.2) := by
  refine CT.ofJW "NineDemands" rfl (by decide) (Nat.le_of_ble_eq_true rfl) ?_
  intro p e s m args below meth c C
  unfold f_X0_feed at hk
  refine j_lv (lv' := [some (.ref (wad G 0)), some (.long x1), none, some (.int x3), none]) rfl ?_
  refine j_aload_n (pc := 0) C dX0_feed_0 rfl rfl ?_
  refine j_iload_n (pc := 1) C dX0_feed_1 rfl rfl ?_
  refine j_iconst (pc := 2) (v := nI 1) C dX0_feed_2 (by decide) ?_
  refine j_bipush (pc := 3) (v := nI 8) C dX0_feed_3 (by decide) ?_
  replace hk := ob_some hk
  obtain ⟨r5, h1, hk⟩ := hk
  refine j_callS (pc := 5) C (ct_X0_in h1) ms_X0_in q413 dX0_feed_5 rfl rfl (Nat.le_of_ble_eq_true rfl) rfl ?_
  refine j_iconst (pc := 8) (v := nI 1) C dX0_feed_8 (by decide) ?_
  have Jn96 : ∀ (s0 : Nat) (I : II), f_X0_feed_J96 F sh s0 I = some Z → J G p l e rm_X0_feed s m args below meth c 5 (.returned (some (.int Z.1))) (sh, Z.2) (rm_X0_feed).cells (rm_X0_feed).slots (sh, I) 0 0 96 [some (.ref (wad G 0)), none, none, none, none] [.ref (wad G s0)] := by
    intro s0 I hk
    unfold f_X0_feed_J96 at hk
    refine j_astore (pc := 96) C dX0_feed_96 (Nat.le_of_ble_eq_true rfl) rfl ?_
    refine j_aload_n (pc := 98) C dX0_feed_98 rfl rfl ?_
    refine j_aload (pc := 99) C dX0_feed_99 rfl ?_
    replace hk := bd2_some hk
    obtain ⟨r101, I101, h2, hk⟩ := hk
    refine x_callV (pc := 101) C (ct_X0_finds hS h2) mv_X0_finds (stN_o0 hS).r rfl rfl q433 dX0_feed_101 rfl rfl (Nat.le_of_ble_eq_true rfl) rfl ?_
    obtain rfl := Option.some.inj hk
    exact j_iret (pc := 104) C dX0_feed_104 (Nat.le_of_ble_eq_true rfl) (Nat.le_of_ble_eq_true rfl)
  replace hk := bd2_some hk
  obtain ⟨u9, I9, h3, hk⟩ := hk
  cases u9 with
  | inr w9 =>
    replace hk := oex_r hk
    replace hk := ock_some hk
    obtain ⟨h5, hk⟩ := hk
    refine x_callVC [] [] (0, 95, 96, 8) (pc := 9) C (ct_X0_need hS h3) mv_X0_need (stN_o0 hS).r rfl rfl q416 dX0_feed_9 rfl rfl (Nat.le_of_ble_eq_true rfl) rfl rfl h5 rfl (by decide) (by decide) q146 (fun z hz => by cases hz) ?_
    exact j_mask [true, false, false, false, false] (Jn96 _ _ hk)
  | inl _w9 =>
    replace hk := oex_l hk
    refine x_callV (pc := 9) C (ct_X0_need hS h3) mv_X0_need (stN_o0 hS).r rfl rfl q416 dX0_feed_9 rfl rfl (Nat.le_of_ble_eq_true rfl) rfl ?_
    refine j_aload_n (pc := 12) C dX0_feed_12 rfl rfl ?_
    refine j_aload_n (pc := 13) C dX0_feed_13 rfl rfl ?_
    replace hk := orf_some hk
    obtain ⟨t14, et14, hk⟩ := hk
    refine x_getR (pc := 14) C fd_0_1 (fl1 C q373) (stN_o0 hS).r et14 dX0_feed_14 ?_
    replace hk := ock_some hk
    obtain ⟨h6, hk⟩ := hk
    refine x_getI (pc := 17) C fd_2_3 (fl3 C q255) h6 dX0_feed_17 ?_
    refine j_iload_n (pc := 20) C dX0_feed_20 rfl rfl ?_
    refine j_iadd (pc := 21) C dX0_feed_21 ?_
    refine j_bipush (pc := 22) (v := nI 50) C dX0_feed_22 (by decide) ?_
    have Jn32 : ∀ (x1 : Int64) (x3 : Int32) (s1 : Int32) (I : II), f_X0_feed_J32 F sh x1 x3 s1 I = some Z → J G p l e rm_X0_feed s m args below meth c 5 (.returned (some (.int Z.1))) (sh, Z.2) (rm_X0_feed).cells (rm_X0_feed).slots (sh, I) 0 0 32 [some (.ref (wad G 0)), some (.long x1), none, some (.int x3), none] [.int s1, .ref (wad G 0)] := by
      intro x1 x3 s1 I hk
      unfold f_X0_feed_J32 at hk
      refine j_iconst (pc := 32) (v := nI 4) C dX0_feed_32 (by decide) ?_
      replace hk := bd2_some hk
      obtain ⟨u33, I33, h7, hk⟩ := hk
      cases u33 with
      | inr w33 =>
        replace hk := oex_r hk
        replace hk := ock_some hk
        obtain ⟨h9, hk⟩ := hk
        refine x_callVC [] [] (0, 95, 96, 8) (pc := 33) C (ct_X0_need hS h7) mv_X0_need (stN_o0 hS).r rfl rfl q416 dX0_feed_33 rfl rfl (Nat.le_of_ble_eq_true rfl) rfl rfl h9 rfl (by decide) (by decide) q146 (fun z hz => by cases hz) ?_
        exact j_mask [true, false, false, false, false] (Jn96 _ _ hk)
      | inl _w33 =>
        replace hk := oex_l hk
        refine x_callV (pc := 33) C (ct_X0_need hS h7) mv_X0_need (stN_o0 hS).r rfl rfl q416 dX0_feed_33 rfl rfl (Nat.le_of_ble_eq_true rfl) rfl ?_
        refine j_iconst (pc := 36) (v := nI 0) C dX0_feed_36 (by decide) ?_
        refine j_istore (pc := 37) C dX0_feed_37 (Nat.le_of_ble_eq_true rfl) rfl ?_
        have L39 : ∀ (x1 : Int64) (x3 : Int32) (n39 : Nat) (x4 : Int32) (I : II), f_X0_feed_L39 F sh x1 x3 n39 x4 I = some Z → J G p l e rm_X0_feed s m args below meth c 5 (.returned (some (.int Z.1))) (sh, Z.2) (rm_X0_feed).cells (rm_X0_feed).slots (sh, I) 0 0 39 [some (.ref (wad G 0)), some (.long x1), none, some (.int x3), some (.int x4)] [] := by
          intro x1 x3 n39
          induction n39 with
          | zero => intro x4 I hk; rw [f_X0_feed_L39] at hk; cases hk
          | succ n39 ih39 =>
            intro x4 I hk
            rw [f_X0_feed_L39] at hk
            generalize f_X0_feed_L39 F sh x1 x3 n39 = k39 at ih39 hk
            refine j_iload (pc := 39) C dX0_feed_39 rfl ?_
            refine j_iload_n (pc := 41) C dX0_feed_41 rfl rfl ?_
            refine j_icmp_ge (pc := 42) 88 C dX0_feed_42 (by decide) (fun h10 => ?_) (fun h10 => ?_)
            · replace hk := it_t h10 hk
              refine j_aload_n (pc := 88) C dX0_feed_88 rfl rfl ?_
              replace hk := orf_some hk
              obtain ⟨t89, et89, hk⟩ := hk
              refine x_getR (pc := 89) C fd_0_1 (fl1 C q373) (stN_o0 hS).r et89 dX0_feed_89 ?_
              replace hk := ock_some hk
              obtain ⟨h11, hk⟩ := hk
              refine x_getI (pc := 92) C fd_2_3 (fl3 C q255) h11 dX0_feed_92 ?_
              obtain rfl := Option.some.inj hk
              exact j_iret (pc := 95) C dX0_feed_95 (Nat.le_of_ble_eq_true rfl) (Nat.le_of_ble_eq_true rfl)
            · replace hk := it_f h10 hk
              refine j_aload_n (pc := 45) C dX0_feed_45 rfl rfl ?_
              replace hk := orf_some hk
              obtain ⟨t46, et46, hk⟩ := hk
              refine x_getR (pc := 46) C fd_0_1 (fl1 C q373) (stN_o0 hS).r et46 dX0_feed_46 ?_
              replace hk := ock_some hk
              obtain ⟨h12, hk⟩ := hk
              replace hk := orf_some hk
              obtain ⟨t49, et49, hk⟩ := hk
              refine x_getR (pc := 49) C fd_2_2 (fl3 C q253) h12 et49 dX0_feed_49 ?_
              refine j_aload_n (pc := 52) C dX0_feed_52 rfl rfl ?_
              replace hk := orf_some hk
              obtain ⟨t53, et53, hk⟩ := hk
              refine x_getR (pc := 53) C fd_0_1 (fl1 C q373) (stN_o0 hS).r et53 dX0_feed_53 ?_
              replace hk := ock_some hk
              obtain ⟨h13, hk⟩ := hk
              refine x_getI (pc := 56) C fd_2_3 (fl3 C q255) h13 dX0_feed_56 ?_
              refine j_lload_n (pc := 59) C dX0_feed_59 rfl rfl ?_
              refine j_bipush (pc := 60) (v := nI 8) C dX0_feed_60 (by decide) ?_
              refine j_iload (pc := 62) C dX0_feed_62 rfl ?_
              refine j_imul (pc := 64) C dX0_feed_64 ?_
              refine j_lshr (pc := 65) C dX0_feed_65 ?_
              refine j_l2i (pc := 66) C dX0_feed_66 ?_
              refine j_i2b (pc := 67) C dX0_feed_67 ?_
              replace hk := oarw_some hk
              obtain ⟨nh14, h14, hk⟩ := hk
              replace hk := oix_ex hk
              obtain ⟨i68, e68, h15, hk⟩ := hk
              refine x_bast (pc := 68) C h14 h15 e68 (pk_nb _) dX0_feed_68 ?_
              refine j_aload_n (pc := 69) C dX0_feed_69 rfl rfl ?_
              replace hk := orf_some hk
              obtain ⟨t70, et70, hk⟩ := hk
              refine x_getR (pc := 70) C fd_0_1 (fl1 C q373) (stN_o0 hS).r et70 dX0_feed_70 ?_
              refine j_dup (pc := 73) C dX0_feed_73 rfl ?_
              replace hk := ock_some hk
              obtain ⟨h16, hk⟩ := hk
              refine x_getI (pc := 74) C fd_2_3 (fl3 C q255) h16 dX0_feed_74 ?_
              refine j_iconst (pc := 77) (v := nI 1) C dX0_feed_77 (by decide) ?_
              refine j_iadd (pc := 78) C dX0_feed_78 ?_
              replace hk := ockw_some hk
              obtain ⟨h17, hk⟩ := hk
              refine x_putI (pc := 79) C fd_2_3 (fl3 C q255) h17 rfl rfl dX0_feed_79 ?_
              refine j_iinc (pc := 82) (nI 1) C dX0_feed_82 rfl (by decide) (Nat.le_of_ble_eq_true rfl) rfl ?_
              refine j_goto (pc := 85) 39 C dX0_feed_85 (by decide) ?_
              exact j_mask [true, true, false, true, true] (ih39 _ _ hk)
        exact j_mask [true, true, false, true, true] (L39 _ _ _ _ _ hk)
    refine j_icmp_gt (pc := 24) 31 C dX0_feed_24 (by decide) (fun h18 => ?_) (fun h18 => ?_)
    · replace hk := it_t h18 hk
      refine j_iconst (pc := 31) (v := nI 0) C dX0_feed_31 (by decide) ?_
      exact j_mask [true, true, false, true, false] (Jn32 _ _ _ _ hk)
    · replace hk := it_f h18 hk
      refine j_iconst (pc := 27) (v := nI 1) C dX0_feed_27 (by decide) ?_
      refine j_goto (pc := 28) 32 C dX0_feed_28 (by decide) ?_
      exact j_mask [true, true, false, true, false] (Jn32 _ _ _ _ hk)
def f_X0_form_J69 (F : Nat) (sh : SH) (s0 : Nat) (I : II) : Option (Int32 × II) := bd2 (f_X0_finds sh s0 I) fun r72 I72 => some (r72, I72)
def f_X0_form_J45 (F : Nat) (sh : SH) (k16 : Int32 → Int32 → II → Option (Int32 × II)) (x1 : Int32) (x3 : Int32) (s0 : Int32) (s1 : Int32) (I : II) : Option (Int32 × II) := orf (sh.2.2 0 1) fun t48 => ock sh t48 2 <| orf (sh.2.2 t48 0) fun t51 => (f_X0_formed F x1 x3).bind fun r57 => oarw sh t51 100 fun nh13 => oix x3 nh13 fun i60 => k16 (s0 + s1) (x3 + (nI 1)) (up2 I t51 i60 r57)
def f_X0_form_L16 (F : Nat) (sh : SH) (x1 : Int32) : Nat → Int32 → Int32 → II → Option (Int32 × II)
  | 0, _, _, _ => none
  | n16 + 1, x2, x3, I => if (nI 12) ≤ x3 then some (x2, I) else orf (sh.2.2 0 1) fun t24 => ock sh t24 2 <| orf (sh.2.2 t24 0) fun t27 => oarw sh t27 100 fun nh8 => oix x3 nh8 fun i31 => (f_X0_formed F x1 x3).bind fun r34 => if (I t27 i31) = r34 then f_X0_form_J45 F sh (f_X0_form_L16 F sh x1 n16) x1 x3 x2 (nI 0) I else f_X0_form_J45 F sh (f_X0_form_L16 F sh x1 n16) x1 x3 x2 (nI 1) I
def f_X0_form (F : Nat) (sh : SH) (x1 : Int32) (I : II) : Option (Int32 × II) := (f_X0_in x1 (nI 0) (nI 11)).bind fun r5 => bd2 (f_X0_need sh r5 (nI 1) I) fun u9 I9 => oex u9 (fun _w9 => f_X0_form_L16 F sh x1 F (nI 0) (nI 0) I9) (fun w9 => ock sh w9 1 <| f_X0_form_J69 F sh w9 I9)
abbrev rm_X0_form : Room := { frames := 4, cells := 0, slots := 0, locals := 87 }
theorem mv_X0_form_ok : callOK yX0_form 1 := by decide +kernel
theorem mw_X0_form : MW yX0_form cX0_form 4 (some .int) [(0, 68, 69, 8)] 1 := ⟨q496, q497, q91, q498, mv_X0_form_ok⟩
set_option maxHeartbeats 4000000 in
theorem ct_X0_form {G : WG} {l : Launch} {sh : SH} (hS : stN sh) {I : II} {F : Nat} {x1 : Int32} {Z : (Int32 × II)} (hk : f_X0_form F sh x1 I = some Z) : CT G l yX0_form (wsW_ yX0_form cX0_form 4 (some .int) [(0, 68, 69, 8)]) rm_X0_form [.ref (wad G 0), .int x1] (sh, I) (.returned (some (.int Z.1))) (sh, Z.2) := by
  refine CT.ofJW "NineDemands" rfl (by decide) (Nat.le_of_ble_eq_true rfl) ?_
  intro p e s m args below meth c C
  unfold f_X0_form at hk
  refine j_lv (lv' := [some (.ref (wad G 0)), some (.int x1), none, none]) rfl ?_
  refine j_aload_n (pc := 0) C dX0_form_0 rfl rfl ?_
  refine j_iload_n (pc := 1) C dX0_form_1 rfl rfl ?_
  refine j_iconst (pc := 2) (v := nI 0) C dX0_form_2 (by decide) ?_
  refine j_bipush (pc := 3) (v := nI 11) C dX0_form_3 (by decide) ?_
  replace hk := ob_some hk
  obtain ⟨r5, h1, hk⟩ := hk
  refine j_callS (pc := 5) C (ct_X0_in h1) ms_X0_in q413 dX0_form_5 rfl rfl (Nat.le_of_ble_eq_true rfl) rfl ?_
  refine j_iconst (pc := 8) (v := nI 1) C dX0_form_8 (by decide) ?_
  have Jn69 : ∀ (s0 : Nat) (I : II), f_X0_form_J69 F sh s0 I = some Z → J G p l e rm_X0_form s m args below meth c 4 (.returned (some (.int Z.1))) (sh, Z.2) (rm_X0_form).cells (rm_X0_form).slots (sh, I) 0 0 69 [some (.ref (wad G 0)), none, none, none] [.ref (wad G s0)] := by
    intro s0 I hk
    unfold f_X0_form_J69 at hk
    refine j_astore_n (pc := 69) C dX0_form_69 rfl (Nat.le_of_ble_eq_true rfl) rfl ?_
    refine j_aload_n (pc := 70) C dX0_form_70 rfl rfl ?_
    refine j_aload_n (pc := 71) C dX0_form_71 rfl rfl ?_
    replace hk := bd2_some hk
    obtain ⟨r72, I72, h2, hk⟩ := hk
    refine x_callV (pc := 72) C (ct_X0_finds hS h2) mv_X0_finds (stN_o0 hS).r rfl rfl q433 dX0_form_72 rfl rfl (Nat.le_of_ble_eq_true rfl) rfl ?_
    obtain rfl := Option.some.inj hk
    exact j_iret (pc := 75) C dX0_form_75 (Nat.le_of_ble_eq_true rfl) (Nat.le_of_ble_eq_true rfl)
  replace hk := bd2_some hk
  obtain ⟨u9, I9, h3, hk⟩ := hk
  cases u9 with
  | inr w9 =>
    replace hk := oex_r hk
    replace hk := ock_some hk
    obtain ⟨h5, hk⟩ := hk
    refine x_callVC [] [] (0, 68, 69, 8) (pc := 9) C (ct_X0_need hS h3) mv_X0_need (stN_o0 hS).r rfl rfl q416 dX0_form_9 rfl rfl (Nat.le_of_ble_eq_true rfl) rfl rfl h5 rfl (by decide) (by decide) q146 (fun z hz => by cases hz) ?_
    exact j_mask [true, false, false, false] (Jn69 _ _ hk)
  | inl _w9 =>
    replace hk := oex_l hk
    refine x_callV (pc := 9) C (ct_X0_need hS h3) mv_X0_need (stN_o0 hS).r rfl rfl q416 dX0_form_9 rfl rfl (Nat.le_of_ble_eq_true rfl) rfl ?_
    refine j_iconst (pc := 12) (v := nI 0) C dX0_form_12 (by decide) ?_
    refine j_istore_n (pc := 13) C dX0_form_13 rfl (Nat.le_of_ble_eq_true rfl) rfl ?_
    refine j_iconst (pc := 14) (v := nI 0) C dX0_form_14 (by decide) ?_
    refine j_istore_n (pc := 15) C dX0_form_15 rfl (Nat.le_of_ble_eq_true rfl) rfl ?_
    have L16 : ∀ (x1 : Int32) (n16 : Nat) (x2 : Int32) (x3 : Int32) (I : II), f_X0_form_L16 F sh x1 n16 x2 x3 I = some Z → J G p l e rm_X0_form s m args below meth c 4 (.returned (some (.int Z.1))) (sh, Z.2) (rm_X0_form).cells (rm_X0_form).slots (sh, I) 0 0 16 [some (.ref (wad G 0)), some (.int x1), some (.int x2), some (.int x3)] [] := by
      intro x1 n16
      induction n16 with
      | zero => intro x2 x3 I hk; rw [f_X0_form_L16] at hk; cases hk
      | succ n16 ih16 =>
        intro x2 x3 I hk
        rw [f_X0_form_L16] at hk
        generalize f_X0_form_L16 F sh x1 n16 = k16 at ih16 hk
        refine j_iload_n (pc := 16) C dX0_form_16 rfl rfl ?_
        refine j_bipush (pc := 17) (v := nI 12) C dX0_form_17 (by decide) ?_
        refine j_icmp_ge (pc := 19) 67 C dX0_form_19 (by decide) (fun h6 => ?_) (fun h6 => ?_)
        · replace hk := it_t h6 hk
          refine j_iload_n (pc := 67) C dX0_form_67 rfl rfl ?_
          obtain rfl := Option.some.inj hk
          exact j_iret (pc := 68) C dX0_form_68 (Nat.le_of_ble_eq_true rfl) (Nat.le_of_ble_eq_true rfl)
        · replace hk := it_f h6 hk
          refine j_iload_n (pc := 22) C dX0_form_22 rfl rfl ?_
          refine j_aload_n (pc := 23) C dX0_form_23 rfl rfl ?_
          replace hk := orf_some hk
          obtain ⟨t24, et24, hk⟩ := hk
          refine x_getR (pc := 24) C fd_0_1 (fl1 C q373) (stN_o0 hS).r et24 dX0_form_24 ?_
          replace hk := ock_some hk
          obtain ⟨h7, hk⟩ := hk
          replace hk := orf_some hk
          obtain ⟨t27, et27, hk⟩ := hk
          refine x_getR (pc := 27) C fd_2_0 (fl3 C q249) h7 et27 dX0_form_27 ?_
          refine j_iload_n (pc := 30) C dX0_form_30 rfl rfl ?_
          replace hk := oarw_some hk
          obtain ⟨nh8, h8, hk⟩ := hk
          replace hk := oix_ex hk
          obtain ⟨i31, e31, h9, hk⟩ := hk
          refine j_iald (pc := 31) C h8 h9 e31 dX0_form_31 ?_
          refine j_iload_n (pc := 32) C dX0_form_32 rfl rfl ?_
          refine j_iload_n (pc := 33) C dX0_form_33 rfl rfl ?_
          replace hk := ob_some hk
          obtain ⟨r34, h10, hk⟩ := hk
          refine j_callS (pc := 34) C (ct_X0_formed h10) ms_X0_formed q499 dX0_form_34 rfl rfl (Nat.le_of_ble_eq_true rfl) rfl ?_
          have Jn45 : ∀ (x3 : Int32) (s0 : Int32) (s1 : Int32) (I : II), f_X0_form_J45 F sh k16 x1 x3 s0 s1 I = some Z → J G p l e rm_X0_form s m args below meth c 4 (.returned (some (.int Z.1))) (sh, Z.2) (rm_X0_form).cells (rm_X0_form).slots (sh, I) 0 0 45 [some (.ref (wad G 0)), some (.int x1), none, some (.int x3)] [.int s1, .int s0] := by
            intro x3 s0 s1 I hk
            unfold f_X0_form_J45 at hk
            refine j_iadd (pc := 45) C dX0_form_45 ?_
            refine j_istore_n (pc := 46) C dX0_form_46 rfl (Nat.le_of_ble_eq_true rfl) rfl ?_
            refine j_aload_n (pc := 47) C dX0_form_47 rfl rfl ?_
            replace hk := orf_some hk
            obtain ⟨t48, et48, hk⟩ := hk
            refine x_getR (pc := 48) C fd_0_1 (fl1 C q373) (stN_o0 hS).r et48 dX0_form_48 ?_
            replace hk := ock_some hk
            obtain ⟨h11, hk⟩ := hk
            replace hk := orf_some hk
            obtain ⟨t51, et51, hk⟩ := hk
            refine x_getR (pc := 51) C fd_2_0 (fl3 C q249) h11 et51 dX0_form_51 ?_
            refine j_iload_n (pc := 54) C dX0_form_54 rfl rfl ?_
            refine j_iload_n (pc := 55) C dX0_form_55 rfl rfl ?_
            refine j_iload_n (pc := 56) C dX0_form_56 rfl rfl ?_
            replace hk := ob_some hk
            obtain ⟨r57, h12, hk⟩ := hk
            refine j_callS (pc := 57) C (ct_X0_formed h12) ms_X0_formed q499 dX0_form_57 rfl rfl (Nat.le_of_ble_eq_true rfl) rfl ?_
            replace hk := oarw_some hk
            obtain ⟨nh13, h13, hk⟩ := hk
            replace hk := oix_ex hk
            obtain ⟨i60, e60, h14, hk⟩ := hk
            refine j_iast (pc := 60) C h13 h14 e60 dX0_form_60 ?_
            refine j_iinc (pc := 61) (nI 1) C dX0_form_61 rfl (by decide) (Nat.le_of_ble_eq_true rfl) rfl ?_
            refine j_goto (pc := 64) 16 C dX0_form_64 (by decide) ?_
            exact j_mask [true, true, true, true] (ih16 _ _ _ hk)
          refine j_icmp_eq (pc := 37) 44 C dX0_form_37 (by decide) (fun h15 => ?_) (fun h15 => ?_)
          · replace hk := it_t h15 hk
            refine j_iconst (pc := 44) (v := nI 0) C dX0_form_44 (by decide) ?_
            exact j_mask [true, true, false, true] (Jn45 _ _ _ _ hk)
          · replace hk := it_f h15 hk
            refine j_iconst (pc := 40) (v := nI 1) C dX0_form_40 (by decide) ?_
            refine j_goto (pc := 41) 45 C dX0_form_41 (by decide) ?_
            exact j_mask [true, true, false, true] (Jn45 _ _ _ _ hk)
    exact j_mask [true, true, true, true] (L16 _ _ _ _ _ hk)
def f_X0_block_J99 (F : Nat) (sh : SH) (s0 : Nat) (I : II) : Option (Int32 × II) := bd2 (f_X0_finds sh s0 I) fun r102 I102 => some (r102, I102)
def f_X0_block_L69 (F : Nat) (sh : SH) (x2 : Nat) (x3 : Int32) : Nat → Int32 → II → Option (Int32 × II)
  | 0, _, _ => none
  | n69 + 1, x5, I => if x3 ≤ x5 then some (x3, I) else orf (sh.2.2 0 1) fun t76 => ock sh t76 2 <| orf (sh.2.2 t76 0) fun t79 => (v_X24_get sh x2 x5 I).bind fun r87 => oarw sh t79 100 fun nh16 => oix x5 nh16 fun i90 => (f_X0_block_L69 F sh x2 x3 n69) (x5 + (nI 1)) (up2 I t79 i90 r87)
def f_X0_block_J59 (F : Nat) (sh : SH) (x2 : Nat) (x3 : Int32) (x4 : Int32) (I : II) : Option (Int32 × II) := bd2 (f_X0_need sh x4 (nI 5) I) fun u63 I63 => oex u63 (fun _w63 => f_X0_block_L69 F sh x2 x3 F (nI 0) I63) (fun w63 => ock sh w63 1 <| f_X0_block_J99 F sh w63 I63)
def f_X0_block_L31 (F : Nat) (sh : SH) (x2 : Nat) (x3 : Int32) : Nat → Int32 → Int32 → II → Option (Int32 × II)
  | 0, _, _, _ => none
  | n31 + 1, x4, x5, I => if x3 ≤ x5 then f_X0_block_J59 F sh x2 x3 x4 I else if x4 = 0 then f_X0_block_J59 F sh x2 x3 x4 I else (v_X24_get sh x2 x5 I).bind fun r45 => (f_X0_isChoice r45).bind fun r48 => (f_X0_block_L31 F sh x2 x3 n31) r48 (x5 + (nI 1)) I
def f_X0_block (F : Nat) (sh : SH) (x1 : Int32) (I : II) : Option (Int32 × II) := (f_X0_isSheet x1).bind fun r2 => bd2 (f_X0_need sh r2 (nI 1) I) fun u6 I6 => oex u6 (fun _w6 => bd2 (f_X0_sheetAt sh x1 I6) fun u11 I11 => oex u11 (fun a11 => (v_X24_size sh a11 I11).bind fun r18 => f_X0_block_L31 F sh a11 (if r18 < (nI 12) then r18 else (nI 12)) F (nI 1) (nI 0) I11) (fun w11 => ock sh w11 1 <| f_X0_block_J99 F sh w11 I11)) (fun w6 => ock sh w6 1 <| f_X0_block_J99 F sh w6 I6)
abbrev rm_X0_block : Room := { frames := 3, cells := 0, slots := 0, locals := 64 }
theorem mv_X0_block_ok : callOK yX0_block 1 := by decide +kernel
theorem mw_X0_block : MW yX0_block cX0_block 6 (some .int) [(0, 98, 99, 8)] 1 := ⟨q457, q458, q91, q459, mv_X0_block_ok⟩
set_option maxHeartbeats 4000000 in
theorem ct_X0_block {G : WG} {l : Launch} {sh : SH} (hS : stN sh) {I : II} {F : Nat} {x1 : Int32} {Z : (Int32 × II)} (hk : f_X0_block F sh x1 I = some Z) : CT G l yX0_block (wsW_ yX0_block cX0_block 6 (some .int) [(0, 98, 99, 8)]) rm_X0_block [.ref (wad G 0), .int x1] (sh, I) (.returned (some (.int Z.1))) (sh, Z.2) := by
  refine CT.ofJW "NineDemands" rfl (by decide) (Nat.le_of_ble_eq_true rfl) ?_
  intro p e s m args below meth c C
  unfold f_X0_block at hk
  refine j_lv (lv' := [some (.ref (wad G 0)), some (.int x1), none, none, none, none]) rfl ?_
  refine j_aload_n (pc := 0) C dX0_block_0 rfl rfl ?_
  refine j_iload_n (pc := 1) C dX0_block_1 rfl rfl ?_
  replace hk := ob_some hk
  obtain ⟨r2, h1, hk⟩ := hk
  refine j_callS (pc := 2) C (ct_X0_isSheet h1) ms_X0_isSheet q460 dX0_block_2 rfl rfl (Nat.le_of_ble_eq_true rfl) rfl ?_
  refine j_iconst (pc := 5) (v := nI 1) C dX0_block_5 (by decide) ?_
  have Jn99 : ∀ (s0 : Nat) (I : II), f_X0_block_J99 F sh s0 I = some Z → J G p l e rm_X0_block s m args below meth c 6 (.returned (some (.int Z.1))) (sh, Z.2) (rm_X0_block).cells (rm_X0_block).slots (sh, I) 0 0 99 [some (.ref (wad G 0)), none, none, none, none, none] [.ref (wad G s0)] := by
    intro s0 I hk
    unfold f_X0_block_J99 at hk
    refine j_astore_n (pc := 99) C dX0_block_99 rfl (Nat.le_of_ble_eq_true rfl) rfl ?_
    refine j_aload_n (pc := 100) C dX0_block_100 rfl rfl ?_
    refine j_aload_n (pc := 101) C dX0_block_101 rfl rfl ?_
    replace hk := bd2_some hk
    obtain ⟨r102, I102, h2, hk⟩ := hk
    refine x_callV (pc := 102) C (ct_X0_finds hS h2) mv_X0_finds (stN_o0 hS).r rfl rfl q433 dX0_block_102 rfl rfl (Nat.le_of_ble_eq_true rfl) rfl ?_
    obtain rfl := Option.some.inj hk
    exact j_iret (pc := 105) C dX0_block_105 (Nat.le_of_ble_eq_true rfl) (Nat.le_of_ble_eq_true rfl)
  replace hk := bd2_some hk
  obtain ⟨u6, I6, h3, hk⟩ := hk
  cases u6 with
  | inr w6 =>
    replace hk := oex_r hk
    replace hk := ock_some hk
    obtain ⟨h5, hk⟩ := hk
    refine x_callVC [] [] (0, 98, 99, 8) (pc := 6) C (ct_X0_need hS h3) mv_X0_need (stN_o0 hS).r rfl rfl q416 dX0_block_6 rfl rfl (Nat.le_of_ble_eq_true rfl) rfl rfl h5 rfl (by decide) (by decide) q146 (fun z hz => by cases hz) ?_
    exact j_mask [true, false, false, false, false, false] (Jn99 _ _ hk)
  | inl _w6 =>
    replace hk := oex_l hk
    refine x_callV (pc := 6) C (ct_X0_need hS h3) mv_X0_need (stN_o0 hS).r rfl rfl q416 dX0_block_6 rfl rfl (Nat.le_of_ble_eq_true rfl) rfl ?_
    refine j_aload_n (pc := 9) C dX0_block_9 rfl rfl ?_
    refine j_iload_n (pc := 10) C dX0_block_10 rfl rfl ?_
    replace hk := bd2_some hk
    obtain ⟨u11, I11, h6, hk⟩ := hk
    cases u11 with
    | inr w11 =>
      replace hk := oex_r hk
      replace hk := ock_some hk
      obtain ⟨h8, hk⟩ := hk
      refine x_callVC [] [] (0, 98, 99, 8) (pc := 11) C (ct_X0_sheetAt hS h6) mv_X0_sheetAt (stN_o0 hS).r rfl rfl q463 dX0_block_11 rfl rfl (Nat.le_of_ble_eq_true rfl) rfl rfl h8 rfl (by decide) (by decide) q146 (fun z hz => by cases hz) ?_
      exact j_mask [true, false, false, false, false, false] (Jn99 _ _ hk)
    | inl a11 =>
      replace hk := oex_l hk
      refine x_callV (pc := 11) C (ct_X0_sheetAt hS h6) mv_X0_sheetAt (stN_o0 hS).r rfl rfl q463 dX0_block_11 rfl rfl (Nat.le_of_ble_eq_true rfl) rfl ?_
      refine j_astore_n (pc := 14) C dX0_block_14 rfl (Nat.le_of_ble_eq_true rfl) rfl ?_
      refine j_bipush (pc := 15) (v := nI 12) C dX0_block_15 (by decide) ?_
      refine j_aload_n (pc := 17) C dX0_block_17 rfl rfl ?_
      replace hk := ob_some hk
      obtain ⟨r18, h9, hk⟩ := hk
      refine x_callX (pc := 18) C (vc_X24_size hS h9) q468 dX0_block_18 rfl rfl (Nat.le_of_ble_eq_true rfl) (Nat.le_of_ble_eq_true rfl) (Nat.le_of_ble_eq_true rfl) (Nat.le_of_ble_eq_true rfl) (Nat.le_of_ble_eq_true rfl) ?_
      refine j_mmin (pc := 21) C q480 q481 q107 q482 dX0_block_21 (Nat.le_of_ble_eq_true rfl) (Nat.le_of_ble_eq_true rfl) (Nat.le_of_ble_eq_true rfl) (Nat.le_of_ble_eq_true rfl) ?_
      refine j_istore_n (pc := 24) C dX0_block_24 rfl (Nat.le_of_ble_eq_true rfl) rfl ?_
      refine j_iconst (pc := 25) (v := nI 1) C dX0_block_25 (by decide) ?_
      refine j_istore (pc := 26) C dX0_block_26 (Nat.le_of_ble_eq_true rfl) rfl ?_
      refine j_iconst (pc := 28) (v := nI 0) C dX0_block_28 (by decide) ?_
      refine j_istore (pc := 29) C dX0_block_29 (Nat.le_of_ble_eq_true rfl) rfl ?_
      have L31 : ∀ (x2 : Nat) (x3 : Int32) (n31 : Nat) (x4 : Int32) (x5 : Int32) (I : II), f_X0_block_L31 F sh x2 x3 n31 x4 x5 I = some Z → J G p l e rm_X0_block s m args below meth c 6 (.returned (some (.int Z.1))) (sh, Z.2) (rm_X0_block).cells (rm_X0_block).slots (sh, I) 0 0 31 [some (.ref (wad G 0)), none, some (.ref (wad G x2)), some (.int x3), some (.int x4), some (.int x5)] [] := by
        intro x2 x3 n31
        induction n31 with
        | zero => intro x4 x5 I hk; rw [f_X0_block_L31] at hk; cases hk
        | succ n31 ih31 =>
          intro x4 x5 I hk
          rw [f_X0_block_L31] at hk
          generalize f_X0_block_L31 F sh x2 x3 n31 = k31 at ih31 hk
          refine j_iload (pc := 31) C dX0_block_31 rfl ?_
          refine j_iload_n (pc := 33) C dX0_block_33 rfl rfl ?_
          have Jn59 : ∀ (x2 : Nat) (x3 : Int32) (x4 : Int32) (I : II), f_X0_block_J59 F sh x2 x3 x4 I = some Z → J G p l e rm_X0_block s m args below meth c 6 (.returned (some (.int Z.1))) (sh, Z.2) (rm_X0_block).cells (rm_X0_block).slots (sh, I) 0 0 59 [some (.ref (wad G 0)), none, some (.ref (wad G x2)), some (.int x3), some (.int x4), none] [] := by
            intro x2 x3 x4 I hk
            unfold f_X0_block_J59 at hk
            refine j_aload_n (pc := 59) C dX0_block_59 rfl rfl ?_
            refine j_iload (pc := 60) C dX0_block_60 rfl ?_
            refine j_iconst (pc := 62) (v := nI 5) C dX0_block_62 (by decide) ?_
            replace hk := bd2_some hk
            obtain ⟨u63, I63, h10, hk⟩ := hk
            cases u63 with
            | inr w63 =>
              replace hk := oex_r hk
              replace hk := ock_some hk
              obtain ⟨h12, hk⟩ := hk
              refine x_callVC [] [] (0, 98, 99, 8) (pc := 63) C (ct_X0_need hS h10) mv_X0_need (stN_o0 hS).r rfl rfl q416 dX0_block_63 rfl rfl (Nat.le_of_ble_eq_true rfl) rfl rfl h12 rfl (by decide) (by decide) q146 (fun z hz => by cases hz) ?_
              exact j_mask [true, false, false, false, false, false] (Jn99 _ _ hk)
            | inl _w63 =>
              replace hk := oex_l hk
              refine x_callV (pc := 63) C (ct_X0_need hS h10) mv_X0_need (stN_o0 hS).r rfl rfl q416 dX0_block_63 rfl rfl (Nat.le_of_ble_eq_true rfl) rfl ?_
              refine j_iconst (pc := 66) (v := nI 0) C dX0_block_66 (by decide) ?_
              refine j_istore (pc := 67) C dX0_block_67 (Nat.le_of_ble_eq_true rfl) rfl ?_
              have L69 : ∀ (x2 : Nat) (x3 : Int32) (n69 : Nat) (x5 : Int32) (I : II), f_X0_block_L69 F sh x2 x3 n69 x5 I = some Z → J G p l e rm_X0_block s m args below meth c 6 (.returned (some (.int Z.1))) (sh, Z.2) (rm_X0_block).cells (rm_X0_block).slots (sh, I) 0 0 69 [some (.ref (wad G 0)), none, some (.ref (wad G x2)), some (.int x3), none, some (.int x5)] [] := by
                intro x2 x3 n69
                induction n69 with
                | zero => intro x5 I hk; rw [f_X0_block_L69] at hk; cases hk
                | succ n69 ih69 =>
                  intro x5 I hk
                  rw [f_X0_block_L69] at hk
                  generalize f_X0_block_L69 F sh x2 x3 n69 = k69 at ih69 hk
                  refine j_iload (pc := 69) C dX0_block_69 rfl ?_
                  refine j_iload_n (pc := 71) C dX0_block_71 rfl rfl ?_
                  refine j_icmp_ge (pc := 72) 97 C dX0_block_72 (by decide) (fun h13 => ?_) (fun h13 => ?_)
                  · replace hk := it_t h13 hk
                    refine j_iload_n (pc := 97) C dX0_block_97 rfl rfl ?_
                    obtain rfl := Option.some.inj hk
                    exact j_iret (pc := 98) C dX0_block_98 (Nat.le_of_ble_eq_true rfl) (Nat.le_of_ble_eq_true rfl)
                  · replace hk := it_f h13 hk
                    refine j_aload_n (pc := 75) C dX0_block_75 rfl rfl ?_
                    replace hk := orf_some hk
                    obtain ⟨t76, et76, hk⟩ := hk
                    refine x_getR (pc := 76) C fd_0_1 (fl1 C q373) (stN_o0 hS).r et76 dX0_block_76 ?_
                    replace hk := ock_some hk
                    obtain ⟨h14, hk⟩ := hk
                    replace hk := orf_some hk
                    obtain ⟨t79, et79, hk⟩ := hk
                    refine x_getR (pc := 79) C fd_2_0 (fl3 C q249) h14 et79 dX0_block_79 ?_
                    refine j_iload (pc := 82) C dX0_block_82 rfl ?_
                    refine j_aload_n (pc := 84) C dX0_block_84 rfl rfl ?_
                    refine j_iload (pc := 85) C dX0_block_85 rfl ?_
                    replace hk := ob_some hk
                    obtain ⟨r87, h15, hk⟩ := hk
                    refine x_callX (pc := 87) C (vc_X24_get hS h15) q483 dX0_block_87 rfl rfl (Nat.le_of_ble_eq_true rfl) (Nat.le_of_ble_eq_true rfl) (Nat.le_of_ble_eq_true rfl) (Nat.le_of_ble_eq_true rfl) (Nat.le_of_ble_eq_true rfl) ?_
                    replace hk := oarw_some hk
                    obtain ⟨nh16, h16, hk⟩ := hk
                    replace hk := oix_ex hk
                    obtain ⟨i90, e90, h17, hk⟩ := hk
                    refine j_iast (pc := 90) C h16 h17 e90 dX0_block_90 ?_
                    refine j_iinc (pc := 91) (nI 1) C dX0_block_91 rfl (by decide) (Nat.le_of_ble_eq_true rfl) rfl ?_
                    refine j_goto (pc := 94) 69 C dX0_block_94 (by decide) ?_
                    exact j_mask [true, false, true, true, false, true] (ih69 _ _ hk)
              exact j_mask [true, false, true, true, false, true] (L69 _ _ _ _ _ hk)
          refine j_icmp_ge (pc := 34) 59 C dX0_block_34 (by decide) (fun h18 => ?_) (fun h18 => ?_)
          · replace hk := it_t h18 hk
            exact j_mask [true, false, true, true, true, false] (Jn59 _ _ _ _ hk)
          · replace hk := it_f h18 hk
            refine j_iload (pc := 37) C dX0_block_37 rfl ?_
            refine j_if_eq (pc := 39) 59 C dX0_block_39 (by decide) (fun h19 => ?_) (fun h19 => ?_)
            · replace hk := it_t h19 hk
              exact j_mask [true, false, true, true, true, false] (Jn59 _ _ _ _ hk)
            · replace hk := it_f h19 hk
              refine j_aload_n (pc := 42) C dX0_block_42 rfl rfl ?_
              refine j_iload (pc := 43) C dX0_block_43 rfl ?_
              replace hk := ob_some hk
              obtain ⟨r45, h20, hk⟩ := hk
              refine x_callX (pc := 45) C (vc_X24_get hS h20) q483 dX0_block_45 rfl rfl (Nat.le_of_ble_eq_true rfl) (Nat.le_of_ble_eq_true rfl) (Nat.le_of_ble_eq_true rfl) (Nat.le_of_ble_eq_true rfl) (Nat.le_of_ble_eq_true rfl) ?_
              replace hk := ob_some hk
              obtain ⟨r48, h21, hk⟩ := hk
              refine j_callS (pc := 48) C (ct_X0_isChoice h21) ms_X0_isChoice q449 dX0_block_48 rfl rfl (Nat.le_of_ble_eq_true rfl) rfl ?_
              refine j_istore (pc := 51) C dX0_block_51 (Nat.le_of_ble_eq_true rfl) rfl ?_
              refine j_iinc (pc := 53) (nI 1) C dX0_block_53 rfl (by decide) (Nat.le_of_ble_eq_true rfl) rfl ?_
              refine j_goto (pc := 56) 31 C dX0_block_56 (by decide) ?_
              exact j_mask [true, false, true, true, true, true] (ih31 _ _ _ hk)
      exact j_mask [true, false, true, true, true, true] (L31 _ _ _ _ _ _ hk)
def f_X0_chosen_J19 (sh : SH) (s0 : Nat) (I : II) : Option (Int32 × II) := bd2 (f_X0_finds sh s0 I) fun r22 I22 => some (r22, I22)
def f_X0_chosen (sh : SH) (x1 : Int32) (I : II) : Option (Int32 × II) := (f_X0_isHall x1).bind fun r2 => bd2 (f_X0_need sh r2 (nI 1) I) fun u6 I6 => oex u6 (fun _w6 => orf (sh.2.2 0 1) fun t10 => ock sh t10 2 <| orf (sh.2.2 t10 0) fun t13 => oarw sh t13 100 fun nh7 => oix x1 nh7 fun i17 => some ((I6 t13 i17), I6)) (fun w6 => ock sh w6 1 <| f_X0_chosen_J19 sh w6 I6)
abbrev rm_X0_chosen : Room := { frames := 2, cells := 0, slots := 0, locals := 43 }
theorem mv_X0_chosen_ok : callOK yX0_chosen 1 := by decide +kernel
theorem mw_X0_chosen : MW yX0_chosen cX0_chosen 3 (some .int) [(0, 18, 19, 8)] 1 := ⟨q453, q454, q91, q455, mv_X0_chosen_ok⟩
set_option maxHeartbeats 4000000 in
theorem ct_X0_chosen {G : WG} {l : Launch} {sh : SH} (hS : stN sh) {I : II} {x1 : Int32} {Z : (Int32 × II)} (hk : f_X0_chosen sh x1 I = some Z) : CT G l yX0_chosen (wsW_ yX0_chosen cX0_chosen 3 (some .int) [(0, 18, 19, 8)]) rm_X0_chosen [.ref (wad G 0), .int x1] (sh, I) (.returned (some (.int Z.1))) (sh, Z.2) := by
  refine CT.ofJW "NineDemands" rfl (by decide) (Nat.le_of_ble_eq_true rfl) ?_
  intro p e s m args below meth c C
  unfold f_X0_chosen at hk
  refine j_lv (lv' := [some (.ref (wad G 0)), some (.int x1), none]) rfl ?_
  refine j_aload_n (pc := 0) C dX0_chosen_0 rfl rfl ?_
  refine j_iload_n (pc := 1) C dX0_chosen_1 rfl rfl ?_
  replace hk := ob_some hk
  obtain ⟨r2, h1, hk⟩ := hk
  refine j_callS (pc := 2) C (ct_X0_isHall h1) ms_X0_isHall q410 dX0_chosen_2 rfl rfl (Nat.le_of_ble_eq_true rfl) rfl ?_
  refine j_iconst (pc := 5) (v := nI 1) C dX0_chosen_5 (by decide) ?_
  have Jn19 : ∀ (s0 : Nat) (I : II), f_X0_chosen_J19 sh s0 I = some Z → J G p l e rm_X0_chosen s m args below meth c 3 (.returned (some (.int Z.1))) (sh, Z.2) (rm_X0_chosen).cells (rm_X0_chosen).slots (sh, I) 0 0 19 [some (.ref (wad G 0)), none, none] [.ref (wad G s0)] := by
    intro s0 I hk
    unfold f_X0_chosen_J19 at hk
    refine j_astore_n (pc := 19) C dX0_chosen_19 rfl (Nat.le_of_ble_eq_true rfl) rfl ?_
    refine j_aload_n (pc := 20) C dX0_chosen_20 rfl rfl ?_
    refine j_aload_n (pc := 21) C dX0_chosen_21 rfl rfl ?_
    replace hk := bd2_some hk
    obtain ⟨r22, I22, h2, hk⟩ := hk
    refine x_callV (pc := 22) C (ct_X0_finds hS h2) mv_X0_finds (stN_o0 hS).r rfl rfl q433 dX0_chosen_22 rfl rfl (Nat.le_of_ble_eq_true rfl) rfl ?_
    obtain rfl := Option.some.inj hk
    exact j_iret (pc := 25) C dX0_chosen_25 (Nat.le_of_ble_eq_true rfl) (Nat.le_of_ble_eq_true rfl)
  replace hk := bd2_some hk
  obtain ⟨u6, I6, h3, hk⟩ := hk
  cases u6 with
  | inr w6 =>
    replace hk := oex_r hk
    replace hk := ock_some hk
    obtain ⟨h5, hk⟩ := hk
    refine x_callVC [] [] (0, 18, 19, 8) (pc := 6) C (ct_X0_need hS h3) mv_X0_need (stN_o0 hS).r rfl rfl q416 dX0_chosen_6 rfl rfl (Nat.le_of_ble_eq_true rfl) rfl rfl h5 rfl (by decide) (by decide) q146 (fun z hz => by cases hz) ?_
    exact j_mask [true, false, false] (Jn19 _ _ hk)
  | inl _w6 =>
    replace hk := oex_l hk
    refine x_callV (pc := 6) C (ct_X0_need hS h3) mv_X0_need (stN_o0 hS).r rfl rfl q416 dX0_chosen_6 rfl rfl (Nat.le_of_ble_eq_true rfl) rfl ?_
    refine j_aload_n (pc := 9) C dX0_chosen_9 rfl rfl ?_
    replace hk := orf_some hk
    obtain ⟨t10, et10, hk⟩ := hk
    refine x_getR (pc := 10) C fd_0_1 (fl1 C q373) (stN_o0 hS).r et10 dX0_chosen_10 ?_
    replace hk := ock_some hk
    obtain ⟨h6, hk⟩ := hk
    replace hk := orf_some hk
    obtain ⟨t13, et13, hk⟩ := hk
    refine x_getR (pc := 13) C fd_2_0 (fl3 C q249) h6 et13 dX0_chosen_13 ?_
    refine j_iload_n (pc := 16) C dX0_chosen_16 rfl rfl ?_
    replace hk := oarw_some hk
    obtain ⟨nh7, h7, hk⟩ := hk
    replace hk := oix_ex hk
    obtain ⟨i17, e17, h8, hk⟩ := hk
    refine j_iald (pc := 17) C h7 h8 e17 dX0_chosen_17 ?_
    obtain rfl := Option.some.inj hk
    exact j_iret (pc := 18) C dX0_chosen_18 (Nat.le_of_ble_eq_true rfl) (Nat.le_of_ble_eq_true rfl)
def f_X0_choose_J46 (sh : SH) (s0 : Nat) (I : II) : Option (Int32 × II) := bd2 (f_X0_finds sh s0 I) fun r49 I49 => some (r49, I49)
def f_X0_choose_J20 (sh : SH) (x1 : Int32) (x2 : Int32) (s1 : Int32) (I : II) : Option (Int32 × II) := bd2 (f_X0_need sh s1 (nI 1) I) fun u21 I21 => oex u21 (fun _w21 => orf (sh.2.2 0 1) fun t25 => ock sh t25 2 <| orf (sh.2.2 t25 0) fun t28 => oarw sh t28 100 fun nh7 => oix x1 nh7 fun i32 => orf (sh.2.2 0 1) fun t35 => ock sh t35 2 <| orf (sh.2.2 t35 0) fun t38 => oarw sh t38 100 fun nh10 => oix x1 nh10 fun i43 => some ((I21 t28 i32), up2 I21 t38 i43 x2)) (fun w21 => ock sh w21 1 <| f_X0_choose_J46 sh w21 I21)
def f_X0_choose_J19 (sh : SH) (x1 : Int32) (x2 : Int32) (I : II) : Option (Int32 × II) := f_X0_choose_J20 sh x1 x2 (nI 0) I
def f_X0_choose (sh : SH) (x1 : Int32) (x2 : Int32) (I : II) : Option (Int32 × II) := (f_X0_isHall x1).bind fun r2 => if r2 = 0 then f_X0_choose_J19 sh x1 x2 I else (f_X0_isChoice x2).bind fun r9 => if r9 = 0 then f_X0_choose_J19 sh x1 x2 I else f_X0_choose_J20 sh x1 x2 (nI 1) I
abbrev rm_X0_choose : Room := { frames := 2, cells := 0, slots := 0, locals := 43 }
theorem mv_X0_choose_ok : callOK yX0_choose 2 := by decide +kernel
theorem mw_X0_choose : MW yX0_choose cX0_choose 4 (some .int) [(0, 45, 46, 8)] 2 := ⟨q446, q447, q91, q448, mv_X0_choose_ok⟩
set_option maxHeartbeats 4000000 in
theorem ct_X0_choose {G : WG} {l : Launch} {sh : SH} (hS : stN sh) {I : II} {x1 : Int32} {x2 : Int32} {Z : (Int32 × II)} (hk : f_X0_choose sh x1 x2 I = some Z) : CT G l yX0_choose (wsW_ yX0_choose cX0_choose 4 (some .int) [(0, 45, 46, 8)]) rm_X0_choose [.ref (wad G 0), .int x1, .int x2] (sh, I) (.returned (some (.int Z.1))) (sh, Z.2) := by
  refine CT.ofJW "NineDemands" rfl (by decide) (Nat.le_of_ble_eq_true rfl) ?_
  intro p e s m args below meth c C
  unfold f_X0_choose at hk
  refine j_lv (lv' := [some (.ref (wad G 0)), some (.int x1), some (.int x2), none]) rfl ?_
  refine j_aload_n (pc := 0) C dX0_choose_0 rfl rfl ?_
  refine j_iload_n (pc := 1) C dX0_choose_1 rfl rfl ?_
  replace hk := ob_some hk
  obtain ⟨r2, h1, hk⟩ := hk
  refine j_callS (pc := 2) C (ct_X0_isHall h1) ms_X0_isHall q410 dX0_choose_2 rfl rfl (Nat.le_of_ble_eq_true rfl) rfl ?_
  have Jn20 : ∀ (x1 : Int32) (x2 : Int32) (s1 : Int32) (I : II), f_X0_choose_J20 sh x1 x2 s1 I = some Z → J G p l e rm_X0_choose s m args below meth c 4 (.returned (some (.int Z.1))) (sh, Z.2) (rm_X0_choose).cells (rm_X0_choose).slots (sh, I) 0 0 20 [some (.ref (wad G 0)), some (.int x1), some (.int x2), none] [.int s1, .ref (wad G 0)] := by
    intro x1 x2 s1 I hk
    unfold f_X0_choose_J20 at hk
    refine j_iconst (pc := 20) (v := nI 1) C dX0_choose_20 (by decide) ?_
    have Jn46 : ∀ (s0 : Nat) (I : II), f_X0_choose_J46 sh s0 I = some Z → J G p l e rm_X0_choose s m args below meth c 4 (.returned (some (.int Z.1))) (sh, Z.2) (rm_X0_choose).cells (rm_X0_choose).slots (sh, I) 0 0 46 [some (.ref (wad G 0)), none, none, none] [.ref (wad G s0)] := by
      intro s0 I hk
      unfold f_X0_choose_J46 at hk
      refine j_astore_n (pc := 46) C dX0_choose_46 rfl (Nat.le_of_ble_eq_true rfl) rfl ?_
      refine j_aload_n (pc := 47) C dX0_choose_47 rfl rfl ?_
      refine j_aload_n (pc := 48) C dX0_choose_48 rfl rfl ?_
      replace hk := bd2_some hk
      obtain ⟨r49, I49, h2, hk⟩ := hk
      refine x_callV (pc := 49) C (ct_X0_finds hS h2) mv_X0_finds (stN_o0 hS).r rfl rfl q433 dX0_choose_49 rfl rfl (Nat.le_of_ble_eq_true rfl) rfl ?_
      obtain rfl := Option.some.inj hk
      exact j_iret (pc := 52) C dX0_choose_52 (Nat.le_of_ble_eq_true rfl) (Nat.le_of_ble_eq_true rfl)
    replace hk := bd2_some hk
    obtain ⟨u21, I21, h3, hk⟩ := hk
    cases u21 with
    | inr w21 =>
      replace hk := oex_r hk
      replace hk := ock_some hk
      obtain ⟨h5, hk⟩ := hk
      refine x_callVC [] [] (0, 45, 46, 8) (pc := 21) C (ct_X0_need hS h3) mv_X0_need (stN_o0 hS).r rfl rfl q416 dX0_choose_21 rfl rfl (Nat.le_of_ble_eq_true rfl) rfl rfl h5 rfl (by decide) (by decide) q146 (fun z hz => by cases hz) ?_
      exact j_mask [true, false, false, false] (Jn46 _ _ hk)
    | inl _w21 =>
      replace hk := oex_l hk
      refine x_callV (pc := 21) C (ct_X0_need hS h3) mv_X0_need (stN_o0 hS).r rfl rfl q416 dX0_choose_21 rfl rfl (Nat.le_of_ble_eq_true rfl) rfl ?_
      refine j_aload_n (pc := 24) C dX0_choose_24 rfl rfl ?_
      replace hk := orf_some hk
      obtain ⟨t25, et25, hk⟩ := hk
      refine x_getR (pc := 25) C fd_0_1 (fl1 C q373) (stN_o0 hS).r et25 dX0_choose_25 ?_
      replace hk := ock_some hk
      obtain ⟨h6, hk⟩ := hk
      replace hk := orf_some hk
      obtain ⟨t28, et28, hk⟩ := hk
      refine x_getR (pc := 28) C fd_2_0 (fl3 C q249) h6 et28 dX0_choose_28 ?_
      refine j_iload_n (pc := 31) C dX0_choose_31 rfl rfl ?_
      replace hk := oarw_some hk
      obtain ⟨nh7, h7, hk⟩ := hk
      replace hk := oix_ex hk
      obtain ⟨i32, e32, h8, hk⟩ := hk
      refine j_iald (pc := 32) C h7 h8 e32 dX0_choose_32 ?_
      refine j_istore_n (pc := 33) C dX0_choose_33 rfl (Nat.le_of_ble_eq_true rfl) rfl ?_
      refine j_aload_n (pc := 34) C dX0_choose_34 rfl rfl ?_
      replace hk := orf_some hk
      obtain ⟨t35, et35, hk⟩ := hk
      refine x_getR (pc := 35) C fd_0_1 (fl1 C q373) (stN_o0 hS).r et35 dX0_choose_35 ?_
      replace hk := ock_some hk
      obtain ⟨h9, hk⟩ := hk
      replace hk := orf_some hk
      obtain ⟨t38, et38, hk⟩ := hk
      refine x_getR (pc := 38) C fd_2_0 (fl3 C q249) h9 et38 dX0_choose_38 ?_
      refine j_iload_n (pc := 41) C dX0_choose_41 rfl rfl ?_
      refine j_iload_n (pc := 42) C dX0_choose_42 rfl rfl ?_
      replace hk := oarw_some hk
      obtain ⟨nh10, h10, hk⟩ := hk
      replace hk := oix_ex hk
      obtain ⟨i43, e43, h11, hk⟩ := hk
      refine j_iast (pc := 43) C h10 h11 e43 dX0_choose_43 ?_
      refine j_iload_n (pc := 44) C dX0_choose_44 rfl rfl ?_
      obtain rfl := Option.some.inj hk
      exact j_iret (pc := 45) C dX0_choose_45 (Nat.le_of_ble_eq_true rfl) (Nat.le_of_ble_eq_true rfl)
  have Jn19 : ∀ (x1 : Int32) (x2 : Int32) (I : II), f_X0_choose_J19 sh x1 x2 I = some Z → J G p l e rm_X0_choose s m args below meth c 4 (.returned (some (.int Z.1))) (sh, Z.2) (rm_X0_choose).cells (rm_X0_choose).slots (sh, I) 0 0 19 [some (.ref (wad G 0)), some (.int x1), some (.int x2), none] [.ref (wad G 0)] := by
    intro x1 x2 I hk
    unfold f_X0_choose_J19 at hk
    refine j_iconst (pc := 19) (v := nI 0) C dX0_choose_19 (by decide) ?_
    exact j_mask [true, true, true, false] (Jn20 _ _ _ _ hk)
  refine j_if_eq (pc := 5) 19 C dX0_choose_5 (by decide) (fun h12 => ?_) (fun h12 => ?_)
  · replace hk := it_t h12 hk
    exact j_mask [true, true, true, false] (Jn19 _ _ _ hk)
  · replace hk := it_f h12 hk
    refine j_iload_n (pc := 8) C dX0_choose_8 rfl rfl ?_
    replace hk := ob_some hk
    obtain ⟨r9, h13, hk⟩ := hk
    refine j_callS (pc := 9) C (ct_X0_isChoice h13) ms_X0_isChoice q449 dX0_choose_9 rfl rfl (Nat.le_of_ble_eq_true rfl) rfl ?_
    refine j_if_eq (pc := 12) 19 C dX0_choose_12 (by decide) (fun h14 => ?_) (fun h14 => ?_)
    · replace hk := it_t h14 hk
      exact j_mask [true, true, true, false] (Jn19 _ _ _ hk)
    · replace hk := it_f h14 hk
      refine j_iconst (pc := 15) (v := nI 1) C dX0_choose_15 (by decide) ?_
      refine j_goto (pc := 16) 20 C dX0_choose_16 (by decide) ?_
      exact j_mask [true, true, true, false] (Jn20 _ _ _ _ hk)
def f_X0_moved_J52 (sh : SH) (s0 : Nat) (I : II) : Option (Int32 × II) := bd2 (f_X0_finds sh s0 I) fun r55 I55 => some (r55, I55)
def f_X0_moved_J40 (sh : SH) (x1 : Int32) (x2 : Int32) (s1 : Int32) (I : II) : Option (Int32 × II) := bd2 (f_X0_need sh s1 (nI 2) I) fun u41 I41 => oex u41 (fun _w41 => (f_X0_changed x1 ((nI 1) <<< (x2 &&& 31))).bind fun r48 => some (r48, I41)) (fun w41 => ock sh w41 1 <| f_X0_moved_J52 sh w41 I41)
def f_X0_moved_J22 (sh : SH) (x1 : Int32) (x2 : Int32) (s1 : Int32) (I : II) : Option (Int32 × II) := bd2 (f_X0_need sh s1 (nI 1) I) fun u23 I23 => oex u23 (fun _w23 => (f_X0_peopleOf x1).bind fun r29 => if r29 ≤ x2 then f_X0_moved_J40 sh x1 x2 (nI 0) I23 else f_X0_moved_J40 sh x1 x2 (nI 1) I23) (fun w23 => ock sh w23 1 <| f_X0_moved_J52 sh w23 I23)
def f_X0_moved_J21 (sh : SH) (x1 : Int32) (x2 : Int32) (I : II) : Option (Int32 × II) := f_X0_moved_J22 sh x1 x2 (nI 0) I
def f_X0_moved (sh : SH) (x1 : Int32) (x2 : Int32) (I : II) : Option (Int32 × II) := (f_X0_isHall x1).bind fun r2 => if r2 = 0 then f_X0_moved_J21 sh x1 x2 I else (f_X0_in x2 (nI 0) (nI 2)).bind fun r11 => if r11 = 0 then f_X0_moved_J21 sh x1 x2 I else f_X0_moved_J22 sh x1 x2 (nI 1) I
abbrev rm_X0_moved : Room := { frames := 2, cells := 0, slots := 0, locals := 43 }
theorem mv_X0_moved_ok : callOK yX0_moved 2 := by decide +kernel
theorem mw_X0_moved : MW yX0_moved cX0_moved 4 (some .int) [(0, 51, 52, 8)] 2 := ⟨q439, q440, q91, q441, mv_X0_moved_ok⟩
set_option maxHeartbeats 4000000 in
theorem ct_X0_moved {G : WG} {l : Launch} {sh : SH} (hS : stN sh) {I : II} {x1 : Int32} {x2 : Int32} {Z : (Int32 × II)} (hk : f_X0_moved sh x1 x2 I = some Z) : CT G l yX0_moved (wsW_ yX0_moved cX0_moved 4 (some .int) [(0, 51, 52, 8)]) rm_X0_moved [.ref (wad G 0), .int x1, .int x2] (sh, I) (.returned (some (.int Z.1))) (sh, Z.2) := by
  refine CT.ofJW "NineDemands" rfl (by decide) (Nat.le_of_ble_eq_true rfl) ?_
  intro p e s m args below meth c C
  unfold f_X0_moved at hk
  refine j_lv (lv' := [some (.ref (wad G 0)), some (.int x1), some (.int x2), none]) rfl ?_
  refine j_aload_n (pc := 0) C dX0_moved_0 rfl rfl ?_
  refine j_iload_n (pc := 1) C dX0_moved_1 rfl rfl ?_
  replace hk := ob_some hk
  obtain ⟨r2, h1, hk⟩ := hk
  refine j_callS (pc := 2) C (ct_X0_isHall h1) ms_X0_isHall q410 dX0_moved_2 rfl rfl (Nat.le_of_ble_eq_true rfl) rfl ?_
  have Jn22 : ∀ (x1 : Int32) (x2 : Int32) (s1 : Int32) (I : II), f_X0_moved_J22 sh x1 x2 s1 I = some Z → J G p l e rm_X0_moved s m args below meth c 4 (.returned (some (.int Z.1))) (sh, Z.2) (rm_X0_moved).cells (rm_X0_moved).slots (sh, I) 0 0 22 [some (.ref (wad G 0)), some (.int x1), some (.int x2), none] [.int s1, .ref (wad G 0)] := by
    intro x1 x2 s1 I hk
    unfold f_X0_moved_J22 at hk
    refine j_iconst (pc := 22) (v := nI 1) C dX0_moved_22 (by decide) ?_
    have Jn52 : ∀ (s0 : Nat) (I : II), f_X0_moved_J52 sh s0 I = some Z → J G p l e rm_X0_moved s m args below meth c 4 (.returned (some (.int Z.1))) (sh, Z.2) (rm_X0_moved).cells (rm_X0_moved).slots (sh, I) 0 0 52 [some (.ref (wad G 0)), none, none, none] [.ref (wad G s0)] := by
      intro s0 I hk
      unfold f_X0_moved_J52 at hk
      refine j_astore_n (pc := 52) C dX0_moved_52 rfl (Nat.le_of_ble_eq_true rfl) rfl ?_
      refine j_aload_n (pc := 53) C dX0_moved_53 rfl rfl ?_
      refine j_aload_n (pc := 54) C dX0_moved_54 rfl rfl ?_
      replace hk := bd2_some hk
      obtain ⟨r55, I55, h2, hk⟩ := hk
      refine x_callV (pc := 55) C (ct_X0_finds hS h2) mv_X0_finds (stN_o0 hS).r rfl rfl q433 dX0_moved_55 rfl rfl (Nat.le_of_ble_eq_true rfl) rfl ?_
      obtain rfl := Option.some.inj hk
      exact j_iret (pc := 58) C dX0_moved_58 (Nat.le_of_ble_eq_true rfl) (Nat.le_of_ble_eq_true rfl)
    replace hk := bd2_some hk
    obtain ⟨u23, I23, h3, hk⟩ := hk
    cases u23 with
    | inr w23 =>
      replace hk := oex_r hk
      replace hk := ock_some hk
      obtain ⟨h5, hk⟩ := hk
      refine x_callVC [] [] (0, 51, 52, 8) (pc := 23) C (ct_X0_need hS h3) mv_X0_need (stN_o0 hS).r rfl rfl q416 dX0_moved_23 rfl rfl (Nat.le_of_ble_eq_true rfl) rfl rfl h5 rfl (by decide) (by decide) q146 (fun z hz => by cases hz) ?_
      exact j_mask [true, false, false, false] (Jn52 _ _ hk)
    | inl _w23 =>
      replace hk := oex_l hk
      refine x_callV (pc := 23) C (ct_X0_need hS h3) mv_X0_need (stN_o0 hS).r rfl rfl q416 dX0_moved_23 rfl rfl (Nat.le_of_ble_eq_true rfl) rfl ?_
      refine j_aload_n (pc := 26) C dX0_moved_26 rfl rfl ?_
      refine j_iload_n (pc := 27) C dX0_moved_27 rfl rfl ?_
      refine j_iload_n (pc := 28) C dX0_moved_28 rfl rfl ?_
      replace hk := ob_some hk
      obtain ⟨r29, h6, hk⟩ := hk
      refine j_callS (pc := 29) C (ct_X0_peopleOf h6) ms_X0_peopleOf q424 dX0_moved_29 rfl rfl (Nat.le_of_ble_eq_true rfl) rfl ?_
      have Jn40 : ∀ (x1 : Int32) (x2 : Int32) (s1 : Int32) (I : II), f_X0_moved_J40 sh x1 x2 s1 I = some Z → J G p l e rm_X0_moved s m args below meth c 4 (.returned (some (.int Z.1))) (sh, Z.2) (rm_X0_moved).cells (rm_X0_moved).slots (sh, I) 0 0 40 [some (.ref (wad G 0)), some (.int x1), some (.int x2), none] [.int s1, .ref (wad G 0)] := by
        intro x1 x2 s1 I hk
        unfold f_X0_moved_J40 at hk
        refine j_iconst (pc := 40) (v := nI 2) C dX0_moved_40 (by decide) ?_
        replace hk := bd2_some hk
        obtain ⟨u41, I41, h7, hk⟩ := hk
        cases u41 with
        | inr w41 =>
          replace hk := oex_r hk
          replace hk := ock_some hk
          obtain ⟨h9, hk⟩ := hk
          refine x_callVC [] [] (0, 51, 52, 8) (pc := 41) C (ct_X0_need hS h7) mv_X0_need (stN_o0 hS).r rfl rfl q416 dX0_moved_41 rfl rfl (Nat.le_of_ble_eq_true rfl) rfl rfl h9 rfl (by decide) (by decide) q146 (fun z hz => by cases hz) ?_
          exact j_mask [true, false, false, false] (Jn52 _ _ hk)
        | inl _w41 =>
          replace hk := oex_l hk
          refine x_callV (pc := 41) C (ct_X0_need hS h7) mv_X0_need (stN_o0 hS).r rfl rfl q416 dX0_moved_41 rfl rfl (Nat.le_of_ble_eq_true rfl) rfl ?_
          refine j_iload_n (pc := 44) C dX0_moved_44 rfl rfl ?_
          refine j_iconst (pc := 45) (v := nI 1) C dX0_moved_45 (by decide) ?_
          refine j_iload_n (pc := 46) C dX0_moved_46 rfl rfl ?_
          refine j_ishl (pc := 47) C dX0_moved_47 ?_
          replace hk := ob_some hk
          obtain ⟨r48, h10, hk⟩ := hk
          refine j_callS (pc := 48) C (ct_X0_changed h10) ms_X0_changed q442 dX0_moved_48 rfl rfl (Nat.le_of_ble_eq_true rfl) rfl ?_
          obtain rfl := Option.some.inj hk
          exact j_iret (pc := 51) C dX0_moved_51 (Nat.le_of_ble_eq_true rfl) (Nat.le_of_ble_eq_true rfl)
      refine j_icmp_ge (pc := 32) 39 C dX0_moved_32 (by decide) (fun h11 => ?_) (fun h11 => ?_)
      · replace hk := it_t h11 hk
        refine j_iconst (pc := 39) (v := nI 0) C dX0_moved_39 (by decide) ?_
        exact j_mask [true, true, true, false] (Jn40 _ _ _ _ hk)
      · replace hk := it_f h11 hk
        refine j_iconst (pc := 35) (v := nI 1) C dX0_moved_35 (by decide) ?_
        refine j_goto (pc := 36) 40 C dX0_moved_36 (by decide) ?_
        exact j_mask [true, true, true, false] (Jn40 _ _ _ _ hk)
  have Jn21 : ∀ (x1 : Int32) (x2 : Int32) (I : II), f_X0_moved_J21 sh x1 x2 I = some Z → J G p l e rm_X0_moved s m args below meth c 4 (.returned (some (.int Z.1))) (sh, Z.2) (rm_X0_moved).cells (rm_X0_moved).slots (sh, I) 0 0 21 [some (.ref (wad G 0)), some (.int x1), some (.int x2), none] [.ref (wad G 0)] := by
    intro x1 x2 I hk
    unfold f_X0_moved_J21 at hk
    refine j_iconst (pc := 21) (v := nI 0) C dX0_moved_21 (by decide) ?_
    exact j_mask [true, true, true, false] (Jn22 _ _ _ _ hk)
  refine j_if_eq (pc := 5) 21 C dX0_moved_5 (by decide) (fun h12 => ?_) (fun h12 => ?_)
  · replace hk := it_t h12 hk
    exact j_mask [true, true, true, false] (Jn21 _ _ _ hk)
  · replace hk := it_f h12 hk
    refine j_iload_n (pc := 8) C dX0_moved_8 rfl rfl ?_
    refine j_iconst (pc := 9) (v := nI 0) C dX0_moved_9 (by decide) ?_
    refine j_iconst (pc := 10) (v := nI 2) C dX0_moved_10 (by decide) ?_
    replace hk := ob_some hk
    obtain ⟨r11, h13, hk⟩ := hk
    refine j_callS (pc := 11) C (ct_X0_in h13) ms_X0_in q413 dX0_moved_11 rfl rfl (Nat.le_of_ble_eq_true rfl) rfl ?_
    refine j_if_eq (pc := 14) 21 C dX0_moved_14 (by decide) (fun h14 => ?_) (fun h14 => ?_)
    · replace hk := it_t h14 hk
      exact j_mask [true, true, true, false] (Jn21 _ _ _ hk)
    · replace hk := it_f h14 hk
      refine j_iconst (pc := 17) (v := nI 1) C dX0_moved_17 (by decide) ?_
      refine j_goto (pc := 18) 22 C dX0_moved_18 (by decide) ?_
      exact j_mask [true, true, true, false] (Jn22 _ _ _ _ hk)
