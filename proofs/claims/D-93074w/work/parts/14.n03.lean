/-! the class: walks -/
set_option maxRecDepth 100000
def f_J5_grow_2_J20 (x1 : Int32) (x2 : Int32) (S : SH) (I : II) : Option (Nat × SH × II) := none
def f_J5_grow_2 (sh : SH) (x0 : Nat) (x1 : Int32) (I : II) : Option (Nat × SH × II) := omn3 sh <| ock sh x0 3 <| orf (sh.2.2 x0 1) fun t1 => oar sh t1 200 fun nh2 => if 0 < (nI nh2) then f_J5_grow_2_J20 x1 (nI nh2) sh I else orf (sh.2.2 x0 1) fun t11 => og (sepB sh (some t11) (sh.2.2 exS 0) = true) <| if (some t11) = (sh.2.2 exS 0) then onl (if (nI 10) < x1 then x1 else (nI 10)) fun n52 => onw sh <| omn3 (newS sh 200 n52) <| ockw (newS sh 200 n52) x0 3 <| some (((sh).1), shR (newS sh 200 n52) x0 1 (some ((sh).1)), newI sh I) else f_J5_grow_2_J20 x1 (nI nh2) sh I
abbrev rmf_J5_grow_2 : Nat := 1
abbrev rml_J5_grow_2 : Nat := 40
theorem mv_J5_grow_2_ok : callOK yJ5_grow_2 1 := by decide +kernel
theorem mv_J5_grow_2 : MV yJ5_grow_2 cJ5_grow_2 4 (some (.array (.object "java/lang/Object"))) 1 := ⟨q1274, qs18, q99, q1275, mv_J5_grow_2_ok⟩
set_option maxHeartbeats 4000000 in
theorem ct_J5_grow_2 {G : WG} {l : Launch} {sh : SH} {I : II} {x0 : Nat} {x1 : Int32} {Z : (Nat × SH × II)} (hk : f_J5_grow_2 sh x0 x1 I = some Z) : CT G l yJ5_grow_2 (ws_ yJ5_grow_2 cJ5_grow_2 4 (some (.array (.object "java/lang/Object")))) (rmA rmf_J5_grow_2 rml_J5_grow_2 (Z.2.1.1 - sh.1)) [.ref (wad G x0), .int x1] (sh, I) (.returned (some (.ref (wad G Z.1)))) Z.2 := by
  refine CT.ofJ "java/util/ArrayList" rfl (by decide) (Nat.le_of_ble_eq_true rfl) ?_
  intro p e s m args below meth c C
  unfold f_J5_grow_2 at hk
  refine j_lv (lv' := [some (.ref (wad G x0)), some (.int x1), none, none]) rfl ?_
  replace hk := omn3_some hk
  obtain ⟨hz0, hk⟩ := hk
  have hm0 : sh.1 ≤ sh.1 := Nat.le_refl _
  refine j_kn (k' := sh.1 - sh.1) (n' := 200 * (sh.1 - sh.1)) (Nat.sub_self _).symm (rb2 _) ?_
  refine j_aload_n (pc := 0) C dJ5_grow_2_0 rfl rfl ?_
  replace hk := ock_some hk
  obtain ⟨h1, hk⟩ := hk
  replace hk := orf_some hk
  obtain ⟨t1, et1, hk⟩ := hk
  refine x_getR (pc := 1) C fd_3_1 (fl1 C q235) h1 et1 dJ5_grow_2_1 ?_
  replace hk := oar_some hk
  obtain ⟨nh2, h2, hk⟩ := hk
  refine x_alen (pc := 4) C h2 (by decide) dJ5_grow_2_4 ?_
  refine j_istore_n (pc := 5) C dJ5_grow_2_5 rfl (Nat.le_of_ble_eq_true rfl) rfl ?_
  refine j_iload_n (pc := 6) C dJ5_grow_2_6 rfl rfl ?_
  have Jn20 : ∀ (x1 : Int32) (x2 : Int32) (S : SH) (I : II), sh.1 ≤ S.1 → S.1 ≤ Z.2.1.1 → f_J5_grow_2_J20 x1 x2 S I = some Z → J G p l e (rmA rmf_J5_grow_2 rml_J5_grow_2 (Z.2.1.1 - sh.1)) s m args below meth c 4 (.returned (some (.ref (wad G Z.1)))) Z.2 ((rmA rmf_J5_grow_2 rml_J5_grow_2 (Z.2.1.1 - sh.1))).cells ((rmA rmf_J5_grow_2 rml_J5_grow_2 (Z.2.1.1 - sh.1))).slots (S, I) ((S).1 - sh.1) (200 * ((S).1 - sh.1)) 20 [none, some (.int x1), some (.int x2), none] [] := by
    intro x1 x2 S I hm hz hk
    unfold f_J5_grow_2_J20 at hk
    refine j_iload_n (pc := 20) C dJ5_grow_2_20 rfl rfl ?_
    refine j_iload_n (pc := 21) C dJ5_grow_2_21 rfl rfl ?_
    refine j_iload_n (pc := 22) C dJ5_grow_2_22 rfl rfl ?_
    refine j_isub (pc := 23) C dJ5_grow_2_23 ?_
    refine j_iload_n (pc := 24) C dJ5_grow_2_24 rfl rfl ?_
    refine j_iconst (pc := 25) (v := nI 1) C dJ5_grow_2_25 (by decide) ?_
    refine j_ishr (pc := 26) C dJ5_grow_2_26 ?_
    cases hk
  refine j_if_gt (pc := 7) 20 C dJ5_grow_2_7 (by decide) (fun h3 => ?_) (fun h3 => ?_)
  · replace hk := it_t h3 hk
    exact j_mask [false, true, true, false] (Jn20 _ _ _ _ hm0 hz0 hk)
  · replace hk := it_f h3 hk
    refine j_aload_n (pc := 10) C dJ5_grow_2_10 rfl rfl ?_
    replace hk := orf_some hk
    obtain ⟨t11, et11, hk⟩ := hk
    refine x_getR (pc := 11) C fd_3_1 (fl1 C q235) h1 et11 dJ5_grow_2_11 ?_
    refine x_getsR (pc := 14) 0 C rfl q233 dJ5_grow_2_14 ?_
    replace hk := og_some hk
    obtain ⟨h4, hk⟩ := hk
    refine x_acmpE (pc := 17) (rx := (some t11)) (ry := (sh.2.2 exS 0)) 45 C h4 dJ5_grow_2_17 (by decide) (fun h5 => ?_) (fun h5 => ?_)
    · replace hk := it_t h5 hk
      refine j_aload_n (pc := 45) C dJ5_grow_2_45 rfl rfl ?_
      refine j_bipush (pc := 46) (v := nI 10) C dJ5_grow_2_46 (by decide) ?_
      refine j_iload_n (pc := 48) C dJ5_grow_2_48 rfl rfl ?_
      refine j_mmax (pc := 49) C q1319 q744 q107 q745 dJ5_grow_2_49 (Nat.le_of_ble_eq_true rfl) (Nat.le_of_ble_eq_true rfl) (rc1 hm0 hz0) (rc2 hm0 hz0) ?_
      replace hk := onl_ex hk
      obtain ⟨n52, en52, h6, hk⟩ := hk
      replace hk := onw_some hk
      obtain ⟨h7, hk⟩ := hk
      replace hk := omn3_some hk
      obtain ⟨h8, hk⟩ := hk
      have h8 : sh.1 + 1 ≤ Z.2.1.1 := h8
      refine x_anew (pc := 52) (t := 200) (q := n52) (i := (if (nI 10) < x1 then x1 else (nI 10))) C (Or.inl ⟨rfl, rfl⟩) q1320 q1317 h6.1 en52.symm (Nat.le_trans h6.2 (by decide)) h7 (ra1 hm0 h8) (ra2 hm0 h8 h6.2) dJ5_grow_2_52 ?_
      have h9 : sh.1 ≤ sh.1 + 1 := Nat.le_succ_of_le hm0
      refine j_wid (k' := (newS sh 200 n52).1 - sh.1) (n' := 200 * ((newS sh 200 n52).1 - sh.1)) (rw1 hm0) (rw2 hm0 h6.2) ?_
      refine j_dup_x1 (pc := 55) C dJ5_grow_2_55 rfl rfl ?_
      replace hk := ockw_some hk
      obtain ⟨h10, hk⟩ := hk
      refine x_putN (pc := 56) (o := (some ((sh).1))) C fd_3_1 (fl1 C q235) h10 rfl dJ5_grow_2_56 ?_
      obtain rfl := Option.some.inj hk
      exact x_aret (pc := 59) C dJ5_grow_2_59 (Nat.le_refl _) (Nat.le_refl _) rfl
    · replace hk := it_f h5 hk
      exact j_mask [false, true, true, false] (Jn20 _ _ _ _ hm0 hz0 hk)
def f_J5_grow (sh : SH) (x0 : Nat) (I : II) : Option (Nat × SH × II) := omn3 sh <| ock sh x0 3 <| bd3 (f_J5_grow_2 sh x0 ((I x0 2) + (nI 1)) I) fun a7 S7 I7 => og (sh.1 ≤ S7.1) <| omn3 S7 <| some (a7, S7, I7)
abbrev rmf_J5_grow : Nat := 2
abbrev rml_J5_grow : Nat := 63
theorem mv_J5_grow_ok : callOK yJ5_grow 0 := by decide +kernel
theorem mv_J5_grow : MV yJ5_grow cJ5_grow 1 (some (.array (.object "java/lang/Object"))) 0 := ⟨q1270, qs17, q99, q1271, mv_J5_grow_ok⟩
set_option maxHeartbeats 4000000 in
theorem ct_J5_grow {G : WG} {l : Launch} {sh : SH} {I : II} {x0 : Nat} {Z : (Nat × SH × II)} (hk : f_J5_grow sh x0 I = some Z) : CT G l yJ5_grow (ws_ yJ5_grow cJ5_grow 1 (some (.array (.object "java/lang/Object")))) (rmA rmf_J5_grow rml_J5_grow (Z.2.1.1 - sh.1)) [.ref (wad G x0)] (sh, I) (.returned (some (.ref (wad G Z.1)))) Z.2 := by
  refine CT.ofJ "java/util/ArrayList" rfl (by decide) (Nat.le_of_ble_eq_true rfl) ?_
  intro p e s m args below meth c C
  unfold f_J5_grow at hk
  refine j_lv (lv' := [some (.ref (wad G x0))]) rfl ?_
  replace hk := omn3_some hk
  obtain ⟨hz0, hk⟩ := hk
  have hm0 : sh.1 ≤ sh.1 := Nat.le_refl _
  refine j_kn (k' := sh.1 - sh.1) (n' := 200 * (sh.1 - sh.1)) (Nat.sub_self _).symm (rb2 _) ?_
  refine j_aload_n (pc := 0) C dJ5_grow_0 rfl rfl ?_
  refine j_aload_n (pc := 1) C dJ5_grow_1 rfl rfl ?_
  replace hk := ock_some hk
  obtain ⟨h1, hk⟩ := hk
  refine x_getI (pc := 2) C fd_3_2 (fl1 C q236) h1 dJ5_grow_2 ?_
  refine j_iconst (pc := 5) (v := nI 1) C dJ5_grow_5 (by decide) ?_
  refine j_iadd (pc := 6) C dJ5_grow_6 ?_
  replace hk := bd3_some hk
  obtain ⟨a7, S7, I7, h2, hk⟩ := hk
  replace hk := og_some hk
  obtain ⟨h3, hk⟩ := hk
  replace hk := omn3_some hk
  obtain ⟨h4, hk⟩ := hk
  have h5 : sh.1 ≤ S7.1 := Nat.le_trans hm0 h3
  refine x_callV (pc := 7) C (ct_J5_grow_2 h2) mv_J5_grow_2 h1 rfl rfl q1272 dJ5_grow_7 rfl rfl (Nat.le_of_ble_eq_true rfl) (rmOK.i (Nat.le_of_ble_eq_true rfl) (Nat.le_of_ble_eq_true rfl) (rm1 hm0 h3 h4) (rm2 hm0 h3 h4)) ?_
  refine j_kn (k' := S7.1 - sh.1) (n' := 200 * (S7.1 - sh.1)) (rk1 hm0 h3) (rk2 hm0 h3) ?_
  obtain rfl := Option.some.inj hk
  exact x_aret (pc := 10) C dJ5_grow_10 (Nat.le_refl _) (Nat.le_refl _) rfl
def f_J5_add_2_J11 (x0 : Nat) (x1 : Nat) (x2 : Nat) (x3 : Int32) (S : SH) (I : II) : Option (SH × II) := oarw S x2 200 fun nh2 => ockD S x1 <| oix x3 nh2 fun i14 => ockw (shR S x2 i14 (some x1)) x0 3 <| some (shR S x2 i14 (some x1), up2 I x0 2 (x3 + (nI 1)))
def f_J5_add_2 (sh : SH) (x0 : Nat) (x1 : Nat) (x2 : Nat) (x3 : Int32) (I : II) : Option (SH × II) := omn2 sh <| oar sh x2 200 fun nh1 => if x3 = (nI nh1) then ock sh x0 3 <| bd3 (f_J5_grow sh x0 I) fun a7 S7 I7 => og (sh.1 ≤ S7.1) <| omn2 S7 <| f_J5_add_2_J11 x0 x1 a7 x3 S7 I7 else f_J5_add_2_J11 x0 x1 x2 x3 sh I
abbrev rmf_J5_add_2 : Nat := 3
abbrev rml_J5_add_2 : Nat := 83
theorem mv_J5_add_2_ok : callOK yJ5_add_2 3 := by decide +kernel
theorem mv_J5_add_2 : MV yJ5_add_2 cJ5_add_2 4 none 3 := ⟨q1266, qs16, q99, q1267, mv_J5_add_2_ok⟩
set_option maxHeartbeats 4000000 in
theorem ct_J5_add_2 {G : WG} {l : Launch} {sh : SH} {I : II} {x0 : Nat} {x1 : Nat} {x2 : Nat} {x3 : Int32} {Z : (SH × II)} (hk : f_J5_add_2 sh x0 x1 x2 x3 I = some Z) : CT G l yJ5_add_2 (ws_ yJ5_add_2 cJ5_add_2 4 none) (rmA rmf_J5_add_2 rml_J5_add_2 (Z.1.1 - sh.1)) [.ref (wad G x0), .ref (wad G x1), .ref (wad G x2), .int x3] (sh, I) (.returned none) Z := by
  refine CT.ofJ "java/util/ArrayList" rfl (by decide) (Nat.le_of_ble_eq_true rfl) ?_
  intro p e s m args below meth c C
  unfold f_J5_add_2 at hk
  refine j_lv (lv' := [some (.ref (wad G x0)), some (.ref (wad G x1)), some (.ref (wad G x2)), some (.int x3)]) rfl ?_
  replace hk := omn2_some hk
  obtain ⟨hz0, hk⟩ := hk
  have hm0 : sh.1 ≤ sh.1 := Nat.le_refl _
  refine j_kn (k' := sh.1 - sh.1) (n' := 200 * (sh.1 - sh.1)) (Nat.sub_self _).symm (rb2 _) ?_
  refine j_iload_n (pc := 0) C dJ5_add_2_0 rfl rfl ?_
  refine j_aload_n (pc := 1) C dJ5_add_2_1 rfl rfl ?_
  replace hk := oar_some hk
  obtain ⟨nh1, h1, hk⟩ := hk
  refine x_alen (pc := 2) C h1 (by decide) dJ5_add_2_2 ?_
  have Jn11 : ∀ (x0 : Nat) (x1 : Nat) (x2 : Nat) (x3 : Int32) (S : SH) (I : II), sh.1 ≤ S.1 → S.1 ≤ Z.1.1 → f_J5_add_2_J11 x0 x1 x2 x3 S I = some Z → J G p l e (rmA rmf_J5_add_2 rml_J5_add_2 (Z.1.1 - sh.1)) s m args below meth c 4 (.returned none) Z ((rmA rmf_J5_add_2 rml_J5_add_2 (Z.1.1 - sh.1))).cells ((rmA rmf_J5_add_2 rml_J5_add_2 (Z.1.1 - sh.1))).slots (S, I) ((S).1 - sh.1) (200 * ((S).1 - sh.1)) 11 [some (.ref (wad G x0)), some (.ref (wad G x1)), some (.ref (wad G x2)), some (.int x3)] [] := by
    intro x0 x1 x2 x3 S I hm hz hk
    unfold f_J5_add_2_J11 at hk
    refine j_aload_n (pc := 11) C dJ5_add_2_11 rfl rfl ?_
    refine j_iload_n (pc := 12) C dJ5_add_2_12 rfl rfl ?_
    refine j_aload_n (pc := 13) C dJ5_add_2_13 rfl rfl ?_
    replace hk := oarw_some hk
    obtain ⟨nh2, h2, hk⟩ := hk
    replace hk := ockD_some hk
    obtain ⟨ch4, ch4h, h4, hk⟩ := hk
    replace hk := oix_ex hk
    obtain ⟨i14, e14, h3, hk⟩ := hk
    obtain ⟨cr14, hcr14, hcs14⟩ := castD_java_lang_Object ch4h
    refine x_aast (pc := 14) C h2 (by decide) h3 e14 h4 hcr14 (hcs14.elim (fun h => Or.inr h) (fun h => Or.inl (C.nw h rfl))) dJ5_add_2_14 ?_
    refine j_aload_n (pc := 15) C dJ5_add_2_15 rfl rfl ?_
    refine j_iload_n (pc := 16) C dJ5_add_2_16 rfl rfl ?_
    refine j_iconst (pc := 17) (v := nI 1) C dJ5_add_2_17 (by decide) ?_
    refine j_iadd (pc := 18) C dJ5_add_2_18 ?_
    replace hk := ockw_some hk
    obtain ⟨h5, hk⟩ := hk
    refine x_putI (pc := 19) C fd_3_2 (fl1 C q236) h5 rfl rfl dJ5_add_2_19 ?_
    obtain rfl := Option.some.inj hk
    exact j_vret (pc := 22) C dJ5_add_2_22 (Nat.le_refl _) (Nat.le_refl _)
  refine j_icmp_ne (pc := 3) 11 C dJ5_add_2_3 (by decide) (fun h6 => ?_) (fun h6 => ?_)
  · replace hk := it_f h6 hk
    exact j_mask [true, true, true, true] (Jn11 _ _ _ _ _ _ hm0 hz0 hk)
  · replace hk := it_t h6 hk
    refine j_aload_n (pc := 6) C dJ5_add_2_6 rfl rfl ?_
    replace hk := ock_some hk
    obtain ⟨h7, hk⟩ := hk
    replace hk := bd3_some hk
    obtain ⟨a7, S7, I7, h8, hk⟩ := hk
    replace hk := og_some hk
    obtain ⟨h9, hk⟩ := hk
    replace hk := omn2_some hk
    obtain ⟨h10, hk⟩ := hk
    have h11 : sh.1 ≤ S7.1 := Nat.le_trans hm0 h9
    refine x_callV (pc := 7) C (ct_J5_grow h8) mv_J5_grow h7 rfl rfl q1268 dJ5_add_2_7 rfl rfl (Nat.le_of_ble_eq_true rfl) (rmOK.i (Nat.le_of_ble_eq_true rfl) (Nat.le_of_ble_eq_true rfl) (rm1 hm0 h9 h10) (rm2 hm0 h9 h10)) ?_
    refine j_kn (k' := S7.1 - sh.1) (n' := 200 * (S7.1 - sh.1)) (rk1 hm0 h9) (rk2 hm0 h9) ?_
    refine j_astore_n (pc := 10) C dJ5_add_2_10 rfl (Nat.le_of_ble_eq_true rfl) rfl ?_
    exact j_mask [true, true, true, true] (Jn11 _ _ _ _ _ _ h11 h10 hk)
def f_J5_add (sh : SH) (x0 : Nat) (x1 : Nat) (I : II) : Option (Int32 × SH × II) := omn3 sh <| ock sh x0 3 <| ockw sh x0 3 <| orf (sh.2.2 x0 1) fun t13 => bd2 (f_J5_add_2 sh x0 x1 t13 ((up2 I x0 0 ((I x0 0) + (nI 1))) x0 2) (up2 I x0 0 ((I x0 0) + (nI 1)))) fun S20 I20 => og (sh.1 ≤ S20.1) <| omn3 S20 <| some ((nI 1), S20, I20)
abbrev rmf_J5_add : Nat := 4
abbrev rml_J5_add : Nat := 106
theorem mv_J5_add_ok : callOK yJ5_add 1 := by decide +kernel
theorem mv_J5_add : MV yJ5_add cJ5_add 2 (some .boolean) 1 := ⟨q1261, q1262, q99, q1263, mv_J5_add_ok⟩
set_option maxHeartbeats 4000000 in
theorem ct_J5_add {G : WG} {l : Launch} {sh : SH} {I : II} {x0 : Nat} {x1 : Nat} {Z : (Int32 × SH × II)} (hk : f_J5_add sh x0 x1 I = some Z) : CT G l yJ5_add (ws_ yJ5_add cJ5_add 2 (some .boolean)) (rmA rmf_J5_add rml_J5_add (Z.2.1.1 - sh.1)) [.ref (wad G x0), .ref (wad G x1)] (sh, I) (.returned (some (.int Z.1))) Z.2 := by
  refine CT.ofJ "java/util/ArrayList" rfl (by decide) (Nat.le_of_ble_eq_true rfl) ?_
  intro p e s m args below meth c C
  unfold f_J5_add at hk
  refine j_lv (lv' := [some (.ref (wad G x0)), some (.ref (wad G x1))]) rfl ?_
  replace hk := omn3_some hk
  obtain ⟨hz0, hk⟩ := hk
  have hm0 : sh.1 ≤ sh.1 := Nat.le_refl _
  refine j_kn (k' := sh.1 - sh.1) (n' := 200 * (sh.1 - sh.1)) (Nat.sub_self _).symm (rb2 _) ?_
  refine j_aload_n (pc := 0) C dJ5_add_0 rfl rfl ?_
  refine j_dup (pc := 1) C dJ5_add_1 rfl ?_
  replace hk := ock_some hk
  obtain ⟨h1, hk⟩ := hk
  refine x_getI (pc := 2) C fd_3_0 (fl2 C q238 q239) h1 dJ5_add_2 ?_
  refine j_iconst (pc := 5) (v := nI 1) C dJ5_add_5 (by decide) ?_
  refine j_iadd (pc := 6) C dJ5_add_6 ?_
  replace hk := ockw_some hk
  obtain ⟨h2, hk⟩ := hk
  refine x_putI (pc := 7) C fd_3_0 (fl2 C q238 q239) h2 rfl rfl dJ5_add_7 ?_
  refine j_aload_n (pc := 10) C dJ5_add_10 rfl rfl ?_
  refine j_aload_n (pc := 11) C dJ5_add_11 rfl rfl ?_
  refine j_aload_n (pc := 12) C dJ5_add_12 rfl rfl ?_
  replace hk := orf_some hk
  obtain ⟨t13, et13, hk⟩ := hk
  refine x_getR (pc := 13) C fd_3_1 (fl1 C q235) h2.r et13 dJ5_add_13 ?_
  refine j_aload_n (pc := 16) C dJ5_add_16 rfl rfl ?_
  refine x_getI (pc := 17) C fd_3_2 (fl1 C q236) h2.r dJ5_add_17 ?_
  replace hk := bd2_some hk
  obtain ⟨S20, I20, h3, hk⟩ := hk
  replace hk := og_some hk
  obtain ⟨h4, hk⟩ := hk
  replace hk := omn3_some hk
  obtain ⟨h5, hk⟩ := hk
  have h6 : sh.1 ≤ S20.1 := Nat.le_trans hm0 h4
  refine x_callV (pc := 20) C (ct_J5_add_2 h3) mv_J5_add_2 h2.r rfl rfl q1264 dJ5_add_20 rfl rfl (Nat.le_of_ble_eq_true rfl) (rmOK.i (Nat.le_of_ble_eq_true rfl) (Nat.le_of_ble_eq_true rfl) (rm1 hm0 h4 h5) (rm2 hm0 h4 h5)) ?_
  refine j_kn (k' := S20.1 - sh.1) (n' := 200 * (S20.1 - sh.1)) (rk1 hm0 h4) (rk2 hm0 h4) ?_
  refine j_iconst (pc := 23) (v := nI 1) C dJ5_add_23 (by decide) ?_
  obtain rfl := Option.some.inj hk
  exact j_zret (pc := 24) C dJ5_add_24 (Nat.le_refl _) (Nat.le_refl _) (isB.nar (v := (nI 1)) (by unfold isB; decide))
def f_X2_copy_L25 (F : Nat) (x0 : Nat) (x1 : Nat) : Nat → Int32 → SH → II → Option (Nat × SH × II)
  | 0, _, _, _ => none
  | n25 + 1, x2, S, I => ock S x0 2 <| orf (S.2.2 x0 1) fun t27 => ock S t27 3 <| (f_J5_size S t27 I).bind fun r30 => if r30 ≤ x2 then orf (S.2.2 x0 2) fun t65 => ock S x1 2 <| orf (S.2.2 x1 2) fun t70 => oar S t65 101 fun nh18 => oarw S t70 101 fun nh19 => og ((¬ (nI 0) < 0 ∧ ¬ (nI 0) < 0 ∧ ¬ (nI 50) < 0) ∧ Int32.toNatClampNeg (nI 0) + Int32.toNatClampNeg (nI 50) ≤ nh18 ∧ Int32.toNatClampNeg (nI 0) + Int32.toNatClampNeg (nI 50) ≤ nh19) <| og (∀ i, i < Int32.toNatClampNeg (nI 50) → Int8.toInt32 (Int32.toInt8 (I t65 (Int32.toNatClampNeg (nI 0) + i))) = I t65 (Int32.toNatClampNeg (nI 0) + i)) <| ockw S x1 2 <| orf (S.2.2 x0 4) fun t88 => orf (S.2.2 x1 4) fun t93 => oar S t88 100 fun nh23 => oarw S t93 100 fun nh24 => og ((¬ (nI 0) < 0 ∧ ¬ (nI 0) < 0 ∧ ¬ (nI 20) < 0) ∧ Int32.toNatClampNeg (nI 0) + Int32.toNatClampNeg (nI 20) ≤ nh23 ∧ Int32.toNatClampNeg (nI 0) + Int32.toNatClampNeg (nI 20) ≤ nh24) <| some (x1, S, up2 (upr (up2 (upr I t70 (va_cpy (I t65) (I t70) (Int32.toNatClampNeg (nI 0)) (Int32.toNatClampNeg (nI 0)) (Int32.toNatClampNeg (nI 50)))) x1 3 ((upr I t70 (va_cpy (I t65) (I t70) (Int32.toNatClampNeg (nI 0)) (Int32.toNatClampNeg (nI 0)) (Int32.toNatClampNeg (nI 50)))) x0 3)) t93 (va_cpy ((up2 (upr I t70 (va_cpy (I t65) (I t70) (Int32.toNatClampNeg (nI 0)) (Int32.toNatClampNeg (nI 0)) (Int32.toNatClampNeg (nI 50)))) x1 3 ((upr I t70 (va_cpy (I t65) (I t70) (Int32.toNatClampNeg (nI 0)) (Int32.toNatClampNeg (nI 0)) (Int32.toNatClampNeg (nI 50)))) x0 3)) t88) ((up2 (upr I t70 (va_cpy (I t65) (I t70) (Int32.toNatClampNeg (nI 0)) (Int32.toNatClampNeg (nI 0)) (Int32.toNatClampNeg (nI 50)))) x1 3 ((upr I t70 (va_cpy (I t65) (I t70) (Int32.toNatClampNeg (nI 0)) (Int32.toNatClampNeg (nI 0)) (Int32.toNatClampNeg (nI 50)))) x0 3)) t93) (Int32.toNatClampNeg (nI 0)) (Int32.toNatClampNeg (nI 0)) (Int32.toNatClampNeg (nI 20)))) x1 5 ((upr (up2 (upr I t70 (va_cpy (I t65) (I t70) (Int32.toNatClampNeg (nI 0)) (Int32.toNatClampNeg (nI 0)) (Int32.toNatClampNeg (nI 50)))) x1 3 ((upr I t70 (va_cpy (I t65) (I t70) (Int32.toNatClampNeg (nI 0)) (Int32.toNatClampNeg (nI 0)) (Int32.toNatClampNeg (nI 50)))) x0 3)) t93 (va_cpy ((up2 (upr I t70 (va_cpy (I t65) (I t70) (Int32.toNatClampNeg (nI 0)) (Int32.toNatClampNeg (nI 0)) (Int32.toNatClampNeg (nI 50)))) x1 3 ((upr I t70 (va_cpy (I t65) (I t70) (Int32.toNatClampNeg (nI 0)) (Int32.toNatClampNeg (nI 0)) (Int32.toNatClampNeg (nI 50)))) x0 3)) t88) ((up2 (upr I t70 (va_cpy (I t65) (I t70) (Int32.toNatClampNeg (nI 0)) (Int32.toNatClampNeg (nI 0)) (Int32.toNatClampNeg (nI 50)))) x1 3 ((upr I t70 (va_cpy (I t65) (I t70) (Int32.toNatClampNeg (nI 0)) (Int32.toNatClampNeg (nI 0)) (Int32.toNatClampNeg (nI 50)))) x0 3)) t93) (Int32.toNatClampNeg (nI 0)) (Int32.toNatClampNeg (nI 0)) (Int32.toNatClampNeg (nI 20)))) x0 5)) else ock S x1 2 <| orf (S.2.2 x1 1) fun t37 => orf (S.2.2 x0 1) fun t41 => ock S t41 3 <| (f_J5_get S t41 x2 I).bind fun a45 => ockD S a45 <| bd3 (v_X10_again S a45 I) fun a51 S51 I51 => og (S.1 ≤ S51.1) <| omn3 S51 <| ock S51 t37 3 <| bd3 (f_J5_add S51 t37 a51 I51) fun r54 S54 I54 => og (S51.1 ≤ S54.1) <| omn3 S54 <| (f_X2_copy_L25 F x0 x1 n25) (x2 + (nI 1)) S54 I54
def f_X2_copy (F : Nat) (sh : SH) (x0 : Nat) (I : II) : Option (Nat × SH × II) := omn3 sh <| onw sh <| omn3 (newS sh 2 0) <| bd2 (f_X2_init F (newS sh 2 0) ((sh).1) (newI sh I)) fun S4 I4 => og (sh.1 + 1 ≤ S4.1) <| omn3 S4 <| ock S4 x0 2 <| orf (S4.2.2 x0 0) fun t9 => ock S4 ((sh).1) 2 <| orf (S4.2.2 ((sh).1) 0) fun t14 => oar S4 t9 100 fun nh10 => oarw S4 t14 100 fun nh11 => og ((¬ (nI 0) < 0 ∧ ¬ (nI 0) < 0 ∧ ¬ (nI 12) < 0) ∧ Int32.toNatClampNeg (nI 0) + Int32.toNatClampNeg (nI 12) ≤ nh10 ∧ Int32.toNatClampNeg (nI 0) + Int32.toNatClampNeg (nI 12) ≤ nh11) <| f_X2_copy_L25 F x0 ((sh).1) F (nI 0) S4 (upr I4 t14 (va_cpy (I4 t9) (I4 t14) (Int32.toNatClampNeg (nI 0)) (Int32.toNatClampNeg (nI 0)) (Int32.toNatClampNeg (nI 12))))
abbrev rmf_X2_copy : Nat := 6
abbrev rml_X2_copy : Nat := 140
theorem mv_X2_copy_ok : callOK yX2_copy 0 := by decide +kernel
theorem mv_X2_copy : MV yX2_copy cX2_copy 3 (some (.object "NineDemands$Village")) 0 := ⟨q1908, q1909, q96, q1910, mv_X2_copy_ok⟩
set_option maxHeartbeats 4000000 in
theorem ct_X2_copy {G : WG} {l : Launch} {sh : SH} {I : II} {F : Nat} {x0 : Nat} {Z : (Nat × SH × II)} (hk : f_X2_copy F sh x0 I = some Z) : CT G l yX2_copy (ws_ yX2_copy cX2_copy 3 (some (.object "NineDemands$Village"))) (rmA rmf_X2_copy rml_X2_copy (Z.2.1.1 - sh.1)) [.ref (wad G x0)] (sh, I) (.returned (some (.ref (wad G Z.1)))) Z.2 := by
  refine CT.ofJ "NineDemands$Village" rfl (by decide) (Nat.le_of_ble_eq_true rfl) ?_
  intro p e s m args below meth c C
  unfold f_X2_copy at hk
  refine j_lv (lv' := [some (.ref (wad G x0)), none, none]) rfl ?_
  replace hk := omn3_some hk
  obtain ⟨hz0, hk⟩ := hk
  have hm0 : sh.1 ≤ sh.1 := Nat.le_refl _
  refine j_kn (k' := sh.1 - sh.1) (n' := 200 * (sh.1 - sh.1)) (Nat.sub_self _).symm (rb2 _) ?_
  replace hk := onw_some hk
  obtain ⟨h1, hk⟩ := hk
  replace hk := omn3_some hk
  obtain ⟨h2, hk⟩ := hk
  have h2 : sh.1 + 1 ≤ Z.2.1.1 := h2
  refine x_new (pc := 0) (c2 := 2) C rfl (born_2) q1911 q216 q96 h1 (ra1 hm0 h2) (ra2 hm0 h2 (by decide)) dX2_copy_0 ?_
  have h3 : sh.1 ≤ sh.1 + 1 := Nat.le_succ_of_le hm0
  refine j_wid (k' := (newS sh 2 0).1 - sh.1) (n' := 200 * ((newS sh 2 0).1 - sh.1)) (rw1 hm0) (rw2 hm0 (by decide)) ?_
  refine j_dup (pc := 3) C dX2_copy_3 rfl ?_
  replace hk := bd2_some hk
  obtain ⟨S4, I4, h4, hk⟩ := hk
  replace hk := og_some hk
  obtain ⟨h5, hk⟩ := hk
  replace hk := omn3_some hk
  obtain ⟨h6, hk⟩ := hk
  have h7 : sh.1 ≤ S4.1 := Nat.le_trans h3 h5
  refine x_callI (pc := 4) C (ct_X2_init h4) mi_X2_init q1912 dX2_copy_4 rfl rfl (Nat.le_of_ble_eq_true rfl) (rmOK.i (Nat.le_of_ble_eq_true rfl) (Nat.le_of_ble_eq_true rfl) (rm1 h3 h5 h6) (rm2 h3 h5 h6)) ?_
  refine j_kn (k' := S4.1 - sh.1) (n' := 200 * (S4.1 - sh.1)) (rk1 h3 h5) (rk2 h3 h5) ?_
  refine j_astore_n (pc := 7) C dX2_copy_7 rfl (Nat.le_of_ble_eq_true rfl) rfl ?_
  refine j_aload_n (pc := 8) C dX2_copy_8 rfl rfl ?_
  replace hk := ock_some hk
  obtain ⟨h8, hk⟩ := hk
  replace hk := orf_some hk
  obtain ⟨t9, et9, hk⟩ := hk
  refine x_getR (pc := 9) C fd_2_0 (fl1 C q248) h8 et9 dX2_copy_9 ?_
  refine j_iconst (pc := 12) (v := nI 0) C dX2_copy_12 (by decide) ?_
  refine j_aload_n (pc := 13) C dX2_copy_13 rfl rfl ?_
  replace hk := ock_some hk
  obtain ⟨h9, hk⟩ := hk
  replace hk := orf_some hk
  obtain ⟨t14, et14, hk⟩ := hk
  refine x_getR (pc := 14) C fd_2_0 (fl1 C q248) h9 et14 dX2_copy_14 ?_
  refine j_iconst (pc := 17) (v := nI 0) C dX2_copy_17 (by decide) ?_
  refine j_bipush (pc := 18) (v := nI 12) C dX2_copy_18 (by decide) ?_
  replace hk := oar_some hk
  obtain ⟨nh10, h10, hk⟩ := hk
  replace hk := oarw_some hk
  obtain ⟨nh11, h11, hk⟩ := hk
  replace hk := og_some hk
  obtain ⟨h12, hk⟩ := hk
  refine x_copy (pc := 20) C (Or.inl ⟨rfl, rfl⟩) q1913 q764 q763 q121 h10 h11 h12 (Or.inl rfl) (Nat.le_of_ble_eq_true rfl) (Nat.le_of_ble_eq_true rfl) dX2_copy_20 ?_
  refine j_iconst (pc := 23) (v := nI 0) C dX2_copy_23 (by decide) ?_
  refine j_istore_n (pc := 24) C dX2_copy_24 rfl (Nat.le_of_ble_eq_true rfl) rfl ?_
  have L25 : ∀ (x0 : Nat) (x1 : Nat) (n25 : Nat) (x2 : Int32) (S : SH) (I : II), sh.1 ≤ S.1 → S.1 ≤ Z.2.1.1 → f_X2_copy_L25 F x0 x1 n25 x2 S I = some Z → J G p l e (rmA rmf_X2_copy rml_X2_copy (Z.2.1.1 - sh.1)) s m args below meth c 3 (.returned (some (.ref (wad G Z.1)))) Z.2 ((rmA rmf_X2_copy rml_X2_copy (Z.2.1.1 - sh.1))).cells ((rmA rmf_X2_copy rml_X2_copy (Z.2.1.1 - sh.1))).slots (S, I) ((S).1 - sh.1) (200 * ((S).1 - sh.1)) 25 [some (.ref (wad G x0)), some (.ref (wad G x1)), some (.int x2)] [] := by
    intro x0 x1 n25
    induction n25 with
    | zero => intro x2 S I hm hz hk; rw [f_X2_copy_L25] at hk; cases hk
    | succ n25 ih25 =>
      intro x2 S I hm hz hk
      rw [f_X2_copy_L25] at hk
      generalize f_X2_copy_L25 F x0 x1 n25 = k25 at ih25 hk
      refine j_iload_n (pc := 25) C dX2_copy_25 rfl rfl ?_
      refine j_aload_n (pc := 26) C dX2_copy_26 rfl rfl ?_
      replace hk := ock_some hk
      obtain ⟨h13, hk⟩ := hk
      replace hk := orf_some hk
      obtain ⟨t27, et27, hk⟩ := hk
      refine x_getR (pc := 27) C fd_2_1 (fl1 C q250) h13 et27 dX2_copy_27 ?_
      replace hk := ock_some hk
      obtain ⟨h14, hk⟩ := hk
      replace hk := ob_some hk
      obtain ⟨r30, h15, hk⟩ := hk
      refine x_callV (pc := 30) C (ct_J5_size h15) mv_J5_size h14 rfl rfl q1534 dX2_copy_30 rfl rfl (Nat.le_of_ble_eq_true rfl) (rmOK.i (Nat.le_of_ble_eq_true rfl) (Nat.le_of_ble_eq_true rfl) (rz1 hm hz) (rz2 hm hz)) ?_
      refine j_icmp_ge (pc := 33) 64 C dX2_copy_33 (by decide) (fun h16 => ?_) (fun h16 => ?_)
      · replace hk := it_t h16 hk
        refine j_aload_n (pc := 64) C dX2_copy_64 rfl rfl ?_
        replace hk := orf_some hk
        obtain ⟨t65, et65, hk⟩ := hk
        refine x_getR (pc := 65) C fd_2_2 (fl1 C q252) h13 et65 dX2_copy_65 ?_
        refine j_iconst (pc := 68) (v := nI 0) C dX2_copy_68 (by decide) ?_
        refine j_aload_n (pc := 69) C dX2_copy_69 rfl rfl ?_
        replace hk := ock_some hk
        obtain ⟨h17, hk⟩ := hk
        replace hk := orf_some hk
        obtain ⟨t70, et70, hk⟩ := hk
        refine x_getR (pc := 70) C fd_2_2 (fl1 C q252) h17 et70 dX2_copy_70 ?_
        refine j_iconst (pc := 73) (v := nI 0) C dX2_copy_73 (by decide) ?_
        refine j_bipush (pc := 74) (v := nI 50) C dX2_copy_74 (by decide) ?_
        replace hk := oar_some hk
        obtain ⟨nh18, h18, hk⟩ := hk
        replace hk := oarw_some hk
        obtain ⟨nh19, h19, hk⟩ := hk
        replace hk := og_some hk
        obtain ⟨h20, hk⟩ := hk
        replace hk := og_some hk
        obtain ⟨h21, hk⟩ := hk
        refine x_copy (pc := 76) C (Or.inr ⟨rfl, rfl⟩) q1913 q764 q763 q121 h18 h19 h20 (Or.inr h21) (Nat.le_of_ble_eq_true rfl) (Nat.le_of_ble_eq_true rfl) dX2_copy_76 ?_
        refine j_aload_n (pc := 79) C dX2_copy_79 rfl rfl ?_
        refine j_aload_n (pc := 80) C dX2_copy_80 rfl rfl ?_
        refine x_getI (pc := 81) C fd_2_3 (fl1 C q254) h13 dX2_copy_81 ?_
        replace hk := ockw_some hk
        obtain ⟨h22, hk⟩ := hk
        refine x_putI (pc := 84) C fd_2_3 (fl1 C q254) h22 rfl rfl dX2_copy_84 ?_
        refine j_aload_n (pc := 87) C dX2_copy_87 rfl rfl ?_
        replace hk := orf_some hk
        obtain ⟨t88, et88, hk⟩ := hk
        refine x_getR (pc := 88) C fd_2_4 (fl1 C q256) h13 et88 dX2_copy_88 ?_
        refine j_iconst (pc := 91) (v := nI 0) C dX2_copy_91 (by decide) ?_
        refine j_aload_n (pc := 92) C dX2_copy_92 rfl rfl ?_
        replace hk := orf_some hk
        obtain ⟨t93, et93, hk⟩ := hk
        refine x_getR (pc := 93) C fd_2_4 (fl1 C q256) h22.r et93 dX2_copy_93 ?_
        refine j_iconst (pc := 96) (v := nI 0) C dX2_copy_96 (by decide) ?_
        refine j_bipush (pc := 97) (v := nI 20) C dX2_copy_97 (by decide) ?_
        replace hk := oar_some hk
        obtain ⟨nh23, h23, hk⟩ := hk
        replace hk := oarw_some hk
        obtain ⟨nh24, h24, hk⟩ := hk
        replace hk := og_some hk
        obtain ⟨h25, hk⟩ := hk
        refine x_copy (pc := 99) C (Or.inl ⟨rfl, rfl⟩) q1913 q764 q763 q121 h23 h24 h25 (Or.inl rfl) (Nat.le_of_ble_eq_true rfl) (Nat.le_of_ble_eq_true rfl) dX2_copy_99 ?_
        refine j_aload_n (pc := 102) C dX2_copy_102 rfl rfl ?_
        refine j_aload_n (pc := 103) C dX2_copy_103 rfl rfl ?_
        refine x_getI (pc := 104) C fd_2_5 (fl1 C q258) h13 dX2_copy_104 ?_
        refine x_putI (pc := 107) C fd_2_5 (fl1 C q258) h22 rfl rfl dX2_copy_107 ?_
        refine j_aload_n (pc := 110) C dX2_copy_110 rfl rfl ?_
        obtain rfl := Option.some.inj hk
        exact x_aret (pc := 111) C dX2_copy_111 (Nat.le_refl _) (Nat.le_refl _) rfl
      · replace hk := it_f h16 hk
        refine j_aload_n (pc := 36) C dX2_copy_36 rfl rfl ?_
        replace hk := ock_some hk
        obtain ⟨h26, hk⟩ := hk
        replace hk := orf_some hk
        obtain ⟨t37, et37, hk⟩ := hk
        refine x_getR (pc := 37) C fd_2_1 (fl1 C q250) h26 et37 dX2_copy_37 ?_
        refine j_aload_n (pc := 40) C dX2_copy_40 rfl rfl ?_
        replace hk := orf_some hk
        obtain ⟨t41, et41, hk⟩ := hk
        refine x_getR (pc := 41) C fd_2_1 (fl1 C q250) h13 et41 dX2_copy_41 ?_
        refine j_iload_n (pc := 44) C dX2_copy_44 rfl rfl ?_
        replace hk := ock_some hk
        obtain ⟨h27, hk⟩ := hk
        replace hk := ob_some hk
        obtain ⟨a45, h28, hk⟩ := hk
        refine x_callV (pc := 45) C (ct_J5_get h28) mv_J5_get h27 rfl rfl q1536 dX2_copy_45 rfl rfl (Nat.le_of_ble_eq_true rfl) (rmOK.i (Nat.le_of_ble_eq_true rfl) (Nat.le_of_ble_eq_true rfl) (rz1 hm hz) (rz2 hm hz)) ?_
        refine j_stk (st' := [.ref (wad G a45), .ref (wad G t37)]) rfl ?_
        replace hk := ockD_some hk
        obtain ⟨ch29, ch29h, h29, hk⟩ := hk
        obtain ⟨cr48, hcr48, hcs48⟩ := castD_NineDemands_Demand ch29h
        refine x_cast (pc := 48) C h29 hcr48 q1537 hcs48 dX2_copy_48 ?_
        replace hk := bd3_some hk
        obtain ⟨a51, S51, I51, h30, hk⟩ := hk
        replace hk := og_some hk
        obtain ⟨h31, hk⟩ := hk
        replace hk := omn3_some hk
        obtain ⟨h32, hk⟩ := hk
        have h33 : sh.1 ≤ S51.1 := Nat.le_trans hm h31
        refine x_callX (pc := 51) C (vc_X10_again h30) q1914 dX2_copy_51 rfl rfl (Nat.le_of_ble_eq_true rfl) (Nat.le_of_ble_eq_true rfl) (Nat.le_of_ble_eq_true rfl) (rm1 hm h31 h32) (rm2 hm h31 h32) ?_
        refine j_kn (k' := S51.1 - sh.1) (n' := 200 * (S51.1 - sh.1)) (rk1 hm h31) (rk2 hm h31) ?_
        refine j_stk (st' := [.ref (wad G a51), .ref (wad G t37)]) rfl ?_
        replace hk := ock_some hk
        obtain ⟨h34, hk⟩ := hk
        replace hk := bd3_some hk
        obtain ⟨r54, S54, I54, h35, hk⟩ := hk
        replace hk := og_some hk
        obtain ⟨h36, hk⟩ := hk
        replace hk := omn3_some hk
        obtain ⟨h37, hk⟩ := hk
        have h38 : sh.1 ≤ S54.1 := Nat.le_trans h33 h36
        refine x_callV (pc := 54) C (ct_J5_add h35) mv_J5_add h34 rfl rfl q1956 dX2_copy_54 rfl rfl (Nat.le_of_ble_eq_true rfl) (rmOK.i (Nat.le_of_ble_eq_true rfl) (Nat.le_of_ble_eq_true rfl) (rm1 h33 h36 h37) (rm2 h33 h36 h37)) ?_
        refine j_kn (k' := S54.1 - sh.1) (n' := 200 * (S54.1 - sh.1)) (rk1 h33 h36) (rk2 h33 h36) ?_
        refine j_pop (pc := 57) C dX2_copy_57 rfl ?_
        refine j_iinc (pc := 58) (nI 1) C dX2_copy_58 rfl (by decide) (Nat.le_of_ble_eq_true rfl) rfl ?_
        refine j_goto (pc := 61) 25 C dX2_copy_61 (by decide) ?_
        exact j_mask [true, true, true] (ih25 _ _ _ h38 h37 hk)
  exact j_mask [true, true, true] (L25 _ _ _ _ _ _ h7 h6 hk)
def f_X0_restore_J39 (F : Nat) (s0 : Nat) (S : SH) (I : II) : Option (Int32 × SH × II) := ost S <| bd2 (f_X0_finds S s0 I) fun r42 I42 => some (r42, S, I42)
def f_X0_restore_J13 (F : Nat) (s1 : Int32) (S : SH) (I : II) : Option (Int32 × SH × II) := ost S <| bd2 (f_X0_need S s1 (nI 2) I) fun u14 I14 => oex u14 (fun _w14 => orf (S.2.2 0 2) fun t19 => ock S t19 2 <| bd3 (f_X2_copy F S t19 I14) fun a22 S22 I22 => og (S.1 ≤ S22.1) <| omn3 S22 <| ost S22 <| ost (shR S22 0 1 (some a22)) <| orf ((shR S22 0 1 (some a22)).2.2 0 1) fun t29 => ock (shR S22 0 1 (some a22)) t29 2 <| orf ((shR S22 0 1 (some a22)).2.2 t29 1) fun t32 => ock (shR S22 0 1 (some a22)) t32 3 <| (f_J5_size (shR S22 0 1 (some a22)) t32 I22).bind fun r35 => some (r35, shR S22 0 1 (some a22), I22)) (fun w14 => ock S w14 1 <| f_X0_restore_J39 F w14 S I14)
def f_X0_restore (F : Nat) (sh : SH) (I : II) : Option (Int32 × SH × II) := omn3 sh <| ost sh <| if (sh.2.2 0 2) = none then f_X0_restore_J13 F (nI 0) sh I else f_X0_restore_J13 F (nI 1) sh I
abbrev rmf_X0_restore : Nat := 7
abbrev rml_X0_restore : Nat := 162
theorem mv_X0_restore_ok : callOK yX0_restore 0 := by decide +kernel
theorem mw_X0_restore : MW yX0_restore cX0_restore 2 (some .int) [(0, 38, 39, 8)] 0 := ⟨q1958, q1959, q91, q1960, mv_X0_restore_ok⟩
set_option maxHeartbeats 4000000 in
theorem ct_X0_restore {G : WG} {l : Launch} {sh : SH} {I : II} {F : Nat}  {Z : (Int32 × SH × II)} (hk : f_X0_restore F sh I = some Z) : CT G l yX0_restore (wsW_ yX0_restore cX0_restore 2 (some .int) [(0, 38, 39, 8)]) (rmA rmf_X0_restore rml_X0_restore (Z.2.1.1 - sh.1)) [.ref (wad G 0)] (sh, I) (.returned (some (.int Z.1))) Z.2 := by
  refine CT.ofJW "NineDemands" rfl (by decide) (Nat.le_of_ble_eq_true rfl) ?_
  intro p e s m args below meth c C
  unfold f_X0_restore at hk
  refine j_lv (lv' := [some (.ref (wad G 0)), none]) rfl ?_
  replace hk := omn3_some hk
  obtain ⟨hz0, hk⟩ := hk
  have hm0 : sh.1 ≤ sh.1 := Nat.le_refl _
  refine j_kn (k' := sh.1 - sh.1) (n' := 200 * (sh.1 - sh.1)) (Nat.sub_self _).symm (rb2 _) ?_
  refine j_aload_n (pc := 0) C dX0_restore_0 rfl rfl ?_
  refine j_aload_n (pc := 1) C dX0_restore_1 rfl rfl ?_
  replace hk := ost_some hk
  obtain ⟨h1, hk⟩ := hk
  refine x_getN (pc := 2) C fd_0_2 (fl1 C q374) (stN_o0 h1).r dX0_restore_2 ?_
  have Jn13 : ∀ (s1 : Int32) (S : SH) (I : II), sh.1 ≤ S.1 → S.1 ≤ Z.2.1.1 → f_X0_restore_J13 F s1 S I = some Z → J G p l e (rmA rmf_X0_restore rml_X0_restore (Z.2.1.1 - sh.1)) s m args below meth c 2 (.returned (some (.int Z.1))) Z.2 ((rmA rmf_X0_restore rml_X0_restore (Z.2.1.1 - sh.1))).cells ((rmA rmf_X0_restore rml_X0_restore (Z.2.1.1 - sh.1))).slots (S, I) ((S).1 - sh.1) (200 * ((S).1 - sh.1)) 13 [some (.ref (wad G 0)), none] [.int s1, .ref (wad G 0)] := by
    intro s1 S I hm hz hk
    unfold f_X0_restore_J13 at hk
    refine j_iconst (pc := 13) (v := nI 2) C dX0_restore_13 (by decide) ?_
    have Jn39 : ∀ (s0 : Nat) (S : SH) (I : II), sh.1 ≤ S.1 → S.1 ≤ Z.2.1.1 → f_X0_restore_J39 F s0 S I = some Z → J G p l e (rmA rmf_X0_restore rml_X0_restore (Z.2.1.1 - sh.1)) s m args below meth c 2 (.returned (some (.int Z.1))) Z.2 ((rmA rmf_X0_restore rml_X0_restore (Z.2.1.1 - sh.1))).cells ((rmA rmf_X0_restore rml_X0_restore (Z.2.1.1 - sh.1))).slots (S, I) ((S).1 - sh.1) (200 * ((S).1 - sh.1)) 39 [some (.ref (wad G 0)), none] [.ref (wad G s0)] := by
      intro s0 S I hm hz hk
      unfold f_X0_restore_J39 at hk
      refine j_astore_n (pc := 39) C dX0_restore_39 rfl (Nat.le_of_ble_eq_true rfl) rfl ?_
      refine j_aload_n (pc := 40) C dX0_restore_40 rfl rfl ?_
      refine j_aload_n (pc := 41) C dX0_restore_41 rfl rfl ?_
      replace hk := ost_some hk
      obtain ⟨h2, hk⟩ := hk
      replace hk := bd2_some hk
      obtain ⟨r42, I42, h3, hk⟩ := hk
      refine x_callV (pc := 42) C (ct_X0_finds h2 h3) mv_X0_finds (stN_o0 h2).r rfl rfl q433 dX0_restore_42 rfl rfl (Nat.le_of_ble_eq_true rfl) (rmOK.i (Nat.le_of_ble_eq_true rfl) (Nat.le_of_ble_eq_true rfl) (rz1 hm hz) (rz2 hm hz)) ?_
      obtain rfl := Option.some.inj hk
      exact j_iret (pc := 45) C dX0_restore_45 (Nat.le_refl _) (Nat.le_refl _)
    replace hk := ost_some hk
    obtain ⟨h4, hk⟩ := hk
    replace hk := bd2_some hk
    obtain ⟨u14, I14, h5, hk⟩ := hk
    cases u14 with
    | inr w14 =>
      replace hk := oex_r hk
      replace hk := ock_some hk
      obtain ⟨h7, hk⟩ := hk
      refine x_callVC [] [] (0, 38, 39, 8) (pc := 14) C (ct_X0_need h4 h5) mv_X0_need (stN_o0 h4).r rfl rfl q416 dX0_restore_14 rfl rfl (Nat.le_of_ble_eq_true rfl) (rmOK.i (Nat.le_of_ble_eq_true rfl) (Nat.le_of_ble_eq_true rfl) (rz1 hm hz) (rz2 hm hz)) rfl h7 rfl (by decide) (by decide) q146 (fun z hz => by cases hz) ?_
      exact j_mask [true, false] (Jn39 _ _ _ hm hz hk)
    | inl _w14 =>
      replace hk := oex_l hk
      refine x_callV (pc := 14) C (ct_X0_need h4 h5) mv_X0_need (stN_o0 h4).r rfl rfl q416 dX0_restore_14 rfl rfl (Nat.le_of_ble_eq_true rfl) (rmOK.i (Nat.le_of_ble_eq_true rfl) (Nat.le_of_ble_eq_true rfl) (rz1 hm hz) (rz2 hm hz)) ?_
      refine j_aload_n (pc := 17) C dX0_restore_17 rfl rfl ?_
      refine j_aload_n (pc := 18) C dX0_restore_18 rfl rfl ?_
      replace hk := orf_some hk
      obtain ⟨t19, et19, hk⟩ := hk
      refine x_getR (pc := 19) C fd_0_2 (fl1 C q374) (stN_o0 h4).r et19 dX0_restore_19 ?_
      replace hk := ock_some hk
      obtain ⟨h8, hk⟩ := hk
      replace hk := bd3_some hk
      obtain ⟨a22, S22, I22, h9, hk⟩ := hk
      replace hk := og_some hk
      obtain ⟨h10, hk⟩ := hk
      replace hk := omn3_some hk
      obtain ⟨h11, hk⟩ := hk
      have h12 : sh.1 ≤ S22.1 := Nat.le_trans hm h10
      refine x_callV (pc := 22) C (ct_X2_copy h9) mv_X2_copy h8 rfl rfl q1907 dX0_restore_22 rfl rfl (Nat.le_of_ble_eq_true rfl) (rmOK.i (Nat.le_of_ble_eq_true rfl) (Nat.le_of_ble_eq_true rfl) (rm1 hm h10 h11) (rm2 hm h10 h11)) ?_
      refine j_kn (k' := S22.1 - sh.1) (n' := 200 * (S22.1 - sh.1)) (rk1 hm h10) (rk2 hm h10) ?_
      refine j_stk (st' := [.ref (wad G a22), .ref (wad G 0)]) rfl ?_
      replace hk := ost_some hk
      obtain ⟨h13, hk⟩ := hk
      refine x_putN (pc := 25) (o := (some a22)) C fd_0_1 (fl1 C q373) (stN_o0 h13) rfl dX0_restore_25 ?_
      refine j_aload_n (pc := 28) C dX0_restore_28 rfl rfl ?_
      replace hk := ost_some hk
      obtain ⟨h14, hk⟩ := hk
      replace hk := orf_some hk
      obtain ⟨t29, et29, hk⟩ := hk
      refine x_getR (pc := 29) C fd_0_1 (fl1 C q373) (stN_o0 h14).r et29 dX0_restore_29 ?_
      replace hk := ock_some hk
      obtain ⟨h15, hk⟩ := hk
      replace hk := orf_some hk
      obtain ⟨t32, et32, hk⟩ := hk
      refine x_getR (pc := 32) C fd_2_1 (fl3 C q251) h15 et32 dX0_restore_32 ?_
      replace hk := ock_some hk
      obtain ⟨h16, hk⟩ := hk
      replace hk := ob_some hk
      obtain ⟨r35, h17, hk⟩ := hk
      refine x_callV (pc := 35) C (ct_J5_size h17) mv_J5_size h16 rfl rfl q514 dX0_restore_35 rfl rfl (Nat.le_of_ble_eq_true rfl) (rmOK.i (Nat.le_of_ble_eq_true rfl) (Nat.le_of_ble_eq_true rfl) (rz1 h12 h11) (rz2 h12 h11)) ?_
      obtain rfl := Option.some.inj hk
      exact j_iret (pc := 38) C dX0_restore_38 (Nat.le_refl _) (Nat.le_refl _)
  refine x_ifnull (pc := 5) (o := (sh.2.2 0 2)) 12 C dX0_restore_5 (by decide) (fun h18 => ?_) (fun h18 => ?_)
  · replace hk := it_t h18 hk
    refine j_iconst (pc := 12) (v := nI 0) C dX0_restore_12 (by decide) ?_
    exact j_mask [true, false] (Jn13 _ _ _ hm0 hz0 hk)
  · replace hk := it_f h18 hk
    refine j_iconst (pc := 8) (v := nI 1) C dX0_restore_8 (by decide) ?_
    refine j_goto (pc := 9) 13 C dX0_restore_9 (by decide) ?_
    exact j_mask [true, false] (Jn13 _ _ _ hm0 hz0 hk)
def f_X0_image (F : Nat) (sh : SH) (I : II) : Option (Int32 × SH × II) := omn3 sh <| ost sh <| orf (sh.2.2 0 1) fun t2 => ock sh t2 2 <| bd3 (f_X2_copy F sh t2 I) fun a5 S5 I5 => og (sh.1 ≤ S5.1) <| omn3 S5 <| ost S5 <| ost (shR S5 0 2 (some a5)) <| some (((up2 I5 0 3 ((I5 0 3) + (nI 1))) 0 3), shR S5 0 2 (some a5), up2 I5 0 3 ((I5 0 3) + (nI 1)))
abbrev rmf_X0_image : Nat := 7
abbrev rml_X0_image : Nat := 162
theorem mv_X0_image_ok : callOK yX0_image 0 := by decide +kernel
theorem mv_X0_image : MV yX0_image cX0_image 1 (some .int) 0 := ⟨q1904, q1905, q91, q1906, mv_X0_image_ok⟩
set_option maxHeartbeats 4000000 in
theorem ct_X0_image {G : WG} {l : Launch} {sh : SH} {I : II} {F : Nat}  {Z : (Int32 × SH × II)} (hk : f_X0_image F sh I = some Z) : CT G l yX0_image (ws_ yX0_image cX0_image 1 (some .int)) (rmA rmf_X0_image rml_X0_image (Z.2.1.1 - sh.1)) [.ref (wad G 0)] (sh, I) (.returned (some (.int Z.1))) Z.2 := by
  refine CT.ofJ "NineDemands" rfl (by decide) (Nat.le_of_ble_eq_true rfl) ?_
  intro p e s m args below meth c C
  unfold f_X0_image at hk
  refine j_lv (lv' := [some (.ref (wad G 0))]) rfl ?_
  replace hk := omn3_some hk
  obtain ⟨hz0, hk⟩ := hk
  have hm0 : sh.1 ≤ sh.1 := Nat.le_refl _
  refine j_kn (k' := sh.1 - sh.1) (n' := 200 * (sh.1 - sh.1)) (Nat.sub_self _).symm (rb2 _) ?_
  refine j_aload_n (pc := 0) C dX0_image_0 rfl rfl ?_
  refine j_aload_n (pc := 1) C dX0_image_1 rfl rfl ?_
  replace hk := ost_some hk
  obtain ⟨h1, hk⟩ := hk
  replace hk := orf_some hk
  obtain ⟨t2, et2, hk⟩ := hk
  refine x_getR (pc := 2) C fd_0_1 (fl1 C q373) (stN_o0 h1).r et2 dX0_image_2 ?_
  replace hk := ock_some hk
  obtain ⟨h2, hk⟩ := hk
  replace hk := bd3_some hk
  obtain ⟨a5, S5, I5, h3, hk⟩ := hk
  replace hk := og_some hk
  obtain ⟨h4, hk⟩ := hk
  replace hk := omn3_some hk
  obtain ⟨h5, hk⟩ := hk
  have h6 : sh.1 ≤ S5.1 := Nat.le_trans hm0 h4
  refine x_callV (pc := 5) C (ct_X2_copy h3) mv_X2_copy h2 rfl rfl q1907 dX0_image_5 rfl rfl (Nat.le_of_ble_eq_true rfl) (rmOK.i (Nat.le_of_ble_eq_true rfl) (Nat.le_of_ble_eq_true rfl) (rm1 hm0 h4 h5) (rm2 hm0 h4 h5)) ?_
  refine j_kn (k' := S5.1 - sh.1) (n' := 200 * (S5.1 - sh.1)) (rk1 hm0 h4) (rk2 hm0 h4) ?_
  refine j_stk (st' := [.ref (wad G a5), .ref (wad G 0)]) rfl ?_
  replace hk := ost_some hk
  obtain ⟨h7, hk⟩ := hk
  refine x_putN (pc := 8) (o := (some a5)) C fd_0_2 (fl1 C q374) (stN_o0 h7) rfl dX0_image_8 ?_
  refine j_aload_n (pc := 11) C dX0_image_11 rfl rfl ?_
  refine j_dup (pc := 12) C dX0_image_12 rfl ?_
  replace hk := ost_some hk
  obtain ⟨h8, hk⟩ := hk
  refine x_getI (pc := 13) C fd_0_3 (fl1 C q375) (stN_o0 h8).r dX0_image_13 ?_
  refine j_iconst (pc := 16) (v := nI 1) C dX0_image_16 (by decide) ?_
  refine j_iadd (pc := 17) C dX0_image_17 ?_
  refine x_putI (pc := 18) C fd_0_3 (fl1 C q375) (stN_o0 h8) rfl rfl dX0_image_18 ?_
  refine j_aload_n (pc := 21) C dX0_image_21 rfl rfl ?_
  refine x_getI (pc := 22) C fd_0_3 (fl1 C q375) (stN_o0 h8).r dX0_image_22 ?_
  obtain rfl := Option.some.inj hk
  exact j_iret (pc := 25) C dX0_image_25 (Nat.le_refl _) (Nat.le_refl _)
def f_X0_isSheet (x0 : Int32) : Option Int32 := (f_X0_in x0 (nI 0) (nI 3)).bind fun r3 => og (r3 = 0 ∨ r3 = 1) <| some r3
abbrev rm_X0_isSheet : Room := { frames := 1, cells := 0, slots := 0, locals := 22 }
theorem ms_X0_isSheet : MS yX0_isSheet cX0_isSheet 1 (some .boolean) 1 := ⟨q461, q91, q462, by decide +kernel⟩
set_option maxHeartbeats 4000000 in
theorem ct_X0_isSheet {G : WG} {l : Launch} {sh : SH} {I : II} {x0 : Int32} {Z : Int32} (hk : f_X0_isSheet x0 = some Z) : CT G l yX0_isSheet (ws_ yX0_isSheet cX0_isSheet 1 (some .boolean)) rm_X0_isSheet [.int x0] (sh, I) (.returned (some (.int Z))) (sh, I) := by
  refine CT.ofJ "NineDemands" rfl (by decide) (Nat.le_of_ble_eq_true rfl) ?_
  intro p e s m args below meth c C
  unfold f_X0_isSheet at hk
  refine j_lv (lv' := [some (.int x0)]) rfl ?_
  refine j_iload_n (pc := 0) C dX0_isSheet_0 rfl rfl ?_
  refine j_iconst (pc := 1) (v := nI 0) C dX0_isSheet_1 (by decide) ?_
  refine j_iconst (pc := 2) (v := nI 3) C dX0_isSheet_2 (by decide) ?_
  replace hk := ob_some hk
  obtain ⟨r3, h1, hk⟩ := hk
  refine j_callS (pc := 3) C (ct_X0_in h1) ms_X0_in q413 dX0_isSheet_3 rfl rfl (Nat.le_of_ble_eq_true rfl) rfl ?_
  replace hk := og_some hk
  obtain ⟨h2, hk⟩ := hk
  obtain rfl := Option.some.inj hk
  exact j_zret (pc := 6) C dX0_isSheet_6 (Nat.le_of_ble_eq_true rfl) (Nat.le_of_ble_eq_true rfl) (isB.nar h2)
def f_X0_sheetAt_J18 (sh : SH) (x1 : Int32) (s1 : Int32) (I : II) : Option ((Nat ⊕ Nat) × II) := bd2 (f_X0_need sh s1 (nI 2) I) fun u19 I19 => oex u19 (fun _w19 => oix x1 4 fun i27 => orf (sh.2.2 22 i27) fun t27 => ock sh t27 9 <| orf (sh.2.2 t27 0) fun t28 => ockH sh t28 <| some ((.inl t28), I19)) (fun w19 => some (.inr w19, I19))
def f_X0_sheetAt (sh : SH) (x1 : Int32) (I : II) : Option ((Nat ⊕ Nat) × II) := oix x1 4 fun i6 => orf (sh.2.2 22 i6) fun t6 => ock sh t6 9 <| if (sh.2.2 t6 0) = none then f_X0_sheetAt_J18 sh x1 (nI 0) I else f_X0_sheetAt_J18 sh x1 (nI 1) I
abbrev rm_X0_sheetAt : Room := { frames := 2, cells := 0, slots := 0, locals := 43 }
theorem mv_X0_sheetAt_ok : callOK yX0_sheetAt 1 := by decide +kernel
theorem mv_X0_sheetAt : MV yX0_sheetAt cX0_sheetAt 2 (some (.object "NineDemands$Sheet")) 1 := ⟨q465, qs3, q91, q466, mv_X0_sheetAt_ok⟩
set_option maxHeartbeats 4000000 in
theorem ct_X0_sheetAt {G : WG} {l : Launch} {sh : SH} (hS : stN sh) {I : II} {x1 : Int32} {Z : ((Nat ⊕ Nat) × II)} (hk : f_X0_sheetAt sh x1 I = some Z) : CT G l yX0_sheetAt (ws_ yX0_sheetAt cX0_sheetAt 2 (some (.object "NineDemands$Sheet"))) rm_X0_sheetAt [.ref (wad G 0), .int x1] (sh, I) (ocr G Z.1) (sh, Z.2) := by
  refine CT.ofJ "NineDemands" rfl (by decide) (Nat.le_of_ble_eq_true rfl) ?_
  intro p e s m args below meth c C
  unfold f_X0_sheetAt at hk
  refine j_lv (lv' := [some (.ref (wad G 0)), some (.int x1)]) rfl ?_
  refine j_aload_n (pc := 0) C dX0_sheetAt_0 rfl rfl ?_
  refine j_aload_n (pc := 1) C dX0_sheetAt_1 rfl rfl ?_
  refine x_getR (pc := 2) C fd_0_10 (fl1 C q382) (stN_o0 hS).r (stN_r0_10 hS) dX0_sheetAt_2 ?_
  refine j_iload_n (pc := 5) C dX0_sheetAt_5 rfl rfl ?_
  replace hk := oix_ex hk
  obtain ⟨i6, e6, h1, hk⟩ := hk
  replace hk := orf_some hk
  obtain ⟨t6, et6, hk⟩ := hk
  refine x_aald (pc := 6) C (stN_a22 hS).r (by decide) h1 e6 dX0_sheetAt_6 ?_
  rw [et6]
  replace hk := ock_some hk
  obtain ⟨h2, hk⟩ := hk
  refine x_getN (pc := 7) C fd_9_0 (fl3 C q368) h2 dX0_sheetAt_7 ?_
  have Jn18 : ∀ (x1 : Int32) (s1 : Int32) (I : II), f_X0_sheetAt_J18 sh x1 s1 I = some Z → J G p l e rm_X0_sheetAt s m args below meth c 2 (ocr G Z.1) (sh, Z.2) (rm_X0_sheetAt).cells (rm_X0_sheetAt).slots (sh, I) 0 0 18 [some (.ref (wad G 0)), some (.int x1)] [.int s1, .ref (wad G 0)] := by
    intro x1 s1 I hk
    unfold f_X0_sheetAt_J18 at hk
    refine j_iconst (pc := 18) (v := nI 2) C dX0_sheetAt_18 (by decide) ?_
    replace hk := bd2_some hk
    obtain ⟨u19, I19, h3, hk⟩ := hk
    cases u19 with
    | inr w19 =>
      replace hk := oex_r hk
      obtain rfl := Option.some.inj hk
      exact x_callVT (pc := 19) C (ct_X0_need hS h3) mv_X0_need (stN_o0 hS).r rfl rfl q416 dX0_sheetAt_19 rfl rfl (Nat.le_of_ble_eq_true rfl) rfl rfl (Nat.le_of_ble_eq_true rfl) (Nat.le_of_ble_eq_true rfl)
    | inl _w19 =>
      replace hk := oex_l hk
      refine x_callV (pc := 19) C (ct_X0_need hS h3) mv_X0_need (stN_o0 hS).r rfl rfl q416 dX0_sheetAt_19 rfl rfl (Nat.le_of_ble_eq_true rfl) rfl ?_
      refine j_aload_n (pc := 22) C dX0_sheetAt_22 rfl rfl ?_
      refine x_getR (pc := 23) C fd_0_10 (fl1 C q382) (stN_o0 hS).r (stN_r0_10 hS) dX0_sheetAt_23 ?_
      refine j_iload_n (pc := 26) C dX0_sheetAt_26 rfl rfl ?_
      replace hk := oix_ex hk
      obtain ⟨i27, e27, h4, hk⟩ := hk
      replace hk := orf_some hk
      obtain ⟨t27, et27, hk⟩ := hk
      refine x_aald (pc := 27) C (stN_a22 hS).r (by decide) h4 e27 dX0_sheetAt_27 ?_
      rw [et27]
      replace hk := ock_some hk
      obtain ⟨h5, hk⟩ := hk
      replace hk := orf_some hk
      obtain ⟨t28, et28, hk⟩ := hk
      refine x_getR (pc := 28) C fd_9_0 (fl3 C q368) h5 et28 dX0_sheetAt_28 ?_
      replace hk := ockH_some hk
      obtain ⟨ch6, ch6h, h6, hk⟩ := hk
      obtain ⟨cr31, hcr31, hcs31⟩ := castH_NineDemands_Sheet ch6h
      refine x_cast (pc := 31) C h6 hcr31 q467 hcs31 dX0_sheetAt_31 ?_
      obtain rfl := Option.some.inj hk
      exact x_aret (pc := 34) C dX0_sheetAt_34 (Nat.le_of_ble_eq_true rfl) (Nat.le_of_ble_eq_true rfl) rfl
  refine x_ifnull (pc := 10) (o := (sh.2.2 t6 0)) 17 C dX0_sheetAt_10 (by decide) (fun h7 => ?_) (fun h7 => ?_)
  · replace hk := it_t h7 hk
    refine j_iconst (pc := 17) (v := nI 0) C dX0_sheetAt_17 (by decide) ?_
    exact j_mask [true, true] (Jn18 _ _ _ hk)
  · replace hk := it_f h7 hk
    refine j_iconst (pc := 13) (v := nI 1) C dX0_sheetAt_13 (by decide) ?_
    refine j_goto (pc := 14) 18 C dX0_sheetAt_14 (by decide) ?_
    exact j_mask [true, true] (Jn18 _ _ _ hk)
def f_X25_width (sh : SH) (x0 : Nat) (I : II) : Option Int32 := some (nI 8)
abbrev rm_X25_width : Room := { frames := 0, cells := 0, slots := 0, locals := 0 }
theorem mv_X25_width_ok : callOK yX25_width 0 := by decide +kernel
set_option maxHeartbeats 4000000 in
theorem ct_X25_width {G : WG} {l : Launch} {sh : SH} (hS : stN sh) {I : II} {x0 : Nat} {Z : Int32} (hk : f_X25_width sh x0 I = some Z) : CT G l yX25_width (ws_ yX25_width cX25_width 1 (some .int)) rm_X25_width [.ref (wad G x0)] (sh, I) (.returned (some (.int Z))) (sh, I) := by
  refine CT.ofJ "NineDemands$Bytes" rfl (by decide) (Nat.le_of_ble_eq_true rfl) ?_
  intro p e s m args below meth c C
  unfold f_X25_width at hk
  refine j_lv (lv' := [some (.ref (wad G x0))]) rfl ?_
  refine j_bipush (pc := 0) (v := nI 8) C dX25_width_0 (by decide) ?_
  obtain rfl := Option.some.inj hk
  exact j_iret (pc := 2) C dX25_width_2 (Nat.le_of_ble_eq_true rfl) (Nat.le_of_ble_eq_true rfl)
def f_X26_width (sh : SH) (x0 : Nat) (I : II) : Option Int32 := some (nI 16)
abbrev rm_X26_width : Room := { frames := 0, cells := 0, slots := 0, locals := 0 }
theorem mv_X26_width_ok : callOK yX26_width 0 := by decide +kernel
set_option maxHeartbeats 4000000 in
theorem ct_X26_width {G : WG} {l : Launch} {sh : SH} (hS : stN sh) {I : II} {x0 : Nat} {Z : Int32} (hk : f_X26_width sh x0 I = some Z) : CT G l yX26_width (ws_ yX26_width cX26_width 1 (some .int)) rm_X26_width [.ref (wad G x0)] (sh, I) (.returned (some (.int Z))) (sh, I) := by
  refine CT.ofJ "NineDemands$Shorts" rfl (by decide) (Nat.le_of_ble_eq_true rfl) ?_
  intro p e s m args below meth c C
  unfold f_X26_width at hk
  refine j_lv (lv' := [some (.ref (wad G x0))]) rfl ?_
  refine j_bipush (pc := 0) (v := nI 16) C dX26_width_0 (by decide) ?_
  obtain rfl := Option.some.inj hk
  exact j_iret (pc := 2) C dX26_width_2 (Nat.le_of_ble_eq_true rfl) (Nat.le_of_ble_eq_true rfl)
def f_X27_width (sh : SH) (x0 : Nat) (I : II) : Option Int32 := some (nI 32)
abbrev rm_X27_width : Room := { frames := 0, cells := 0, slots := 0, locals := 0 }
theorem mv_X27_width_ok : callOK yX27_width 0 := by decide +kernel
set_option maxHeartbeats 4000000 in
theorem ct_X27_width {G : WG} {l : Launch} {sh : SH} (hS : stN sh) {I : II} {x0 : Nat} {Z : Int32} (hk : f_X27_width sh x0 I = some Z) : CT G l yX27_width (ws_ yX27_width cX27_width 1 (some .int)) rm_X27_width [.ref (wad G x0)] (sh, I) (.returned (some (.int Z))) (sh, I) := by
  refine CT.ofJ "NineDemands$Ints" rfl (by decide) (Nat.le_of_ble_eq_true rfl) ?_
  intro p e s m args below meth c C
  unfold f_X27_width at hk
  refine j_lv (lv' := [some (.ref (wad G x0))]) rfl ?_
  refine j_bipush (pc := 0) (v := nI 32) C dX27_width_0 (by decide) ?_
  obtain rfl := Option.some.inj hk
  exact j_iret (pc := 2) C dX27_width_2 (Nat.le_of_ble_eq_true rfl) (Nat.le_of_ble_eq_true rfl)
def v_X24_width (sh : SH) (x0 : Nat) (I : II) : Option Int32 := og (x0 < sh.1 ∨ (exA ≤ x0 ∧ x0 < exA + exN)) <| if (sh.2.1 x0).1 = 24 then f_X25_width sh x0 I else if (sh.2.1 x0).1 = 25 then f_X26_width sh x0 I else if (sh.2.1 x0).1 = 26 then f_X27_width sh x0 I else none
set_option maxHeartbeats 4000000 in
theorem vc_X24_width {G : WG} {l : Launch} {sh : SH} (hS : stN sh) {I : II} {x0 : Nat} {Z : Int32} (hk : v_X24_width sh x0 I = some Z) : VC G l ⟨"NineDemands$Sheet", "width", "()I"⟩ x0 [] (sh, I) (some (.int Z)) (sh, I) 1 20 0 0 0 := by
  unfold v_X24_width at hk
  replace hk := og_some hk
  obtain ⟨hd9, hk⟩ := hk
  by_cases h0 : (sh.2.1 x0).1 = 24
  · replace hk := it_t h0 hk
    exact ⟨24, _, yX25_width, _, _, _, "NineDemands$Sheet", _, ⟨hd9, h0⟩, rfl, ct_X25_width hS hk, q1884, q1885, q1886, q135, q1887, Or.inr q1883, by decide +kernel, Nat.le_of_ble_eq_true rfl, Nat.le_of_ble_eq_true rfl, rfl, rfl⟩
  replace hk := it_f h0 hk
  by_cases h1 : (sh.2.1 x0).1 = 25
  · replace hk := it_t h1 hk
    exact ⟨25, _, yX26_width, _, _, _, "NineDemands$Sheet", _, ⟨hd9, h1⟩, rfl, ct_X26_width hS hk, q1884, q1891, q1892, q136, q1893, Or.inr q1883, by decide +kernel, Nat.le_of_ble_eq_true rfl, Nat.le_of_ble_eq_true rfl, rfl, rfl⟩
  replace hk := it_f h1 hk
  by_cases h2 : (sh.2.1 x0).1 = 26
  · replace hk := it_t h2 hk
    exact ⟨26, _, yX27_width, _, _, _, "NineDemands$Sheet", _, ⟨hd9, h2⟩, rfl, ct_X27_width hS hk, q1884, q1888, q1889, q137, q1890, Or.inr q1883, by decide +kernel, Nat.le_of_ble_eq_true rfl, Nat.le_of_ble_eq_true rfl, rfl, rfl⟩
  replace hk := it_f h2 hk
  cases hk
def f_X25_size (sh : SH) (x0 : Nat) (I : II) : Option Int32 := ock sh x0 24 <| orf (sh.2.2 x0 0) fun t1 => oar sh t1 101 fun nh2 => some (nI nh2)
abbrev rm_X25_size : Room := { frames := 0, cells := 0, slots := 0, locals := 0 }
theorem mv_X25_size_ok : callOK yX25_size 0 := by decide +kernel
set_option maxHeartbeats 4000000 in
theorem ct_X25_size {G : WG} {l : Launch} {sh : SH} (hS : stN sh) {I : II} {x0 : Nat} {Z : Int32} (hk : f_X25_size sh x0 I = some Z) : CT G l yX25_size (ws_ yX25_size cX25_size 1 (some .int)) rm_X25_size [.ref (wad G x0)] (sh, I) (.returned (some (.int Z))) (sh, I) := by
  refine CT.ofJ "NineDemands$Bytes" rfl (by decide) (Nat.le_of_ble_eq_true rfl) ?_
  intro p e s m args below meth c C
  unfold f_X25_size at hk
  refine j_lv (lv' := [some (.ref (wad G x0))]) rfl ?_
  refine j_aload_n (pc := 0) C dX25_size_0 rfl rfl ?_
  replace hk := ock_some hk
  obtain ⟨h1, hk⟩ := hk
  replace hk := orf_some hk
  obtain ⟨t1, et1, hk⟩ := hk
  refine x_getR (pc := 1) C fd_24_0 (fl1 C q1837) h1 et1 dX25_size_1 ?_
  replace hk := oar_some hk
  obtain ⟨nh2, h2, hk⟩ := hk
  refine x_alen (pc := 4) C h2 (by decide) dX25_size_4 ?_
  obtain rfl := Option.some.inj hk
  exact j_iret (pc := 5) C dX25_size_5 (Nat.le_of_ble_eq_true rfl) (Nat.le_of_ble_eq_true rfl)
def f_X26_size (sh : SH) (x0 : Nat) (I : II) : Option Int32 := ock sh x0 25 <| orf (sh.2.2 x0 0) fun t1 => oar sh t1 102 fun nh2 => some (nI nh2)
abbrev rm_X26_size : Room := { frames := 0, cells := 0, slots := 0, locals := 0 }
theorem mv_X26_size_ok : callOK yX26_size 0 := by decide +kernel
set_option maxHeartbeats 4000000 in
theorem ct_X26_size {G : WG} {l : Launch} {sh : SH} (hS : stN sh) {I : II} {x0 : Nat} {Z : Int32} (hk : f_X26_size sh x0 I = some Z) : CT G l yX26_size (ws_ yX26_size cX26_size 1 (some .int)) rm_X26_size [.ref (wad G x0)] (sh, I) (.returned (some (.int Z))) (sh, I) := by
  refine CT.ofJ "NineDemands$Shorts" rfl (by decide) (Nat.le_of_ble_eq_true rfl) ?_
  intro p e s m args below meth c C
  unfold f_X26_size at hk
  refine j_lv (lv' := [some (.ref (wad G x0))]) rfl ?_
  refine j_aload_n (pc := 0) C dX26_size_0 rfl rfl ?_
  replace hk := ock_some hk
  obtain ⟨h1, hk⟩ := hk
  replace hk := orf_some hk
  obtain ⟨t1, et1, hk⟩ := hk
  refine x_getR (pc := 1) C fd_25_0 (fl1 C q1847) h1 et1 dX26_size_1 ?_
  replace hk := oar_some hk
  obtain ⟨nh2, h2, hk⟩ := hk
  refine x_alen (pc := 4) C h2 (by decide) dX26_size_4 ?_
  obtain rfl := Option.some.inj hk
  exact j_iret (pc := 5) C dX26_size_5 (Nat.le_of_ble_eq_true rfl) (Nat.le_of_ble_eq_true rfl)
def f_X27_size (sh : SH) (x0 : Nat) (I : II) : Option Int32 := ock sh x0 26 <| orf (sh.2.2 x0 0) fun t1 => oar sh t1 100 fun nh2 => some (nI nh2)
abbrev rm_X27_size : Room := { frames := 0, cells := 0, slots := 0, locals := 0 }
theorem mv_X27_size_ok : callOK yX27_size 0 := by decide +kernel
set_option maxHeartbeats 4000000 in
theorem ct_X27_size {G : WG} {l : Launch} {sh : SH} (hS : stN sh) {I : II} {x0 : Nat} {Z : Int32} (hk : f_X27_size sh x0 I = some Z) : CT G l yX27_size (ws_ yX27_size cX27_size 1 (some .int)) rm_X27_size [.ref (wad G x0)] (sh, I) (.returned (some (.int Z))) (sh, I) := by
  refine CT.ofJ "NineDemands$Ints" rfl (by decide) (Nat.le_of_ble_eq_true rfl) ?_
  intro p e s m args below meth c C
  unfold f_X27_size at hk
  refine j_lv (lv' := [some (.ref (wad G x0))]) rfl ?_
  refine j_aload_n (pc := 0) C dX27_size_0 rfl rfl ?_
  replace hk := ock_some hk
  obtain ⟨h1, hk⟩ := hk
  replace hk := orf_some hk
  obtain ⟨t1, et1, hk⟩ := hk
  refine x_getR (pc := 1) C fd_26_0 (fl1 C q1858) h1 et1 dX27_size_1 ?_
  replace hk := oar_some hk
  obtain ⟨nh2, h2, hk⟩ := hk
  refine x_alen (pc := 4) C h2 (by decide) dX27_size_4 ?_
  obtain rfl := Option.some.inj hk
  exact j_iret (pc := 5) C dX27_size_5 (Nat.le_of_ble_eq_true rfl) (Nat.le_of_ble_eq_true rfl)
def v_X24_size (sh : SH) (x0 : Nat) (I : II) : Option Int32 := og (x0 < sh.1 ∨ (exA ≤ x0 ∧ x0 < exA + exN)) <| if (sh.2.1 x0).1 = 24 then f_X25_size sh x0 I else if (sh.2.1 x0).1 = 25 then f_X26_size sh x0 I else if (sh.2.1 x0).1 = 26 then f_X27_size sh x0 I else none
set_option maxHeartbeats 4000000 in
theorem vc_X24_size {G : WG} {l : Launch} {sh : SH} (hS : stN sh) {I : II} {x0 : Nat} {Z : Int32} (hk : v_X24_size sh x0 I = some Z) : VC G l ⟨"NineDemands$Sheet", "size", "()I"⟩ x0 [] (sh, I) (some (.int Z)) (sh, I) 1 20 0 0 0 := by
  unfold v_X24_size at hk
  replace hk := og_some hk
  obtain ⟨hd9, hk⟩ := hk
  by_cases h0 : (sh.2.1 x0).1 = 24
  · replace hk := it_t h0 hk
    exact ⟨24, _, yX25_size, _, _, _, "NineDemands$Sheet", _, ⟨hd9, h0⟩, rfl, ct_X25_size hS hk, q470, q471, q472, q135, q473, Or.inr q469, by decide +kernel, Nat.le_of_ble_eq_true rfl, Nat.le_of_ble_eq_true rfl, rfl, rfl⟩
  replace hk := it_f h0 hk
  by_cases h1 : (sh.2.1 x0).1 = 25
  · replace hk := it_t h1 hk
    exact ⟨25, _, yX26_size, _, _, _, "NineDemands$Sheet", _, ⟨hd9, h1⟩, rfl, ct_X26_size hS hk, q470, q477, q478, q136, q479, Or.inr q469, by decide +kernel, Nat.le_of_ble_eq_true rfl, Nat.le_of_ble_eq_true rfl, rfl, rfl⟩
  replace hk := it_f h1 hk
  by_cases h2 : (sh.2.1 x0).1 = 26
  · replace hk := it_t h2 hk
    exact ⟨26, _, yX27_size, _, _, _, "NineDemands$Sheet", _, ⟨hd9, h2⟩, rfl, ct_X27_size hS hk, q470, q474, q475, q137, q476, Or.inr q469, by decide +kernel, Nat.le_of_ble_eq_true rfl, Nat.le_of_ble_eq_true rfl, rfl, rfl⟩
  replace hk := it_f h2 hk
  cases hk
def f_X25_get (sh : SH) (x0 : Nat) (x1 : Int32) (I : II) : Option Int32 := ock sh x0 24 <| orf (sh.2.2 x0 0) fun t1 => oar sh t1 101 fun nh2 => oix x1 nh2 fun i5 => some (I t1 i5)
abbrev rm_X25_get : Room := { frames := 0, cells := 0, slots := 0, locals := 0 }
theorem mv_X25_get_ok : callOK yX25_get 1 := by decide +kernel
set_option maxHeartbeats 4000000 in
theorem ct_X25_get {G : WG} {l : Launch} {sh : SH} (hS : stN sh) {I : II} {x0 : Nat} {x1 : Int32} {Z : Int32} (hk : f_X25_get sh x0 x1 I = some Z) : CT G l yX25_get (ws_ yX25_get cX25_get 2 (some .int)) rm_X25_get [.ref (wad G x0), .int x1] (sh, I) (.returned (some (.int Z))) (sh, I) := by
  refine CT.ofJ "NineDemands$Bytes" rfl (by decide) (Nat.le_of_ble_eq_true rfl) ?_
  intro p e s m args below meth c C
  unfold f_X25_get at hk
  refine j_lv (lv' := [some (.ref (wad G x0)), some (.int x1)]) rfl ?_
  refine j_aload_n (pc := 0) C dX25_get_0 rfl rfl ?_
  replace hk := ock_some hk
  obtain ⟨h1, hk⟩ := hk
  replace hk := orf_some hk
  obtain ⟨t1, et1, hk⟩ := hk
  refine x_getR (pc := 1) C fd_24_0 (fl1 C q1837) h1 et1 dX25_get_1 ?_
  refine j_iload_n (pc := 4) C dX25_get_4 rfl rfl ?_
  replace hk := oar_some hk
  obtain ⟨nh2, h2, hk⟩ := hk
  replace hk := oix_ex hk
  obtain ⟨i5, e5, h3, hk⟩ := hk
  refine x_bald (pc := 5) C h2 h3 e5 dX25_get_5 ?_
  obtain rfl := Option.some.inj hk
  exact j_iret (pc := 6) C dX25_get_6 (Nat.le_of_ble_eq_true rfl) (Nat.le_of_ble_eq_true rfl)
def f_X26_get (sh : SH) (x0 : Nat) (x1 : Int32) (I : II) : Option Int32 := ock sh x0 25 <| orf (sh.2.2 x0 0) fun t1 => oar sh t1 102 fun nh2 => oix x1 nh2 fun i5 => some (I t1 i5)
abbrev rm_X26_get : Room := { frames := 0, cells := 0, slots := 0, locals := 0 }
theorem mv_X26_get_ok : callOK yX26_get 1 := by decide +kernel
set_option maxHeartbeats 4000000 in
theorem ct_X26_get {G : WG} {l : Launch} {sh : SH} (hS : stN sh) {I : II} {x0 : Nat} {x1 : Int32} {Z : Int32} (hk : f_X26_get sh x0 x1 I = some Z) : CT G l yX26_get (ws_ yX26_get cX26_get 2 (some .int)) rm_X26_get [.ref (wad G x0), .int x1] (sh, I) (.returned (some (.int Z))) (sh, I) := by
  refine CT.ofJ "NineDemands$Shorts" rfl (by decide) (Nat.le_of_ble_eq_true rfl) ?_
  intro p e s m args below meth c C
  unfold f_X26_get at hk
  refine j_lv (lv' := [some (.ref (wad G x0)), some (.int x1)]) rfl ?_
  refine j_aload_n (pc := 0) C dX26_get_0 rfl rfl ?_
  replace hk := ock_some hk
  obtain ⟨h1, hk⟩ := hk
  replace hk := orf_some hk
  obtain ⟨t1, et1, hk⟩ := hk
  refine x_getR (pc := 1) C fd_25_0 (fl1 C q1847) h1 et1 dX26_get_1 ?_
  refine j_iload_n (pc := 4) C dX26_get_4 rfl rfl ?_
  replace hk := oar_some hk
  obtain ⟨nh2, h2, hk⟩ := hk
  replace hk := oix_ex hk
  obtain ⟨i5, e5, h3, hk⟩ := hk
  refine x_sald (pc := 5) C h2 h3 e5 dX26_get_5 ?_
  obtain rfl := Option.some.inj hk
  exact j_iret (pc := 6) C dX26_get_6 (Nat.le_of_ble_eq_true rfl) (Nat.le_of_ble_eq_true rfl)
def f_X27_get (sh : SH) (x0 : Nat) (x1 : Int32) (I : II) : Option Int32 := ock sh x0 26 <| orf (sh.2.2 x0 0) fun t1 => oarw sh t1 100 fun nh2 => oix x1 nh2 fun i5 => some (I t1 i5)
abbrev rm_X27_get : Room := { frames := 0, cells := 0, slots := 0, locals := 0 }
theorem mv_X27_get_ok : callOK yX27_get 1 := by decide +kernel
set_option maxHeartbeats 4000000 in
theorem ct_X27_get {G : WG} {l : Launch} {sh : SH} (hS : stN sh) {I : II} {x0 : Nat} {x1 : Int32} {Z : Int32} (hk : f_X27_get sh x0 x1 I = some Z) : CT G l yX27_get (ws_ yX27_get cX27_get 2 (some .int)) rm_X27_get [.ref (wad G x0), .int x1] (sh, I) (.returned (some (.int Z))) (sh, I) := by
  refine CT.ofJ "NineDemands$Ints" rfl (by decide) (Nat.le_of_ble_eq_true rfl) ?_
  intro p e s m args below meth c C
  unfold f_X27_get at hk
  refine j_lv (lv' := [some (.ref (wad G x0)), some (.int x1)]) rfl ?_
  refine j_aload_n (pc := 0) C dX27_get_0 rfl rfl ?_
  replace hk := ock_some hk
  obtain ⟨h1, hk⟩ := hk
  replace hk := orf_some hk
  obtain ⟨t1, et1, hk⟩ := hk
  refine x_getR (pc := 1) C fd_26_0 (fl1 C q1858) h1 et1 dX27_get_1 ?_
  refine j_iload_n (pc := 4) C dX27_get_4 rfl rfl ?_
  replace hk := oarw_some hk
  obtain ⟨nh2, h2, hk⟩ := hk
  replace hk := oix_ex hk
  obtain ⟨i5, e5, h3, hk⟩ := hk
  refine j_iald (pc := 5) C h2 h3 e5 dX27_get_5 ?_
  obtain rfl := Option.some.inj hk
  exact j_iret (pc := 6) C dX27_get_6 (Nat.le_of_ble_eq_true rfl) (Nat.le_of_ble_eq_true rfl)
def v_X24_get (sh : SH) (x0 : Nat) (x1 : Int32) (I : II) : Option Int32 := og (x0 < sh.1 ∨ (exA ≤ x0 ∧ x0 < exA + exN)) <| if (sh.2.1 x0).1 = 24 then f_X25_get sh x0 x1 I else if (sh.2.1 x0).1 = 25 then f_X26_get sh x0 x1 I else if (sh.2.1 x0).1 = 26 then f_X27_get sh x0 x1 I else none
set_option maxHeartbeats 4000000 in
theorem vc_X24_get {G : WG} {l : Launch} {sh : SH} (hS : stN sh) {I : II} {x0 : Nat} {x1 : Int32} {Z : Int32} (hk : v_X24_get sh x0 x1 I = some Z) : VC G l ⟨"NineDemands$Sheet", "get", "(I)I"⟩ x0 [.int x1] (sh, I) (some (.int Z)) (sh, I) 1 21 0 0 1 := by
  unfold v_X24_get at hk
  replace hk := og_some hk
  obtain ⟨hd9, hk⟩ := hk
  by_cases h0 : (sh.2.1 x0).1 = 24
  · replace hk := it_t h0 hk
    exact ⟨24, _, yX25_get, _, _, _, "NineDemands$Sheet", _, ⟨hd9, h0⟩, rfl, ct_X25_get hS hk, q485, q486, q487, q135, q488, Or.inr q484, by decide +kernel, Nat.le_of_ble_eq_true rfl, Nat.le_of_ble_eq_true rfl, rfl, rfl⟩
  replace hk := it_f h0 hk
  by_cases h1 : (sh.2.1 x0).1 = 25
  · replace hk := it_t h1 hk
    exact ⟨25, _, yX26_get, _, _, _, "NineDemands$Sheet", _, ⟨hd9, h1⟩, rfl, ct_X26_get hS hk, q485, q492, q493, q136, q494, Or.inr q484, by decide +kernel, Nat.le_of_ble_eq_true rfl, Nat.le_of_ble_eq_true rfl, rfl, rfl⟩
  replace hk := it_f h1 hk
  by_cases h2 : (sh.2.1 x0).1 = 26
  · replace hk := it_t h2 hk
    exact ⟨26, _, yX27_get, _, _, _, "NineDemands$Sheet", _, ⟨hd9, h2⟩, rfl, ct_X27_get hS hk, q485, q489, q490, q137, q491, Or.inr q484, by decide +kernel, Nat.le_of_ble_eq_true rfl, Nat.le_of_ble_eq_true rfl, rfl, rfl⟩
  replace hk := it_f h2 hk
  cases hk
def f_X24_row_L9 (F : Nat) (x0 : Nat) (x1 : Nat) : Nat → Int32 → SH → II → Option (Nat × SH × II)
  | 0, _, _, _ => none
  | n9 + 1, x2, S, I => oar S x1 100 fun nh7 => if (nI nh7) ≤ x2 then some (x1, S, I) else ost S <| (v_X24_get S x0 x2 I).bind fun r19 => oarw S x1 100 fun nh11 => oix x2 nh11 fun i22 => (f_X24_row_L9 F x0 x1 n9) (x2 + (nI 1)) S (up2 I x1 i22 r19)
def f_X24_row (F : Nat) (sh : SH) (x0 : Nat) (I : II) : Option (Nat × SH × II) := omn3 sh <| ost sh <| (v_X24_size sh x0 I).bind fun r1 => onl r1 fun n4 => onw sh <| omn3 (newS sh 100 n4) <| f_X24_row_L9 F x0 ((sh).1) F (nI 0) (newS sh 100 n4) (newI sh I)
abbrev rmf_X24_row : Nat := 1
abbrev rml_X24_row : Nat := 21
theorem mv_X24_row_ok : callOK yX24_row 0 := by decide +kernel
set_option maxHeartbeats 4000000 in
theorem ct_X24_row {G : WG} {l : Launch} {sh : SH} {I : II} {F : Nat} {x0 : Nat} {Z : (Nat × SH × II)} (hk : f_X24_row F sh x0 I = some Z) : CT G l yX24_row (ws_ yX24_row cX24_row 3 (some (.array .int))) (rmA rmf_X24_row rml_X24_row (Z.2.1.1 - sh.1)) [.ref (wad G x0)] (sh, I) (.returned (some (.ref (wad G Z.1)))) Z.2 := by
  refine CT.ofJ "NineDemands$Sheet" rfl (by decide) (Nat.le_of_ble_eq_true rfl) ?_
  intro p e s m args below meth c C
  unfold f_X24_row at hk
  refine j_lv (lv' := [some (.ref (wad G x0)), none, none]) rfl ?_
  replace hk := omn3_some hk
  obtain ⟨hz0, hk⟩ := hk
  have hm0 : sh.1 ≤ sh.1 := Nat.le_refl _
  refine j_kn (k' := sh.1 - sh.1) (n' := 200 * (sh.1 - sh.1)) (Nat.sub_self _).symm (rb2 _) ?_
  refine j_aload_n (pc := 0) C dX24_row_0 rfl rfl ?_
  replace hk := ost_some hk
  obtain ⟨h1, hk⟩ := hk
  replace hk := ob_some hk
  obtain ⟨r1, h2, hk⟩ := hk
  refine x_callX (pc := 1) C (vc_X24_size h1 h2) q1901 dX24_row_1 rfl rfl (Nat.le_of_ble_eq_true rfl) (Nat.le_of_ble_eq_true rfl) (Nat.le_of_ble_eq_true rfl) (rz1 hm0 hz0) (rz2 hm0 hz0) ?_
  replace hk := onl_ex hk
  obtain ⟨n4, en4, h3, hk⟩ := hk
  replace hk := onw_some hk
  obtain ⟨h4, hk⟩ := hk
  replace hk := omn3_some hk
  obtain ⟨h5, hk⟩ := hk
  have h5 : sh.1 + 1 ≤ Z.2.1.1 := h5
  refine x_newaI (pc := 4) (at' := .int) (t := 100) (q := n4) (i := r1) C (Or.inl ⟨rfl, rfl⟩) q247 h3.1 en4.symm (Nat.le_trans h3.2 (by decide)) h4 (ra1 hm0 h5) (ra2 hm0 h5 h3.2) dX24_row_4 ?_
  have h6 : sh.1 ≤ sh.1 + 1 := Nat.le_succ_of_le hm0
  refine j_wid (k' := (newS sh 100 n4).1 - sh.1) (n' := 200 * ((newS sh 100 n4).1 - sh.1)) (rw1 hm0) (rw2 hm0 h3.2) ?_
  refine j_astore_n (pc := 6) C dX24_row_6 rfl (Nat.le_of_ble_eq_true rfl) rfl ?_
  refine j_iconst (pc := 7) (v := nI 0) C dX24_row_7 (by decide) ?_
  refine j_istore_n (pc := 8) C dX24_row_8 rfl (Nat.le_of_ble_eq_true rfl) rfl ?_
  have L9 : ∀ (x0 : Nat) (x1 : Nat) (n9 : Nat) (x2 : Int32) (S : SH) (I : II), sh.1 ≤ S.1 → S.1 ≤ Z.2.1.1 → f_X24_row_L9 F x0 x1 n9 x2 S I = some Z → J G p l e (rmA rmf_X24_row rml_X24_row (Z.2.1.1 - sh.1)) s m args below meth c 3 (.returned (some (.ref (wad G Z.1)))) Z.2 ((rmA rmf_X24_row rml_X24_row (Z.2.1.1 - sh.1))).cells ((rmA rmf_X24_row rml_X24_row (Z.2.1.1 - sh.1))).slots (S, I) ((S).1 - sh.1) (200 * ((S).1 - sh.1)) 9 [some (.ref (wad G x0)), some (.ref (wad G x1)), some (.int x2)] [] := by
    intro x0 x1 n9
    induction n9 with
    | zero => intro x2 S I hm hz hk; rw [f_X24_row_L9] at hk; cases hk
    | succ n9 ih9 =>
      intro x2 S I hm hz hk
      rw [f_X24_row_L9] at hk
      generalize f_X24_row_L9 F x0 x1 n9 = k9 at ih9 hk
      refine j_iload_n (pc := 9) C dX24_row_9 rfl rfl ?_
      refine j_aload_n (pc := 10) C dX24_row_10 rfl rfl ?_
      replace hk := oar_some hk
      obtain ⟨nh7, h7, hk⟩ := hk
      refine x_alen (pc := 11) C h7 (by decide) dX24_row_11 ?_
      refine j_icmp_ge (pc := 12) 29 C dX24_row_12 (by decide) (fun h8 => ?_) (fun h8 => ?_)
      · replace hk := it_t h8 hk
        refine j_aload_n (pc := 29) C dX24_row_29 rfl rfl ?_
        obtain rfl := Option.some.inj hk
        exact x_aret (pc := 30) C dX24_row_30 (Nat.le_refl _) (Nat.le_refl _) rfl
      · replace hk := it_f h8 hk
        refine j_aload_n (pc := 15) C dX24_row_15 rfl rfl ?_
        refine j_iload_n (pc := 16) C dX24_row_16 rfl rfl ?_
        refine j_aload_n (pc := 17) C dX24_row_17 rfl rfl ?_
        refine j_iload_n (pc := 18) C dX24_row_18 rfl rfl ?_
        replace hk := ost_some hk
        obtain ⟨h9, hk⟩ := hk
        replace hk := ob_some hk
        obtain ⟨r19, h10, hk⟩ := hk
        refine x_callX (pc := 19) C (vc_X24_get h9 h10) q1902 dX24_row_19 rfl rfl (Nat.le_of_ble_eq_true rfl) (Nat.le_of_ble_eq_true rfl) (Nat.le_of_ble_eq_true rfl) (rz1 hm hz) (rz2 hm hz) ?_
        replace hk := oarw_some hk
        obtain ⟨nh11, h11, hk⟩ := hk
        replace hk := oix_ex hk
        obtain ⟨i22, e22, h12, hk⟩ := hk
        refine j_iast (pc := 22) C h11 h12 e22 dX24_row_22 ?_
        refine j_iinc (pc := 23) (nI 1) C dX24_row_23 rfl (by decide) (Nat.le_of_ble_eq_true rfl) rfl ?_
        refine j_goto (pc := 26) 9 C dX24_row_26 (by decide) ?_
        exact j_mask [true, true, true] (ih9 _ _ _ hm hz hk)
  exact j_mask [true, true, true] (L9 _ _ _ _ _ _ h6 h5 hk)
def v_X24_row (F : Nat) (sh : SH) (x0 : Nat) (I : II) : Option (Nat × SH × II) := og (x0 < sh.1 ∨ (exA ≤ x0 ∧ x0 < exA + exN)) <| if (sh.2.1 x0).1 = 24 then f_X24_row F sh x0 I else if (sh.2.1 x0).1 = 25 then f_X24_row F sh x0 I else if (sh.2.1 x0).1 = 26 then f_X24_row F sh x0 I else none
set_option maxHeartbeats 4000000 in
theorem vc_X24_row {G : WG} {l : Launch} {sh : SH} {I : II} {F : Nat} {x0 : Nat} {Z : (Nat × SH × II)} (hk : v_X24_row F sh x0 I = some Z) : VC G l ⟨"NineDemands$Sheet", "row", "()[I"⟩ x0 [] (sh, I) (some (.ref (wad G Z.1))) Z.2 2 43 (Z.2.1.1 - sh.1) (200 * (Z.2.1.1 - sh.1)) 0 := by
  unfold v_X24_row at hk
  replace hk := og_some hk
  obtain ⟨hd9, hk⟩ := hk
  by_cases h0 : (sh.2.1 x0).1 = 24
  · replace hk := it_t h0 hk
    exact ⟨24, _, yX24_row, _, _, _, "NineDemands$Sheet", _, ⟨hd9, h0⟩, rfl, ct_X24_row hk, q1896, q1897, q1895, q134, q1900, Or.inl ⟨q1895, _, _, _, q1900⟩, by decide +kernel, Nat.le_of_ble_eq_true rfl, Nat.le_of_ble_eq_true rfl, rfl, rfl⟩
  replace hk := it_f h0 hk
  by_cases h1 : (sh.2.1 x0).1 = 25
  · replace hk := it_t h1 hk
    exact ⟨25, _, yX24_row, _, _, _, "NineDemands$Sheet", _, ⟨hd9, h1⟩, rfl, ct_X24_row hk, q1896, q1899, q1895, q134, q1900, Or.inl ⟨q1895, _, _, _, q1900⟩, by decide +kernel, Nat.le_of_ble_eq_true rfl, Nat.le_of_ble_eq_true rfl, rfl, rfl⟩
  replace hk := it_f h1 hk
  by_cases h2 : (sh.2.1 x0).1 = 26
  · replace hk := it_t h2 hk
    exact ⟨26, _, yX24_row, _, _, _, "NineDemands$Sheet", _, ⟨hd9, h2⟩, rfl, ct_X24_row hk, q1896, q1898, q1895, q134, q1900, Or.inl ⟨q1895, _, _, _, q1900⟩, by decide +kernel, Nat.le_of_ble_eq_true rfl, Nat.le_of_ble_eq_true rfl, rfl, rfl⟩
  replace hk := it_f h2 hk
  cases hk
def f_X25_put (sh : SH) (x0 : Nat) (x1 : Int32) (x2 : Int32) (I : II) : Option II := ock sh x0 24 <| orf (sh.2.2 x0 0) fun t1 => oarw sh t1 101 fun nh2 => oix x1 nh2 fun i7 => some (up2 I t1 i7 (Int8.toInt32 (Int32.toInt8 x2)))
abbrev rm_X25_put : Room := { frames := 0, cells := 0, slots := 0, locals := 0 }
theorem mv_X25_put_ok : callOK yX25_put 2 := by decide +kernel
set_option maxHeartbeats 4000000 in
theorem ct_X25_put {G : WG} {l : Launch} {sh : SH} (hS : stN sh) {I : II} {x0 : Nat} {x1 : Int32} {x2 : Int32} {Z : II} (hk : f_X25_put sh x0 x1 x2 I = some Z) : CT G l yX25_put (ws_ yX25_put cX25_put 3 none) rm_X25_put [.ref (wad G x0), .int x1, .int x2] (sh, I) (.returned none) (sh, Z) := by
  refine CT.ofJ "NineDemands$Bytes" rfl (by decide) (Nat.le_of_ble_eq_true rfl) ?_
  intro p e s m args below meth c C
  unfold f_X25_put at hk
  refine j_lv (lv' := [some (.ref (wad G x0)), some (.int x1), some (.int x2)]) rfl ?_
  refine j_aload_n (pc := 0) C dX25_put_0 rfl rfl ?_
  replace hk := ock_some hk
  obtain ⟨h1, hk⟩ := hk
  replace hk := orf_some hk
  obtain ⟨t1, et1, hk⟩ := hk
  refine x_getR (pc := 1) C fd_24_0 (fl1 C q1837) h1 et1 dX25_put_1 ?_
  refine j_iload_n (pc := 4) C dX25_put_4 rfl rfl ?_
  refine j_iload_n (pc := 5) C dX25_put_5 rfl rfl ?_
  refine j_i2b (pc := 6) C dX25_put_6 ?_
  replace hk := oarw_some hk
  obtain ⟨nh2, h2, hk⟩ := hk
  replace hk := oix_ex hk
  obtain ⟨i7, e7, h3, hk⟩ := hk
  refine x_bast (pc := 7) C h2 h3 e7 (pk_nb _) dX25_put_7 ?_
  obtain rfl := Option.some.inj hk
  exact j_vret (pc := 8) C dX25_put_8 (Nat.le_of_ble_eq_true rfl) (Nat.le_of_ble_eq_true rfl)
def f_X26_put (sh : SH) (x0 : Nat) (x1 : Int32) (x2 : Int32) (I : II) : Option II := ock sh x0 25 <| orf (sh.2.2 x0 0) fun t1 => oarw sh t1 102 fun nh2 => oix x1 nh2 fun i7 => some (up2 I t1 i7 (Int16.toInt32 (Int32.toInt16 x2)))
abbrev rm_X26_put : Room := { frames := 0, cells := 0, slots := 0, locals := 0 }
theorem mv_X26_put_ok : callOK yX26_put 2 := by decide +kernel
set_option maxHeartbeats 4000000 in
theorem ct_X26_put {G : WG} {l : Launch} {sh : SH} (hS : stN sh) {I : II} {x0 : Nat} {x1 : Int32} {x2 : Int32} {Z : II} (hk : f_X26_put sh x0 x1 x2 I = some Z) : CT G l yX26_put (ws_ yX26_put cX26_put 3 none) rm_X26_put [.ref (wad G x0), .int x1, .int x2] (sh, I) (.returned none) (sh, Z) := by
  refine CT.ofJ "NineDemands$Shorts" rfl (by decide) (Nat.le_of_ble_eq_true rfl) ?_
  intro p e s m args below meth c C
  unfold f_X26_put at hk
  refine j_lv (lv' := [some (.ref (wad G x0)), some (.int x1), some (.int x2)]) rfl ?_
  refine j_aload_n (pc := 0) C dX26_put_0 rfl rfl ?_
  replace hk := ock_some hk
  obtain ⟨h1, hk⟩ := hk
  replace hk := orf_some hk
  obtain ⟨t1, et1, hk⟩ := hk
  refine x_getR (pc := 1) C fd_25_0 (fl1 C q1847) h1 et1 dX26_put_1 ?_
  refine j_iload_n (pc := 4) C dX26_put_4 rfl rfl ?_
  refine j_iload_n (pc := 5) C dX26_put_5 rfl rfl ?_
  refine j_i2s (pc := 6) C dX26_put_6 ?_
  replace hk := oarw_some hk
  obtain ⟨nh2, h2, hk⟩ := hk
  replace hk := oix_ex hk
  obtain ⟨i7, e7, h3, hk⟩ := hk
  refine x_sast (pc := 7) C h2 h3 e7 (pk_ns _) dX26_put_7 ?_
  obtain rfl := Option.some.inj hk
  exact j_vret (pc := 8) C dX26_put_8 (Nat.le_of_ble_eq_true rfl) (Nat.le_of_ble_eq_true rfl)
def f_X27_put (sh : SH) (x0 : Nat) (x1 : Int32) (x2 : Int32) (I : II) : Option II := ock sh x0 26 <| orf (sh.2.2 x0 0) fun t1 => oarw sh t1 100 fun nh2 => oix x1 nh2 fun i6 => some (up2 I t1 i6 x2)
abbrev rm_X27_put : Room := { frames := 0, cells := 0, slots := 0, locals := 0 }
theorem mv_X27_put_ok : callOK yX27_put 2 := by decide +kernel
set_option maxHeartbeats 4000000 in
theorem ct_X27_put {G : WG} {l : Launch} {sh : SH} (hS : stN sh) {I : II} {x0 : Nat} {x1 : Int32} {x2 : Int32} {Z : II} (hk : f_X27_put sh x0 x1 x2 I = some Z) : CT G l yX27_put (ws_ yX27_put cX27_put 3 none) rm_X27_put [.ref (wad G x0), .int x1, .int x2] (sh, I) (.returned none) (sh, Z) := by
  refine CT.ofJ "NineDemands$Ints" rfl (by decide) (Nat.le_of_ble_eq_true rfl) ?_
  intro p e s m args below meth c C
  unfold f_X27_put at hk
  refine j_lv (lv' := [some (.ref (wad G x0)), some (.int x1), some (.int x2)]) rfl ?_
  refine j_aload_n (pc := 0) C dX27_put_0 rfl rfl ?_
  replace hk := ock_some hk
  obtain ⟨h1, hk⟩ := hk
  replace hk := orf_some hk
  obtain ⟨t1, et1, hk⟩ := hk
  refine x_getR (pc := 1) C fd_26_0 (fl1 C q1858) h1 et1 dX27_put_1 ?_
  refine j_iload_n (pc := 4) C dX27_put_4 rfl rfl ?_
  refine j_iload_n (pc := 5) C dX27_put_5 rfl rfl ?_
  replace hk := oarw_some hk
  obtain ⟨nh2, h2, hk⟩ := hk
  replace hk := oix_ex hk
  obtain ⟨i6, e6, h3, hk⟩ := hk
  refine j_iast (pc := 6) C h2 h3 e6 dX27_put_6 ?_
  obtain rfl := Option.some.inj hk
  exact j_vret (pc := 7) C dX27_put_7 (Nat.le_of_ble_eq_true rfl) (Nat.le_of_ble_eq_true rfl)
def v_X24_put (sh : SH) (x0 : Nat) (x1 : Int32) (x2 : Int32) (I : II) : Option II := og (x0 < sh.1 ∨ (exA ≤ x0 ∧ x0 < exA + exN)) <| if (sh.2.1 x0).1 = 24 then f_X25_put sh x0 x1 x2 I else if (sh.2.1 x0).1 = 25 then f_X26_put sh x0 x1 x2 I else if (sh.2.1 x0).1 = 26 then f_X27_put sh x0 x1 x2 I else none
set_option maxHeartbeats 4000000 in
theorem vc_X24_put {G : WG} {l : Launch} {sh : SH} (hS : stN sh) {I : II} {x0 : Nat} {x1 : Int32} {x2 : Int32} {Z : II} (hk : v_X24_put sh x0 x1 x2 I = some Z) : VC G l ⟨"NineDemands$Sheet", "put", "(II)V"⟩ x0 [.int x1, .int x2] (sh, I) none (sh, Z) 1 22 0 0 2 := by
  unfold v_X24_put at hk
  replace hk := og_some hk
  obtain ⟨hd9, hk⟩ := hk
  by_cases h0 : (sh.2.1 x0).1 = 24
  · replace hk := it_t h0 hk
    exact ⟨24, _, yX25_put, _, _, _, "NineDemands$Sheet", _, ⟨hd9, h0⟩, rfl, ct_X25_put hS hk, q1868, q1869, q1870, q135, q1871, Or.inr q1867, by decide +kernel, Nat.le_of_ble_eq_true rfl, Nat.le_of_ble_eq_true rfl, rfl, rfl⟩
  replace hk := it_f h0 hk
  by_cases h1 : (sh.2.1 x0).1 = 25
  · replace hk := it_t h1 hk
    exact ⟨25, _, yX26_put, _, _, _, "NineDemands$Sheet", _, ⟨hd9, h1⟩, rfl, ct_X26_put hS hk, q1868, q1875, q1876, q136, q1877, Or.inr q1867, by decide +kernel, Nat.le_of_ble_eq_true rfl, Nat.le_of_ble_eq_true rfl, rfl, rfl⟩
  replace hk := it_f h1 hk
  by_cases h2 : (sh.2.1 x0).1 = 26
  · replace hk := it_t h2 hk
    exact ⟨26, _, yX27_put, _, _, _, "NineDemands$Sheet", _, ⟨hd9, h2⟩, rfl, ct_X27_put hS hk, q1868, q1872, q1873, q137, q1874, Or.inr q1867, by decide +kernel, Nat.le_of_ble_eq_true rfl, Nat.le_of_ble_eq_true rfl, rfl, rfl⟩
  replace hk := it_f h2 hk
  cases hk
def f_X0_move_J153 (F : Nat) (s0 : Nat) (S : SH) (I : II) : Option (Int32 × SH × II) := ost S <| bd2 (f_X0_finds S s0 I) fun r158 I158 => some (r158, S, I158)
def f_X0_move_L120 (F : Nat) (x2 : Int32) (x4 : Int32) (x5 : Int32) (x7 : Nat) (x8 : Nat) : Nat → Int32 → SH → II → Option (Int32 × SH × II)
  | 0, _, _, _ => none
  | n120 + 1, x9, S, I => if x5 ≤ x9 then some (x5, S, I) else oarw S x8 100 fun nh29 => oix (x2 + x9) nh29 fun i140 => ost S <| (v_X24_put S x7 (x4 + x9) (I x8 i140) I).bind fun I141 => (f_X0_move_L120 F x2 x4 x5 x7 x8 n120) (x9 + (nI 1)) S I141
def f_X0_move_J106 (F : Nat) (x2 : Int32) (x4 : Int32) (x5 : Int32) (x6 : Nat) (x7 : Nat) (s1 : Int32) (S : SH) (I : II) : Option (Int32 × SH × II) := ost S <| bd2 (f_X0_need S s1 (nI 1) I) fun u107 I107 => oex u107 (fun _w107 => bd3 (v_X24_row F S x6 I107) fun a112 S112 I112 => og (S.1 ≤ S112.1) <| omn3 S112 <| f_X0_move_L120 F x2 x4 x5 x7 a112 F (nI 0) S112 I112) (fun w107 => ock S w107 1 <| f_X0_move_J153 F w107 S I107)
def f_X0_move_J105 (F : Nat) (x2 : Int32) (x4 : Int32) (x5 : Int32) (x6 : Nat) (x7 : Nat) (S : SH) (I : II) : Option (Int32 × SH × II) := f_X0_move_J106 F x2 x4 x5 x6 x7 (nI 0) S I
def f_X0_move_J57 (F : Nat) (x2 : Int32) (x4 : Int32) (x5 : Int32) (x6 : Nat) (x7 : Nat) (s1 : Int32) (S : SH) (I : II) : Option (Int32 × SH × II) := ost S <| bd2 (f_X0_need S s1 (nI 5) I) fun u58 I58 => oex u58 (fun _w58 => if x5 < 0 then f_X0_move_J105 F x2 x4 x5 x6 x7 S I58 else if x2 < 0 then f_X0_move_J105 F x2 x4 x5 x6 x7 S I58 else if x4 < 0 then f_X0_move_J105 F x2 x4 x5 x6 x7 S I58 else (v_X24_size S x6 I58).bind fun r79 => if (r79 - x5) < x2 then f_X0_move_J105 F x2 x4 x5 x6 x7 S I58 else (v_X24_size S x7 I58).bind fun r92 => if (r92 - x5) < x4 then f_X0_move_J105 F x2 x4 x5 x6 x7 S I58 else f_X0_move_J106 F x2 x4 x5 x6 x7 (nI 1) S I58) (fun w58 => ock S w58 1 <| f_X0_move_J153 F w58 S I58)
def f_X0_move_J20 (F : Nat) (x1 : Int32) (x2 : Int32) (x3 : Int32) (x4 : Int32) (x5 : Int32) (s1 : Int32) (S : SH) (I : II) : Option (Int32 × SH × II) := ost S <| bd2 (f_X0_need S s1 (nI 1) I) fun u21 I21 => oex u21 (fun _w21 => bd2 (f_X0_sheetAt S x1 I21) fun u26 I26 => oex u26 (fun a26 => bd2 (f_X0_sheetAt S x3 I26) fun u33 I33 => oex u33 (fun a33 => (v_X24_width S a26 I33).bind fun r41 => (v_X24_width S a33 I33).bind fun r46 => if r41 = r46 then f_X0_move_J57 F x2 x4 x5 a26 a33 (nI 1) S I33 else f_X0_move_J57 F x2 x4 x5 a26 a33 (nI 0) S I33) (fun w33 => ock S w33 1 <| f_X0_move_J153 F w33 S I33)) (fun w26 => ock S w26 1 <| f_X0_move_J153 F w26 S I26)) (fun w21 => ock S w21 1 <| f_X0_move_J153 F w21 S I21)
def f_X0_move_J19 (F : Nat) (x1 : Int32) (x2 : Int32) (x3 : Int32) (x4 : Int32) (x5 : Int32) (S : SH) (I : II) : Option (Int32 × SH × II) := f_X0_move_J20 F x1 x2 x3 x4 x5 (nI 0) S I
def f_X0_move (F : Nat) (sh : SH) (x1 : Int32) (x2 : Int32) (x3 : Int32) (x4 : Int32) (x5 : Int32) (I : II) : Option (Int32 × SH × II) := omn3 sh <| (f_X0_isSheet x1).bind fun r2 => if r2 = 0 then f_X0_move_J19 F x1 x2 x3 x4 x5 sh I else (f_X0_isSheet x3).bind fun r9 => if r9 = 0 then f_X0_move_J19 F x1 x2 x3 x4 x5 sh I else f_X0_move_J20 F x1 x2 x3 x4 x5 (nI 1) sh I
abbrev rmf_X0_move : Nat := 3
abbrev rml_X0_move : Nat := 64
theorem mv_X0_move_ok : callOK yX0_move 5 := by decide +kernel
theorem mw_X0_move : MW yX0_move cX0_move 10 (some .int) [(0, 152, 153, 8)] 5 := ⟨q1879, q1880, q91, q1881, mv_X0_move_ok⟩
set_option maxHeartbeats 4000000 in
theorem ct_X0_move {G : WG} {l : Launch} {sh : SH} {I : II} {F : Nat} {x1 : Int32} {x2 : Int32} {x3 : Int32} {x4 : Int32} {x5 : Int32} {Z : (Int32 × SH × II)} (hk : f_X0_move F sh x1 x2 x3 x4 x5 I = some Z) : CT G l yX0_move (wsW_ yX0_move cX0_move 10 (some .int) [(0, 152, 153, 8)]) (rmA rmf_X0_move rml_X0_move (Z.2.1.1 - sh.1)) [.ref (wad G 0), .int x1, .int x2, .int x3, .int x4, .int x5] (sh, I) (.returned (some (.int Z.1))) Z.2 := by
  refine CT.ofJW "NineDemands" rfl (by decide) (Nat.le_of_ble_eq_true rfl) ?_
  intro p e s m args below meth c C
  unfold f_X0_move at hk
  refine j_lv (lv' := [some (.ref (wad G 0)), some (.int x1), some (.int x2), some (.int x3), some (.int x4), some (.int x5), none, none, none, none]) rfl ?_
  replace hk := omn3_some hk
  obtain ⟨hz0, hk⟩ := hk
  have hm0 : sh.1 ≤ sh.1 := Nat.le_refl _
  refine j_kn (k' := sh.1 - sh.1) (n' := 200 * (sh.1 - sh.1)) (Nat.sub_self _).symm (rb2 _) ?_
  refine j_aload_n (pc := 0) C dX0_move_0 rfl rfl ?_
  refine j_iload_n (pc := 1) C dX0_move_1 rfl rfl ?_
  replace hk := ob_some hk
  obtain ⟨r2, h1, hk⟩ := hk
  refine j_callS (pc := 2) C (ct_X0_isSheet h1) ms_X0_isSheet q460 dX0_move_2 rfl rfl (Nat.le_of_ble_eq_true rfl) (rmOK.i (Nat.le_of_ble_eq_true rfl) (Nat.le_of_ble_eq_true rfl) (rz1 hm0 hz0) (rz2 hm0 hz0)) ?_
  have Jn20 : ∀ (x1 : Int32) (x2 : Int32) (x3 : Int32) (x4 : Int32) (x5 : Int32) (s1 : Int32) (S : SH) (I : II), sh.1 ≤ S.1 → S.1 ≤ Z.2.1.1 → f_X0_move_J20 F x1 x2 x3 x4 x5 s1 S I = some Z → J G p l e (rmA rmf_X0_move rml_X0_move (Z.2.1.1 - sh.1)) s m args below meth c 10 (.returned (some (.int Z.1))) Z.2 ((rmA rmf_X0_move rml_X0_move (Z.2.1.1 - sh.1))).cells ((rmA rmf_X0_move rml_X0_move (Z.2.1.1 - sh.1))).slots (S, I) ((S).1 - sh.1) (200 * ((S).1 - sh.1)) 20 [some (.ref (wad G 0)), some (.int x1), some (.int x2), some (.int x3), some (.int x4), some (.int x5), none, none, none, none] [.int s1, .ref (wad G 0)] := by
    intro x1 x2 x3 x4 x5 s1 S I hm hz hk
    unfold f_X0_move_J20 at hk
    refine j_iconst (pc := 20) (v := nI 1) C dX0_move_20 (by decide) ?_
    have Jn153 : ∀ (s0 : Nat) (S : SH) (I : II), sh.1 ≤ S.1 → S.1 ≤ Z.2.1.1 → f_X0_move_J153 F s0 S I = some Z → J G p l e (rmA rmf_X0_move rml_X0_move (Z.2.1.1 - sh.1)) s m args below meth c 10 (.returned (some (.int Z.1))) Z.2 ((rmA rmf_X0_move rml_X0_move (Z.2.1.1 - sh.1))).cells ((rmA rmf_X0_move rml_X0_move (Z.2.1.1 - sh.1))).slots (S, I) ((S).1 - sh.1) (200 * ((S).1 - sh.1)) 153 [some (.ref (wad G 0)), none, none, none, none, none, none, none, none, none] [.ref (wad G s0)] := by
      intro s0 S I hm hz hk
      unfold f_X0_move_J153 at hk
      refine j_astore (pc := 153) C dX0_move_153 (Nat.le_of_ble_eq_true rfl) rfl ?_
      refine j_aload_n (pc := 155) C dX0_move_155 rfl rfl ?_
      refine j_aload (pc := 156) C dX0_move_156 rfl ?_
      replace hk := ost_some hk
      obtain ⟨h2, hk⟩ := hk
      replace hk := bd2_some hk
      obtain ⟨r158, I158, h3, hk⟩ := hk
      refine x_callV (pc := 158) C (ct_X0_finds h2 h3) mv_X0_finds (stN_o0 h2).r rfl rfl q433 dX0_move_158 rfl rfl (Nat.le_of_ble_eq_true rfl) (rmOK.i (Nat.le_of_ble_eq_true rfl) (Nat.le_of_ble_eq_true rfl) (rz1 hm hz) (rz2 hm hz)) ?_
      obtain rfl := Option.some.inj hk
      exact j_iret (pc := 161) C dX0_move_161 (Nat.le_refl _) (Nat.le_refl _)
    replace hk := ost_some hk
    obtain ⟨h4, hk⟩ := hk
    replace hk := bd2_some hk
    obtain ⟨u21, I21, h5, hk⟩ := hk
    cases u21 with
    | inr w21 =>
      replace hk := oex_r hk
      replace hk := ock_some hk
      obtain ⟨h7, hk⟩ := hk
      refine x_callVC [] [] (0, 152, 153, 8) (pc := 21) C (ct_X0_need h4 h5) mv_X0_need (stN_o0 h4).r rfl rfl q416 dX0_move_21 rfl rfl (Nat.le_of_ble_eq_true rfl) (rmOK.i (Nat.le_of_ble_eq_true rfl) (Nat.le_of_ble_eq_true rfl) (rz1 hm hz) (rz2 hm hz)) rfl h7 rfl (by decide) (by decide) q146 (fun z hz => by cases hz) ?_
      exact j_mask [true, false, false, false, false, false, false, false, false, false] (Jn153 _ _ _ hm hz hk)
    | inl _w21 =>
      replace hk := oex_l hk
      refine x_callV (pc := 21) C (ct_X0_need h4 h5) mv_X0_need (stN_o0 h4).r rfl rfl q416 dX0_move_21 rfl rfl (Nat.le_of_ble_eq_true rfl) (rmOK.i (Nat.le_of_ble_eq_true rfl) (Nat.le_of_ble_eq_true rfl) (rz1 hm hz) (rz2 hm hz)) ?_
      refine j_aload_n (pc := 24) C dX0_move_24 rfl rfl ?_
      refine j_iload_n (pc := 25) C dX0_move_25 rfl rfl ?_
      replace hk := bd2_some hk
      obtain ⟨u26, I26, h8, hk⟩ := hk
      cases u26 with
      | inr w26 =>
        replace hk := oex_r hk
        replace hk := ock_some hk
        obtain ⟨h10, hk⟩ := hk
        refine x_callVC [] [] (0, 152, 153, 8) (pc := 26) C (ct_X0_sheetAt h4 h8) mv_X0_sheetAt (stN_o0 h4).r rfl rfl q463 dX0_move_26 rfl rfl (Nat.le_of_ble_eq_true rfl) (rmOK.i (Nat.le_of_ble_eq_true rfl) (Nat.le_of_ble_eq_true rfl) (rz1 hm hz) (rz2 hm hz)) rfl h10 rfl (by decide) (by decide) q146 (fun z hz => by cases hz) ?_
        exact j_mask [true, false, false, false, false, false, false, false, false, false] (Jn153 _ _ _ hm hz hk)
      | inl a26 =>
        replace hk := oex_l hk
        refine x_callV (pc := 26) C (ct_X0_sheetAt h4 h8) mv_X0_sheetAt (stN_o0 h4).r rfl rfl q463 dX0_move_26 rfl rfl (Nat.le_of_ble_eq_true rfl) (rmOK.i (Nat.le_of_ble_eq_true rfl) (Nat.le_of_ble_eq_true rfl) (rz1 hm hz) (rz2 hm hz)) ?_
        refine j_astore (pc := 29) C dX0_move_29 (Nat.le_of_ble_eq_true rfl) rfl ?_
        refine j_aload_n (pc := 31) C dX0_move_31 rfl rfl ?_
        refine j_iload_n (pc := 32) C dX0_move_32 rfl rfl ?_
        replace hk := bd2_some hk
        obtain ⟨u33, I33, h11, hk⟩ := hk
        cases u33 with
        | inr w33 =>
          replace hk := oex_r hk
          replace hk := ock_some hk
          obtain ⟨h13, hk⟩ := hk
          refine x_callVC [] [] (0, 152, 153, 8) (pc := 33) C (ct_X0_sheetAt h4 h11) mv_X0_sheetAt (stN_o0 h4).r rfl rfl q463 dX0_move_33 rfl rfl (Nat.le_of_ble_eq_true rfl) (rmOK.i (Nat.le_of_ble_eq_true rfl) (Nat.le_of_ble_eq_true rfl) (rz1 hm hz) (rz2 hm hz)) rfl h13 rfl (by decide) (by decide) q146 (fun z hz => by cases hz) ?_
          exact j_mask [true, false, false, false, false, false, false, false, false, false] (Jn153 _ _ _ hm hz hk)
        | inl a33 =>
          replace hk := oex_l hk
          refine x_callV (pc := 33) C (ct_X0_sheetAt h4 h11) mv_X0_sheetAt (stN_o0 h4).r rfl rfl q463 dX0_move_33 rfl rfl (Nat.le_of_ble_eq_true rfl) (rmOK.i (Nat.le_of_ble_eq_true rfl) (Nat.le_of_ble_eq_true rfl) (rz1 hm hz) (rz2 hm hz)) ?_
          refine j_astore (pc := 36) C dX0_move_36 (Nat.le_of_ble_eq_true rfl) rfl ?_
          refine j_aload_n (pc := 38) C dX0_move_38 rfl rfl ?_
          refine j_aload (pc := 39) C dX0_move_39 rfl ?_
          replace hk := ob_some hk
          obtain ⟨r41, h14, hk⟩ := hk
          refine x_callX (pc := 41) C (vc_X24_width h4 h14) q1882 dX0_move_41 rfl rfl (Nat.le_of_ble_eq_true rfl) (Nat.le_of_ble_eq_true rfl) (Nat.le_of_ble_eq_true rfl) (rz1 hm hz) (rz2 hm hz) ?_
          refine j_aload (pc := 44) C dX0_move_44 rfl ?_
          replace hk := ob_some hk
          obtain ⟨r46, h15, hk⟩ := hk
          refine x_callX (pc := 46) C (vc_X24_width h4 h15) q1882 dX0_move_46 rfl rfl (Nat.le_of_ble_eq_true rfl) (Nat.le_of_ble_eq_true rfl) (Nat.le_of_ble_eq_true rfl) (rz1 hm hz) (rz2 hm hz) ?_
          have Jn57 : ∀ (x2 : Int32) (x4 : Int32) (x5 : Int32) (x6 : Nat) (x7 : Nat) (s1 : Int32) (S : SH) (I : II), sh.1 ≤ S.1 → S.1 ≤ Z.2.1.1 → f_X0_move_J57 F x2 x4 x5 x6 x7 s1 S I = some Z → J G p l e (rmA rmf_X0_move rml_X0_move (Z.2.1.1 - sh.1)) s m args below meth c 10 (.returned (some (.int Z.1))) Z.2 ((rmA rmf_X0_move rml_X0_move (Z.2.1.1 - sh.1))).cells ((rmA rmf_X0_move rml_X0_move (Z.2.1.1 - sh.1))).slots (S, I) ((S).1 - sh.1) (200 * ((S).1 - sh.1)) 57 [some (.ref (wad G 0)), none, some (.int x2), none, some (.int x4), some (.int x5), some (.ref (wad G x6)), some (.ref (wad G x7)), none, none] [.int s1, .ref (wad G 0)] := by
            intro x2 x4 x5 x6 x7 s1 S I hm hz hk
            unfold f_X0_move_J57 at hk
            refine j_iconst (pc := 57) (v := nI 5) C dX0_move_57 (by decide) ?_
            replace hk := ost_some hk
            obtain ⟨h16, hk⟩ := hk
            replace hk := bd2_some hk
            obtain ⟨u58, I58, h17, hk⟩ := hk
            cases u58 with
            | inr w58 =>
              replace hk := oex_r hk
              replace hk := ock_some hk
              obtain ⟨h19, hk⟩ := hk
              refine x_callVC [] [] (0, 152, 153, 8) (pc := 58) C (ct_X0_need h16 h17) mv_X0_need (stN_o0 h16).r rfl rfl q416 dX0_move_58 rfl rfl (Nat.le_of_ble_eq_true rfl) (rmOK.i (Nat.le_of_ble_eq_true rfl) (Nat.le_of_ble_eq_true rfl) (rz1 hm hz) (rz2 hm hz)) rfl h19 rfl (by decide) (by decide) q146 (fun z hz => by cases hz) ?_
              exact j_mask [true, false, false, false, false, false, false, false, false, false] (Jn153 _ _ _ hm hz hk)
            | inl _w58 =>
              replace hk := oex_l hk
              refine x_callV (pc := 58) C (ct_X0_need h16 h17) mv_X0_need (stN_o0 h16).r rfl rfl q416 dX0_move_58 rfl rfl (Nat.le_of_ble_eq_true rfl) (rmOK.i (Nat.le_of_ble_eq_true rfl) (Nat.le_of_ble_eq_true rfl) (rz1 hm hz) (rz2 hm hz)) ?_
              refine j_aload_n (pc := 61) C dX0_move_61 rfl rfl ?_
              refine j_iload (pc := 62) C dX0_move_62 rfl ?_
              have Jn106 : ∀ (x2 : Int32) (x4 : Int32) (x5 : Int32) (x6 : Nat) (x7 : Nat) (s1 : Int32) (S : SH) (I : II), sh.1 ≤ S.1 → S.1 ≤ Z.2.1.1 → f_X0_move_J106 F x2 x4 x5 x6 x7 s1 S I = some Z → J G p l e (rmA rmf_X0_move rml_X0_move (Z.2.1.1 - sh.1)) s m args below meth c 10 (.returned (some (.int Z.1))) Z.2 ((rmA rmf_X0_move rml_X0_move (Z.2.1.1 - sh.1))).cells ((rmA rmf_X0_move rml_X0_move (Z.2.1.1 - sh.1))).slots (S, I) ((S).1 - sh.1) (200 * ((S).1 - sh.1)) 106 [some (.ref (wad G 0)), none, some (.int x2), none, some (.int x4), some (.int x5), some (.ref (wad G x6)), some (.ref (wad G x7)), none, none] [.int s1, .ref (wad G 0)] := by
                intro x2 x4 x5 x6 x7 s1 S I hm hz hk
                unfold f_X0_move_J106 at hk
                refine j_iconst (pc := 106) (v := nI 1) C dX0_move_106 (by decide) ?_
                replace hk := ost_some hk
                obtain ⟨h20, hk⟩ := hk
                replace hk := bd2_some hk
                obtain ⟨u107, I107, h21, hk⟩ := hk
                cases u107 with
                | inr w107 =>
                  replace hk := oex_r hk
                  replace hk := ock_some hk
                  obtain ⟨h23, hk⟩ := hk
                  refine x_callVC [] [] (0, 152, 153, 8) (pc := 107) C (ct_X0_need h20 h21) mv_X0_need (stN_o0 h20).r rfl rfl q416 dX0_move_107 rfl rfl (Nat.le_of_ble_eq_true rfl) (rmOK.i (Nat.le_of_ble_eq_true rfl) (Nat.le_of_ble_eq_true rfl) (rz1 hm hz) (rz2 hm hz)) rfl h23 rfl (by decide) (by decide) q146 (fun z hz => by cases hz) ?_
                  exact j_mask [true, false, false, false, false, false, false, false, false, false] (Jn153 _ _ _ hm hz hk)
                | inl _w107 =>
                  replace hk := oex_l hk
                  refine x_callV (pc := 107) C (ct_X0_need h20 h21) mv_X0_need (stN_o0 h20).r rfl rfl q416 dX0_move_107 rfl rfl (Nat.le_of_ble_eq_true rfl) (rmOK.i (Nat.le_of_ble_eq_true rfl) (Nat.le_of_ble_eq_true rfl) (rz1 hm hz) (rz2 hm hz)) ?_
                  refine j_aload (pc := 110) C dX0_move_110 rfl ?_
                  replace hk := bd3_some hk
                  obtain ⟨a112, S112, I112, h24, hk⟩ := hk
                  replace hk := og_some hk
                  obtain ⟨h25, hk⟩ := hk
                  replace hk := omn3_some hk
                  obtain ⟨h26, hk⟩ := hk
                  have h27 : sh.1 ≤ S112.1 := Nat.le_trans hm h25
                  refine x_callX (pc := 112) C (vc_X24_row h24) q1894 dX0_move_112 rfl rfl (Nat.le_of_ble_eq_true rfl) (Nat.le_of_ble_eq_true rfl) (Nat.le_of_ble_eq_true rfl) (rm1 hm h25 h26) (rm2 hm h25 h26) ?_
                  refine j_kn (k' := S112.1 - sh.1) (n' := 200 * (S112.1 - sh.1)) (rk1 hm h25) (rk2 hm h25) ?_
                  refine j_astore (pc := 115) C dX0_move_115 (Nat.le_of_ble_eq_true rfl) rfl ?_
                  refine j_iconst (pc := 117) (v := nI 0) C dX0_move_117 (by decide) ?_
                  refine j_istore (pc := 118) C dX0_move_118 (Nat.le_of_ble_eq_true rfl) rfl ?_
                  have L120 : ∀ (x2 : Int32) (x4 : Int32) (x5 : Int32) (x7 : Nat) (x8 : Nat) (n120 : Nat) (x9 : Int32) (S : SH) (I : II), sh.1 ≤ S.1 → S.1 ≤ Z.2.1.1 → f_X0_move_L120 F x2 x4 x5 x7 x8 n120 x9 S I = some Z → J G p l e (rmA rmf_X0_move rml_X0_move (Z.2.1.1 - sh.1)) s m args below meth c 10 (.returned (some (.int Z.1))) Z.2 ((rmA rmf_X0_move rml_X0_move (Z.2.1.1 - sh.1))).cells ((rmA rmf_X0_move rml_X0_move (Z.2.1.1 - sh.1))).slots (S, I) ((S).1 - sh.1) (200 * ((S).1 - sh.1)) 120 [none, none, some (.int x2), none, some (.int x4), some (.int x5), none, some (.ref (wad G x7)), some (.ref (wad G x8)), some (.int x9)] [] := by
                    intro x2 x4 x5 x7 x8 n120
                    induction n120 with
                    | zero => intro x9 S I hm hz hk; rw [f_X0_move_L120] at hk; cases hk
                    | succ n120 ih120 =>
                      intro x9 S I hm hz hk
                      rw [f_X0_move_L120] at hk
                      generalize f_X0_move_L120 F x2 x4 x5 x7 x8 n120 = k120 at ih120 hk
                      refine j_iload (pc := 120) C dX0_move_120 rfl ?_
                      refine j_iload (pc := 122) C dX0_move_122 rfl ?_
                      refine j_icmp_ge (pc := 124) 150 C dX0_move_124 (by decide) (fun h28 => ?_) (fun h28 => ?_)
                      · replace hk := it_t h28 hk
                        refine j_iload (pc := 150) C dX0_move_150 rfl ?_
                        obtain rfl := Option.some.inj hk
                        exact j_iret (pc := 152) C dX0_move_152 (Nat.le_refl _) (Nat.le_refl _)
                      · replace hk := it_f h28 hk
                        refine j_aload (pc := 127) C dX0_move_127 rfl ?_
                        refine j_iload (pc := 129) C dX0_move_129 rfl ?_
                        refine j_iload (pc := 131) C dX0_move_131 rfl ?_
                        refine j_iadd (pc := 133) C dX0_move_133 ?_
                        refine j_aload (pc := 134) C dX0_move_134 rfl ?_
                        refine j_iload_n (pc := 136) C dX0_move_136 rfl rfl ?_
                        refine j_iload (pc := 137) C dX0_move_137 rfl ?_
                        refine j_iadd (pc := 139) C dX0_move_139 ?_
                        replace hk := oarw_some hk
                        obtain ⟨nh29, h29, hk⟩ := hk
                        replace hk := oix_ex hk
                        obtain ⟨i140, e140, h30, hk⟩ := hk
                        refine j_iald (pc := 140) C h29 h30 e140 dX0_move_140 ?_
                        replace hk := ost_some hk
                        obtain ⟨h31, hk⟩ := hk
                        replace hk := ob_some hk
                        obtain ⟨I141, h32, hk⟩ := hk
                        refine x_callX (pc := 141) C (vc_X24_put h31 h32) q1866 dX0_move_141 rfl rfl (Nat.le_of_ble_eq_true rfl) (Nat.le_of_ble_eq_true rfl) (Nat.le_of_ble_eq_true rfl) (rz1 hm hz) (rz2 hm hz) ?_
                        refine j_iinc (pc := 144) (nI 1) C dX0_move_144 rfl (by decide) (Nat.le_of_ble_eq_true rfl) rfl ?_
                        refine j_goto (pc := 147) 120 C dX0_move_147 (by decide) ?_
                        exact j_mask [false, false, true, false, true, true, false, true, true, true] (ih120 _ _ _ hm hz hk)
                  exact j_mask [false, false, true, false, true, true, false, true, true, true] (L120 _ _ _ _ _ _ _ _ _ h27 h26 hk)
              have Jn105 : ∀ (x2 : Int32) (x4 : Int32) (x5 : Int32) (x6 : Nat) (x7 : Nat) (S : SH) (I : II), sh.1 ≤ S.1 → S.1 ≤ Z.2.1.1 → f_X0_move_J105 F x2 x4 x5 x6 x7 S I = some Z → J G p l e (rmA rmf_X0_move rml_X0_move (Z.2.1.1 - sh.1)) s m args below meth c 10 (.returned (some (.int Z.1))) Z.2 ((rmA rmf_X0_move rml_X0_move (Z.2.1.1 - sh.1))).cells ((rmA rmf_X0_move rml_X0_move (Z.2.1.1 - sh.1))).slots (S, I) ((S).1 - sh.1) (200 * ((S).1 - sh.1)) 105 [some (.ref (wad G 0)), none, some (.int x2), none, some (.int x4), some (.int x5), some (.ref (wad G x6)), some (.ref (wad G x7)), none, none] [.ref (wad G 0)] := by
                intro x2 x4 x5 x6 x7 S I hm hz hk
                unfold f_X0_move_J105 at hk
                refine j_iconst (pc := 105) (v := nI 0) C dX0_move_105 (by decide) ?_
                exact j_mask [true, false, true, false, true, true, true, true, false, false] (Jn106 _ _ _ _ _ _ _ _ hm hz hk)
              refine j_if_lt (pc := 64) 105 C dX0_move_64 (by decide) (fun h33 => ?_) (fun h33 => ?_)
              · replace hk := it_t h33 hk
                exact j_mask [true, false, true, false, true, true, true, true, false, false] (Jn105 _ _ _ _ _ _ _ hm hz hk)
              · replace hk := it_f h33 hk
                refine j_iload_n (pc := 67) C dX0_move_67 rfl rfl ?_
                refine j_if_lt (pc := 68) 105 C dX0_move_68 (by decide) (fun h34 => ?_) (fun h34 => ?_)
                · replace hk := it_t h34 hk
                  exact j_mask [true, false, true, false, true, true, true, true, false, false] (Jn105 _ _ _ _ _ _ _ hm hz hk)
                · replace hk := it_f h34 hk
                  refine j_iload (pc := 71) C dX0_move_71 rfl ?_
                  refine j_if_lt (pc := 73) 105 C dX0_move_73 (by decide) (fun h35 => ?_) (fun h35 => ?_)
                  · replace hk := it_t h35 hk
                    exact j_mask [true, false, true, false, true, true, true, true, false, false] (Jn105 _ _ _ _ _ _ _ hm hz hk)
                  · replace hk := it_f h35 hk
                    refine j_iload_n (pc := 76) C dX0_move_76 rfl rfl ?_
                    refine j_aload (pc := 77) C dX0_move_77 rfl ?_
                    replace hk := ob_some hk
                    obtain ⟨r79, h36, hk⟩ := hk
                    refine x_callX (pc := 79) C (vc_X24_size h16 h36) q468 dX0_move_79 rfl rfl (Nat.le_of_ble_eq_true rfl) (Nat.le_of_ble_eq_true rfl) (Nat.le_of_ble_eq_true rfl) (rz1 hm hz) (rz2 hm hz) ?_
                    refine j_iload (pc := 82) C dX0_move_82 rfl ?_
                    refine j_isub (pc := 84) C dX0_move_84 ?_
                    refine j_icmp_gt (pc := 85) 105 C dX0_move_85 (by decide) (fun h37 => ?_) (fun h37 => ?_)
                    · replace hk := it_t h37 hk
                      exact j_mask [true, false, true, false, true, true, true, true, false, false] (Jn105 _ _ _ _ _ _ _ hm hz hk)
                    · replace hk := it_f h37 hk
                      refine j_iload (pc := 88) C dX0_move_88 rfl ?_
                      refine j_aload (pc := 90) C dX0_move_90 rfl ?_
                      replace hk := ob_some hk
                      obtain ⟨r92, h38, hk⟩ := hk
                      refine x_callX (pc := 92) C (vc_X24_size h16 h38) q468 dX0_move_92 rfl rfl (Nat.le_of_ble_eq_true rfl) (Nat.le_of_ble_eq_true rfl) (Nat.le_of_ble_eq_true rfl) (rz1 hm hz) (rz2 hm hz) ?_
                      refine j_iload (pc := 95) C dX0_move_95 rfl ?_
                      refine j_isub (pc := 97) C dX0_move_97 ?_
                      refine j_icmp_gt (pc := 98) 105 C dX0_move_98 (by decide) (fun h39 => ?_) (fun h39 => ?_)
                      · replace hk := it_t h39 hk
                        exact j_mask [true, false, true, false, true, true, true, true, false, false] (Jn105 _ _ _ _ _ _ _ hm hz hk)
                      · replace hk := it_f h39 hk
                        refine j_iconst (pc := 101) (v := nI 1) C dX0_move_101 (by decide) ?_
                        refine j_goto (pc := 102) 106 C dX0_move_102 (by decide) ?_
                        exact j_mask [true, false, true, false, true, true, true, true, false, false] (Jn106 _ _ _ _ _ _ _ _ hm hz hk)
          refine j_icmp_ne (pc := 49) 56 C dX0_move_49 (by decide) (fun h40 => ?_) (fun h40 => ?_)
          · replace hk := it_f h40 hk
            refine j_iconst (pc := 56) (v := nI 0) C dX0_move_56 (by decide) ?_
            exact j_mask [true, false, true, false, true, true, true, true, false, false] (Jn57 _ _ _ _ _ _ _ _ hm hz hk)
          · replace hk := it_t h40 hk
            refine j_iconst (pc := 52) (v := nI 1) C dX0_move_52 (by decide) ?_
            refine j_goto (pc := 53) 57 C dX0_move_53 (by decide) ?_
            exact j_mask [true, false, true, false, true, true, true, true, false, false] (Jn57 _ _ _ _ _ _ _ _ hm hz hk)
  have Jn19 : ∀ (x1 : Int32) (x2 : Int32) (x3 : Int32) (x4 : Int32) (x5 : Int32) (S : SH) (I : II), sh.1 ≤ S.1 → S.1 ≤ Z.2.1.1 → f_X0_move_J19 F x1 x2 x3 x4 x5 S I = some Z → J G p l e (rmA rmf_X0_move rml_X0_move (Z.2.1.1 - sh.1)) s m args below meth c 10 (.returned (some (.int Z.1))) Z.2 ((rmA rmf_X0_move rml_X0_move (Z.2.1.1 - sh.1))).cells ((rmA rmf_X0_move rml_X0_move (Z.2.1.1 - sh.1))).slots (S, I) ((S).1 - sh.1) (200 * ((S).1 - sh.1)) 19 [some (.ref (wad G 0)), some (.int x1), some (.int x2), some (.int x3), some (.int x4), some (.int x5), none, none, none, none] [.ref (wad G 0)] := by
    intro x1 x2 x3 x4 x5 S I hm hz hk
    unfold f_X0_move_J19 at hk
    refine j_iconst (pc := 19) (v := nI 0) C dX0_move_19 (by decide) ?_
    exact j_mask [true, true, true, true, true, true, false, false, false, false] (Jn20 _ _ _ _ _ _ _ _ hm hz hk)
  refine j_if_eq (pc := 5) 19 C dX0_move_5 (by decide) (fun h41 => ?_) (fun h41 => ?_)
  · replace hk := it_t h41 hk
    exact j_mask [true, true, true, true, true, true, false, false, false, false] (Jn19 _ _ _ _ _ _ _ hm0 hz0 hk)
  · replace hk := it_f h41 hk
    refine j_iload_n (pc := 8) C dX0_move_8 rfl rfl ?_
    replace hk := ob_some hk
    obtain ⟨r9, h42, hk⟩ := hk
    refine j_callS (pc := 9) C (ct_X0_isSheet h42) ms_X0_isSheet q460 dX0_move_9 rfl rfl (Nat.le_of_ble_eq_true rfl) (rmOK.i (Nat.le_of_ble_eq_true rfl) (Nat.le_of_ble_eq_true rfl) (rz1 hm0 hz0) (rz2 hm0 hz0)) ?_
    refine j_if_eq (pc := 12) 19 C dX0_move_12 (by decide) (fun h43 => ?_) (fun h43 => ?_)
    · replace hk := it_t h43 hk
      exact j_mask [true, true, true, true, true, true, false, false, false, false] (Jn19 _ _ _ _ _ _ _ hm0 hz0 hk)
    · replace hk := it_f h43 hk
      refine j_iconst (pc := 15) (v := nI 1) C dX0_move_15 (by decide) ?_
      refine j_goto (pc := 16) 20 C dX0_move_16 (by decide) ?_
      exact j_mask [true, true, true, true, true, true, false, false, false, false] (Jn20 _ _ _ _ _ _ _ _ hm0 hz0 hk)
