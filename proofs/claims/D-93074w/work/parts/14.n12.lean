/-! the class: walks -/
set_option maxRecDepth 100000
def f_J7_isLatin1 (sh : SH) (x0 : Nat) (I : II) : Option Int32 := if (nI 1) = 0 then some (nI 0) else ock sh x0 27 <| if (I x0 1) = 0 then some (nI 1) else some (nI 0)
abbrev rm_J7_isLatin1 : Room := { frames := 0, cells := 0, slots := 0, locals := 0 }
theorem mv_J7_isLatin1_ok : callOK yJ7_isLatin1 0 := by decide +kernel
set_option maxHeartbeats 4000000 in
theorem ct_J7_isLatin1 {G : WG} {l : Launch} {sh : SH} {I : II} {x0 : Nat} {Z : Int32} (hk : f_J7_isLatin1 sh x0 I = some Z) : CT G l yJ7_isLatin1 (ws_ yJ7_isLatin1 cJ7_isLatin1 1 (some .boolean)) rm_J7_isLatin1 [.ref (wad G x0)] (sh, I) (.returned (some (.int Z))) (sh, I) := by
  refine CT.ofJ "java/lang/AbstractStringBuilder" rfl (by decide) (Nat.le_of_ble_eq_true rfl) ?_
  intro p e s m args below meth c C
  unfold f_J7_isLatin1 at hk
  refine j_lv (lv' := [some (.ref (wad G x0))]) rfl ?_
  refine x_getsC (pc := 0) C q690 dJ7_isLatin1_0 ?_
  refine j_if_eq (pc := 3) 17 C dJ7_isLatin1_3 (by decide) (fun h1 => ?_) (fun h1 => ?_)
  · replace hk := it_t h1 hk
    refine j_iconst (pc := 17) (v := nI 0) C dJ7_isLatin1_17 (by decide) ?_
    obtain rfl := Option.some.inj hk
    exact j_zret (pc := 18) C dJ7_isLatin1_18 (Nat.le_of_ble_eq_true rfl) (Nat.le_of_ble_eq_true rfl) (isB.nar (v := (nI 0)) (by unfold isB; decide))
  · replace hk := it_f h1 hk
    refine j_aload_n (pc := 6) C dJ7_isLatin1_6 rfl rfl ?_
    replace hk := ock_some hk
    obtain ⟨h2, hk⟩ := hk
    refine x_getI (pc := 7) C fd_27_1 (fl1 C q700) h2 dJ7_isLatin1_7 ?_
    refine j_if_ne (pc := 10) 17 C dJ7_isLatin1_10 (by decide) (fun h3 => ?_) (fun h3 => ?_)
    · replace hk := it_f h3 hk
      refine j_iconst (pc := 17) (v := nI 0) C dJ7_isLatin1_17 (by decide) ?_
      obtain rfl := Option.some.inj hk
      exact j_zret (pc := 18) C dJ7_isLatin1_18 (Nat.le_of_ble_eq_true rfl) (Nat.le_of_ble_eq_true rfl) (isB.nar (v := (nI 0)) (by unfold isB; decide))
    · replace hk := it_t h3 hk
      refine j_iconst (pc := 13) (v := nI 1) C dJ7_isLatin1_13 (by decide) ?_
      refine j_goto (pc := 14) 18 C dJ7_isLatin1_14 (by decide) ?_
      obtain rfl := Option.some.inj hk
      exact j_zret (pc := 18) C dJ7_isLatin1_18 (Nat.le_of_ble_eq_true rfl) (Nat.le_of_ble_eq_true rfl) (isB.nar (v := (nI 1)) (by unfold isB; decide))
def f_J12_checkLength (sh : SH) (x0 : Int32) (x1 : Int32) (I : II) : Option (SH × II) := omn2 sh <| if x0 ≤ x1 then some (sh, I) else none
abbrev rmf_J12_checkLength : Nat := 0
abbrev rml_J12_checkLength : Nat := 0
theorem ms_J12_checkLength : MS yJ12_checkLength cJ12_checkLength 2 none 2 := ⟨q874, q120, q875, by decide +kernel⟩
set_option maxHeartbeats 4000000 in
theorem ct_J12_checkLength {G : WG} {l : Launch} {sh : SH} {I : II} {x0 : Int32} {x1 : Int32} {Z : (SH × II)} (hk : f_J12_checkLength sh x0 x1 I = some Z) : CT G l yJ12_checkLength (ws_ yJ12_checkLength cJ12_checkLength 2 none) (rmA rmf_J12_checkLength rml_J12_checkLength (Z.1.1 - sh.1)) [.int x0, .int x1] (sh, I) (.returned none) Z := by
  refine CT.ofJ "java/util/Arrays" rfl (by decide) (Nat.le_of_ble_eq_true rfl) ?_
  intro p e s m args below meth c C
  unfold f_J12_checkLength at hk
  refine j_lv (lv' := [some (.int x0), some (.int x1)]) rfl ?_
  replace hk := omn2_some hk
  obtain ⟨hz0, hk⟩ := hk
  have hm0 : sh.1 ≤ sh.1 := Nat.le_refl _
  refine j_kn (k' := sh.1 - sh.1) (n' := 200 * (sh.1 - sh.1)) (Nat.sub_self _).symm (rb2 _) ?_
  refine j_iload_n (pc := 0) C dJ12_checkLength_0 rfl rfl ?_
  refine j_iload_n (pc := 1) C dJ12_checkLength_1 rfl rfl ?_
  refine j_icmp_ge (pc := 2) 37 C dJ12_checkLength_2 (by decide) (fun h1 => ?_) (fun h1 => ?_)
  · replace hk := it_t h1 hk
    obtain rfl := Option.some.inj hk
    exact j_vret (pc := 37) C dJ12_checkLength_37 (Nat.le_refl _) (Nat.le_refl _)
  · replace hk := it_f h1 hk
    cases hk
def f_J12_copyOfRangeByte (sh : SH) (x0 : Nat) (x1 : Int32) (x2 : Int32) (I : II) : Option (Nat × SH × II) := omn3 sh <| bd2 (f_J12_checkLength sh x1 x2 I) fun S2 I2 => og (sh.1 ≤ S2.1) <| omn3 S2 <| onl (x2 - x1) fun n10 => onw S2 <| omn3 (newS S2 101 n10) <| oar (newS S2 101 n10) x0 101 fun nh9 => oarw (newS S2 101 n10) ((S2).1) 101 fun nh10 => og ((¬ x1 < 0 ∧ ¬ (nI 0) < 0 ∧ ¬ (if (x2 - x1) < ((nI nh9) - x1) then (x2 - x1) else ((nI nh9) - x1)) < 0) ∧ Int32.toNatClampNeg x1 + Int32.toNatClampNeg (if (x2 - x1) < ((nI nh9) - x1) then (x2 - x1) else ((nI nh9) - x1)) ≤ nh9 ∧ Int32.toNatClampNeg (nI 0) + Int32.toNatClampNeg (if (x2 - x1) < ((nI nh9) - x1) then (x2 - x1) else ((nI nh9) - x1)) ≤ nh10) <| og (∀ i, i < Int32.toNatClampNeg (if (x2 - x1) < ((nI nh9) - x1) then (x2 - x1) else ((nI nh9) - x1)) → Int8.toInt32 (Int32.toInt8 ((newI S2 I2) x0 (Int32.toNatClampNeg x1 + i))) = (newI S2 I2) x0 (Int32.toNatClampNeg x1 + i)) <| some (((S2).1), newS S2 101 n10, upr (newI S2 I2) ((S2).1) (va_cpy ((newI S2 I2) x0) ((newI S2 I2) ((S2).1)) (Int32.toNatClampNeg x1) (Int32.toNatClampNeg (nI 0)) (Int32.toNatClampNeg (if (x2 - x1) < ((nI nh9) - x1) then (x2 - x1) else ((nI nh9) - x1)))))
abbrev rmf_J12_copyOfRangeByte : Nat := 1
abbrev rml_J12_copyOfRangeByte : Nat := 60
theorem ms_J12_copyOfRangeByte : MS yJ12_copyOfRangeByte cJ12_copyOfRangeByte 5 (some (.array .byte)) 3 := ⟨q871, q120, q872, by decide +kernel⟩
set_option maxHeartbeats 4000000 in
theorem ct_J12_copyOfRangeByte {G : WG} {l : Launch} {sh : SH} {I : II} {x0 : Nat} {x1 : Int32} {x2 : Int32} {Z : (Nat × SH × II)} (hk : f_J12_copyOfRangeByte sh x0 x1 x2 I = some Z) : CT G l yJ12_copyOfRangeByte (ws_ yJ12_copyOfRangeByte cJ12_copyOfRangeByte 5 (some (.array .byte))) (rmA rmf_J12_copyOfRangeByte rml_J12_copyOfRangeByte (Z.2.1.1 - sh.1)) [.ref (wad G x0), .int x1, .int x2] (sh, I) (.returned (some (.ref (wad G Z.1)))) Z.2 := by
  refine CT.ofJ "java/util/Arrays" rfl (by decide) (Nat.le_of_ble_eq_true rfl) ?_
  intro p e s m args below meth c C
  unfold f_J12_copyOfRangeByte at hk
  refine j_lv (lv' := [some (.ref (wad G x0)), some (.int x1), some (.int x2), none, none]) rfl ?_
  replace hk := omn3_some hk
  obtain ⟨hz0, hk⟩ := hk
  have hm0 : sh.1 ≤ sh.1 := Nat.le_refl _
  refine j_kn (k' := sh.1 - sh.1) (n' := 200 * (sh.1 - sh.1)) (Nat.sub_self _).symm (rb2 _) ?_
  refine j_iload_n (pc := 0) C dJ12_copyOfRangeByte_0 rfl rfl ?_
  refine j_iload_n (pc := 1) C dJ12_copyOfRangeByte_1 rfl rfl ?_
  replace hk := bd2_some hk
  obtain ⟨S2, I2, h1, hk⟩ := hk
  replace hk := og_some hk
  obtain ⟨h2, hk⟩ := hk
  replace hk := omn3_some hk
  obtain ⟨h3, hk⟩ := hk
  have h4 : sh.1 ≤ S2.1 := Nat.le_trans hm0 h2
  refine j_callS (pc := 2) C (ct_J12_checkLength h1) ms_J12_checkLength q873 dJ12_copyOfRangeByte_2 rfl rfl (Nat.le_of_ble_eq_true rfl) (rmOK.i (Nat.le_of_ble_eq_true rfl) (Nat.le_of_ble_eq_true rfl) (rm1 hm0 h2 h3) (rm2 hm0 h2 h3)) ?_
  refine j_kn (k' := S2.1 - sh.1) (n' := 200 * (S2.1 - sh.1)) (rk1 hm0 h2) (rk2 hm0 h2) ?_
  refine j_iload_n (pc := 5) C dJ12_copyOfRangeByte_5 rfl rfl ?_
  refine j_iload_n (pc := 6) C dJ12_copyOfRangeByte_6 rfl rfl ?_
  refine j_isub (pc := 7) C dJ12_copyOfRangeByte_7 ?_
  refine j_istore_n (pc := 8) C dJ12_copyOfRangeByte_8 rfl (Nat.le_of_ble_eq_true rfl) rfl ?_
  refine j_iload_n (pc := 9) C dJ12_copyOfRangeByte_9 rfl rfl ?_
  replace hk := onl_ex hk
  obtain ⟨n10, en10, h5, hk⟩ := hk
  replace hk := onw_some hk
  obtain ⟨h6, hk⟩ := hk
  replace hk := omn3_some hk
  obtain ⟨h7, hk⟩ := hk
  have h7 : S2.1 + 1 ≤ Z.2.1.1 := h7
  refine x_newaI (pc := 10) (at' := .byte) (t := 101) (q := n10) (i := (x2 - x1)) C (Or.inr (Or.inl ⟨rfl, rfl⟩)) q273 h5.1 en10.symm (Nat.le_trans h5.2 (by decide)) h6 (ra1 h4 h7) (ra2 h4 h7 h5.2) dJ12_copyOfRangeByte_10 ?_
  have h8 : sh.1 ≤ S2.1 + 1 := Nat.le_succ_of_le h4
  refine j_wid (k' := (newS S2 101 n10).1 - sh.1) (n' := 200 * ((newS S2 101 n10).1 - sh.1)) (rw1 h4) (rw2 h4 h5.2) ?_
  refine j_astore (pc := 12) C dJ12_copyOfRangeByte_12 (Nat.le_of_ble_eq_true rfl) rfl ?_
  refine j_aload_n (pc := 14) C dJ12_copyOfRangeByte_14 rfl rfl ?_
  refine j_iload_n (pc := 15) C dJ12_copyOfRangeByte_15 rfl rfl ?_
  refine j_aload (pc := 16) C dJ12_copyOfRangeByte_16 rfl ?_
  refine j_iconst (pc := 18) (v := nI 0) C dJ12_copyOfRangeByte_18 (by decide) ?_
  refine j_aload_n (pc := 19) C dJ12_copyOfRangeByte_19 rfl rfl ?_
  replace hk := oar_some hk
  obtain ⟨nh9, h9, hk⟩ := hk
  refine x_alen (pc := 20) C h9 (by decide) dJ12_copyOfRangeByte_20 ?_
  refine j_iload_n (pc := 21) C dJ12_copyOfRangeByte_21 rfl rfl ?_
  refine j_isub (pc := 22) C dJ12_copyOfRangeByte_22 ?_
  refine j_iload_n (pc := 23) C dJ12_copyOfRangeByte_23 rfl rfl ?_
  refine j_mmin (pc := 24) C q761 q481 q107 q482 dJ12_copyOfRangeByte_24 (Nat.le_of_ble_eq_true rfl) (Nat.le_of_ble_eq_true rfl) (rc1 h8 h7) (rc2 h8 h7) ?_
  replace hk := oarw_some hk
  obtain ⟨nh10, h10, hk⟩ := hk
  replace hk := og_some hk
  obtain ⟨h11, hk⟩ := hk
  replace hk := og_some hk
  obtain ⟨h12, hk⟩ := hk
  refine x_copy (pc := 27) C (Or.inr ⟨rfl, rfl⟩) q762 q764 q763 q121 h9 h10 h11 (Or.inr h12) (Nat.le_of_ble_eq_true rfl) (Nat.le_of_ble_eq_true rfl) dJ12_copyOfRangeByte_27 ?_
  refine j_aload (pc := 30) C dJ12_copyOfRangeByte_30 rfl ?_
  obtain rfl := Option.some.inj hk
  exact x_aret (pc := 32) C dJ12_copyOfRangeByte_32 (Nat.le_refl _) (Nat.le_refl _) rfl
def f_J12_copyOfRange_J10 (x0 : Nat) (x1 : Int32) (x2 : Int32) (S : SH) (I : II) : Option (Nat × SH × II) := bd3 (f_J12_copyOfRangeByte S x0 x1 x2 I) fun a13 S13 I13 => og (S.1 ≤ S13.1) <| omn3 S13 <| some (a13, S13, I13)
def f_J12_copyOfRange (sh : SH) (x0 : Nat) (x1 : Int32) (x2 : Int32) (I : II) : Option (Nat × SH × II) := omn3 sh <| if x1 = 0 then oar sh x0 101 fun nh6 => if x2 = (nI nh6) then none else f_J12_copyOfRange_J10 x0 x1 x2 sh I else f_J12_copyOfRange_J10 x0 x1 x2 sh I
abbrev rmf_J12_copyOfRange : Nat := 2
abbrev rml_J12_copyOfRange : Nat := 84
theorem ms_J12_copyOfRange : MS yJ12_copyOfRange cJ12_copyOfRange 3 (some (.array .byte)) 3 := ⟨q868, q120, q869, by decide +kernel⟩
set_option maxHeartbeats 4000000 in
theorem ct_J12_copyOfRange {G : WG} {l : Launch} {sh : SH} {I : II} {x0 : Nat} {x1 : Int32} {x2 : Int32} {Z : (Nat × SH × II)} (hk : f_J12_copyOfRange sh x0 x1 x2 I = some Z) : CT G l yJ12_copyOfRange (ws_ yJ12_copyOfRange cJ12_copyOfRange 3 (some (.array .byte))) (rmA rmf_J12_copyOfRange rml_J12_copyOfRange (Z.2.1.1 - sh.1)) [.ref (wad G x0), .int x1, .int x2] (sh, I) (.returned (some (.ref (wad G Z.1)))) Z.2 := by
  refine CT.ofJ "java/util/Arrays" rfl (by decide) (Nat.le_of_ble_eq_true rfl) ?_
  intro p e s m args below meth c C
  unfold f_J12_copyOfRange at hk
  refine j_lv (lv' := [some (.ref (wad G x0)), some (.int x1), some (.int x2)]) rfl ?_
  replace hk := omn3_some hk
  obtain ⟨hz0, hk⟩ := hk
  have hm0 : sh.1 ≤ sh.1 := Nat.le_refl _
  refine j_kn (k' := sh.1 - sh.1) (n' := 200 * (sh.1 - sh.1)) (Nat.sub_self _).symm (rb2 _) ?_
  refine j_iload_n (pc := 0) C dJ12_copyOfRange_0 rfl rfl ?_
  have Jn10 : ∀ (x0 : Nat) (x1 : Int32) (x2 : Int32) (S : SH) (I : II), sh.1 ≤ S.1 → S.1 ≤ Z.2.1.1 → f_J12_copyOfRange_J10 x0 x1 x2 S I = some Z → J G p l e (rmA rmf_J12_copyOfRange rml_J12_copyOfRange (Z.2.1.1 - sh.1)) s m args below meth c 3 (.returned (some (.ref (wad G Z.1)))) Z.2 ((rmA rmf_J12_copyOfRange rml_J12_copyOfRange (Z.2.1.1 - sh.1))).cells ((rmA rmf_J12_copyOfRange rml_J12_copyOfRange (Z.2.1.1 - sh.1))).slots (S, I) ((S).1 - sh.1) (200 * ((S).1 - sh.1)) 10 [some (.ref (wad G x0)), some (.int x1), some (.int x2)] [] := by
    intro x0 x1 x2 S I hm hz hk
    unfold f_J12_copyOfRange_J10 at hk
    refine j_aload_n (pc := 10) C dJ12_copyOfRange_10 rfl rfl ?_
    refine j_iload_n (pc := 11) C dJ12_copyOfRange_11 rfl rfl ?_
    refine j_iload_n (pc := 12) C dJ12_copyOfRange_12 rfl rfl ?_
    replace hk := bd3_some hk
    obtain ⟨a13, S13, I13, h1, hk⟩ := hk
    replace hk := og_some hk
    obtain ⟨h2, hk⟩ := hk
    replace hk := omn3_some hk
    obtain ⟨h3, hk⟩ := hk
    have h4 : sh.1 ≤ S13.1 := Nat.le_trans hm h2
    refine j_callS (pc := 13) C (ct_J12_copyOfRangeByte h1) ms_J12_copyOfRangeByte q870 dJ12_copyOfRange_13 rfl rfl (Nat.le_of_ble_eq_true rfl) (rmOK.i (Nat.le_of_ble_eq_true rfl) (Nat.le_of_ble_eq_true rfl) (rm1 hm h2 h3) (rm2 hm h2 h3)) ?_
    refine j_kn (k' := S13.1 - sh.1) (n' := 200 * (S13.1 - sh.1)) (rk1 hm h2) (rk2 hm h2) ?_
    obtain rfl := Option.some.inj hk
    exact x_aret (pc := 16) C dJ12_copyOfRange_16 (Nat.le_refl _) (Nat.le_refl _) rfl
  refine j_if_ne (pc := 1) 10 C dJ12_copyOfRange_1 (by decide) (fun h5 => ?_) (fun h5 => ?_)
  · replace hk := it_f h5 hk
    exact j_mask [true, true, true] (Jn10 _ _ _ _ _ hm0 hz0 hk)
  · replace hk := it_t h5 hk
    refine j_iload_n (pc := 4) C dJ12_copyOfRange_4 rfl rfl ?_
    refine j_aload_n (pc := 5) C dJ12_copyOfRange_5 rfl rfl ?_
    replace hk := oar_some hk
    obtain ⟨nh6, h6, hk⟩ := hk
    refine x_alen (pc := 6) C h6 (by decide) dJ12_copyOfRange_6 ?_
    refine j_icmp_eq (pc := 7) 17 C dJ12_copyOfRange_7 (by decide) (fun h7 => ?_) (fun h7 => ?_)
    · replace hk := it_t h7 hk
      refine j_aload_n (pc := 17) C dJ12_copyOfRange_17 rfl rfl ?_
      cases hk
    · replace hk := it_f h7 hk
      exact j_mask [true, true, true] (Jn10 _ _ _ _ _ hm0 hz0 hk)
def f_J9_init_2_J79 (x0 : Nat) (x3 : Nat) (x4 : Int32) (S : SH) (I : II) : Option (SH × II) := ockwS S x0 <| bd3 (f_J12_copyOfRange S x3 (nI 0) (x4 <<< ((nI 1) &&& 31)) (up2 I x0 1 (nI 1))) fun a91 S91 I91 => og (S.1 ≤ S91.1) <| omn2 S91 <| ockwS S91 x0 <| some (shR S91 x0 0 (some a91), I91)
def f_J9_init_2 (sh : SH) (x0 : Nat) (x1 : Nat) (x2 : Option Nat) (I : II) : Option (SH × II) := omn2 sh <| ock sh x1 27 <| (f_J7_getValue sh x1 I).bind fun a5 => (f_J8_length sh x1 I).bind fun r10 => (f_J7_isLatin1 sh x1 I).bind fun r16 => if r16 = 0 then if (nI 1) = 0 then f_J9_init_2_J79 x0 a5 r10 sh I else if (I x1 2) = 0 then f_J9_init_2_J79 x0 a5 r10 sh I else none else ockwS sh x0 <| bd3 (f_J12_copyOfRange sh a5 (nI 0) r10 (up2 I x0 1 (nI 0))) fun a32 S32 I32 => og (sh.1 ≤ S32.1) <| omn2 S32 <| ockwS S32 x0 <| some (shR S32 x0 0 (some a32), I32)
abbrev rmf_J9_init_2 : Nat := 3
abbrev rml_J9_init_2 : Nat := 106
theorem mi_J9_init_2 : MI yJ9_init_2 cJ9_init_2 5 2 := ⟨q850, q117, q851, rfl, by decide +kernel⟩
set_option maxHeartbeats 4000000 in
theorem ct_J9_init_2 {G : WG} {l : Launch} {sh : SH} {I : II} {x0 : Nat} {x1 : Nat} {x2 : Option Nat} {Z : (SH × II)} (hk : f_J9_init_2 sh x0 x1 x2 I = some Z) : CT G l yJ9_init_2 (ws_ yJ9_init_2 cJ9_init_2 5 none) (rmA rmf_J9_init_2 rml_J9_init_2 (Z.1.1 - sh.1)) [.ref (wad G x0), .ref (wad G x1), va_rf (Option.map (wad G) x2)] (sh, I) (.returned none) Z := by
  refine CT.ofJ "java/lang/String" rfl (by decide) (by cases x2 <;> exact Nat.le_of_ble_eq_true rfl) ?_
  intro p e s m args below meth c C
  unfold f_J9_init_2 at hk
  refine j_lv (lv' := [some (.ref (wad G x0)), some (.ref (wad G x1)), some (va_rf (Option.map (wad G) x2)), none, none]) (by cases x2 <;> rfl) ?_
  replace hk := omn2_some hk
  obtain ⟨hz0, hk⟩ := hk
  have hm0 : sh.1 ≤ sh.1 := Nat.le_refl _
  refine j_kn (k' := sh.1 - sh.1) (n' := 200 * (sh.1 - sh.1)) (Nat.sub_self _).symm (rb2 _) ?_
  refine j_aload_n (pc := 0) C dJ9_init_2_0 rfl rfl ?_
  refine x_objInit (pc := 1) C q852 q144 q145 dJ9_init_2_1 (Nat.le_of_ble_eq_true rfl) (Nat.le_of_ble_eq_true rfl) ?_
  refine j_aload_n (pc := 4) C dJ9_init_2_4 rfl rfl ?_
  replace hk := ock_some hk
  obtain ⟨h1, hk⟩ := hk
  replace hk := ob_some hk
  obtain ⟨a5, h2, hk⟩ := hk
  refine x_callU (pc := 5) C (ct_J7_getValue h2) h1 rfl q853 q855 q856 q854 q115 q857 rfl (mv_J7_getValue_ok) dJ9_init_2_5 rfl rfl (Nat.le_of_ble_eq_true rfl) (rmOK.i (Nat.le_of_ble_eq_true rfl) (Nat.le_of_ble_eq_true rfl) (rz1 hm0 hz0) (rz2 hm0 hz0)) ?_
  refine j_astore_n (pc := 8) C dJ9_init_2_8 rfl (Nat.le_of_ble_eq_true rfl) (by generalize x2 = o9; cases o9 <;> rfl) ?_
  refine j_aload_n (pc := 9) C dJ9_init_2_9 rfl rfl ?_
  replace hk := ob_some hk
  obtain ⟨r10, h3, hk⟩ := hk
  refine x_callO (pc := 10) C (ct_J8_length h3) h1 rfl q858 q860 q859 q861 q862 q116 q863 q865 (by decide +kernel) dJ9_init_2_10 rfl rfl (Nat.le_of_ble_eq_true rfl) (rmOK.i (Nat.le_of_ble_eq_true rfl) (Nat.le_of_ble_eq_true rfl) (rz1 hm0 hz0) (rz2 hm0 hz0)) ?_
  refine j_istore (pc := 13) C dJ9_init_2_13 (Nat.le_of_ble_eq_true rfl) rfl ?_
  refine j_aload_n (pc := 15) C dJ9_init_2_15 rfl rfl ?_
  replace hk := ob_some hk
  obtain ⟨r16, h4, hk⟩ := hk
  refine x_callU (pc := 16) C (ct_J7_isLatin1 h4) h1 rfl q866 q767 q768 q766 q115 q769 rfl (mv_J7_isLatin1_ok) dJ9_init_2_16 rfl rfl (Nat.le_of_ble_eq_true rfl) (rmOK.i (Nat.le_of_ble_eq_true rfl) (Nat.le_of_ble_eq_true rfl) (rz1 hm0 hz0) (rz2 hm0 hz0)) ?_
  refine j_if_eq (pc := 19) 41 C dJ9_init_2_19 (by decide) (fun h5 => ?_) (fun h5 => ?_)
  · replace hk := it_t h5 hk
    refine x_getsC (pc := 41) C q804 dJ9_init_2_41 ?_
    have Jn79 : ∀ (x0 : Nat) (x3 : Nat) (x4 : Int32) (S : SH) (I : II), sh.1 ≤ S.1 → S.1 ≤ Z.1.1 → f_J9_init_2_J79 x0 x3 x4 S I = some Z → J G p l e (rmA rmf_J9_init_2 rml_J9_init_2 (Z.1.1 - sh.1)) s m args below meth c 5 (.returned none) Z ((rmA rmf_J9_init_2 rml_J9_init_2 (Z.1.1 - sh.1))).cells ((rmA rmf_J9_init_2 rml_J9_init_2 (Z.1.1 - sh.1))).slots (S, I) ((S).1 - sh.1) (200 * ((S).1 - sh.1)) 79 [some (.ref (wad G x0)), none, none, some (.ref (wad G x3)), some (.int x4)] [] := by
      intro x0 x3 x4 S I hm hz hk
      unfold f_J9_init_2_J79 at hk
      refine j_aload_n (pc := 79) C dJ9_init_2_79 rfl rfl ?_
      refine j_iconst (pc := 80) (v := nI 1) C dJ9_init_2_80 (by decide) ?_
      replace hk := ockwS_some hk
      obtain ⟨ch6, ch6h, h6, hk⟩ := hk
      refine x_putIF (pc := 81) C (fdS_1 ch6h) q890 h6 rfl rfl dJ9_init_2_81 ?_
      refine j_aload_n (pc := 84) C dJ9_init_2_84 rfl rfl ?_
      refine j_aload_n (pc := 85) C dJ9_init_2_85 rfl rfl ?_
      refine j_iconst (pc := 86) (v := nI 0) C dJ9_init_2_86 (by decide) ?_
      refine j_iload (pc := 87) C dJ9_init_2_87 rfl ?_
      refine j_iconst (pc := 89) (v := nI 1) C dJ9_init_2_89 (by decide) ?_
      refine j_ishl (pc := 90) C dJ9_init_2_90 ?_
      replace hk := bd3_some hk
      obtain ⟨a91, S91, I91, h7, hk⟩ := hk
      replace hk := og_some hk
      obtain ⟨h8, hk⟩ := hk
      replace hk := omn2_some hk
      obtain ⟨h9, hk⟩ := hk
      have h10 : sh.1 ≤ S91.1 := Nat.le_trans hm h8
      refine j_callS (pc := 91) C (ct_J12_copyOfRange h7) ms_J12_copyOfRange q867 dJ9_init_2_91 rfl rfl (Nat.le_of_ble_eq_true rfl) (rmOK.i (Nat.le_of_ble_eq_true rfl) (Nat.le_of_ble_eq_true rfl) (rm1 hm h8 h9) (rm2 hm h8 h9)) ?_
      refine j_kn (k' := S91.1 - sh.1) (n' := 200 * (S91.1 - sh.1)) (rk1 hm h8) (rk2 hm h8) ?_
      refine j_stk (st' := [.ref (wad G a91), .ref (wad G x0)]) rfl ?_
      replace hk := ockwS_some hk
      obtain ⟨ch11, ch11h, h11, hk⟩ := hk
      refine x_putNF (pc := 94) (o := (some a91)) C (fdS_0 ch11h) q889 h11 rfl dJ9_init_2_94 ?_
      obtain rfl := Option.some.inj hk
      exact j_vret (pc := 97) C dJ9_init_2_97 (Nat.le_refl _) (Nat.le_refl _)
    refine j_if_eq (pc := 44) 79 C dJ9_init_2_44 (by decide) (fun h12 => ?_) (fun h12 => ?_)
    · replace hk := it_t h12 hk
      exact j_mask [true, false, false, true, true] (Jn79 _ _ _ _ _ hm0 hz0 hk)
    · replace hk := it_f h12 hk
      refine j_aload_n (pc := 47) C dJ9_init_2_47 rfl rfl ?_
      refine x_getI (pc := 48) C fd_27_2 (fl1 C q701) h1 dJ9_init_2_48 ?_
      refine j_if_eq (pc := 51) 79 C dJ9_init_2_51 (by decide) (fun h13 => ?_) (fun h13 => ?_)
      · replace hk := it_t h13 hk
        exact j_mask [true, false, false, true, true] (Jn79 _ _ _ _ _ hm0 hz0 hk)
      · replace hk := it_f h13 hk
        refine j_aload_n (pc := 54) C dJ9_init_2_54 rfl rfl ?_
        refine j_aload_n (pc := 55) C dJ9_init_2_55 rfl rfl ?_
        refine j_iconst (pc := 56) (v := nI 0) C dJ9_init_2_56 (by decide) ?_
        refine j_iload (pc := 57) C dJ9_init_2_57 rfl ?_
        cases hk
  · replace hk := it_f h5 hk
    refine j_aload_n (pc := 22) C dJ9_init_2_22 rfl rfl ?_
    refine j_iconst (pc := 23) (v := nI 0) C dJ9_init_2_23 (by decide) ?_
    replace hk := ockwS_some hk
    obtain ⟨ch14, ch14h, h14, hk⟩ := hk
    refine x_putIF (pc := 24) C (fdS_1 ch14h) q890 h14 rfl rfl dJ9_init_2_24 ?_
    refine j_aload_n (pc := 27) C dJ9_init_2_27 rfl rfl ?_
    refine j_aload_n (pc := 28) C dJ9_init_2_28 rfl rfl ?_
    refine j_iconst (pc := 29) (v := nI 0) C dJ9_init_2_29 (by decide) ?_
    refine j_iload (pc := 30) C dJ9_init_2_30 rfl ?_
    replace hk := bd3_some hk
    obtain ⟨a32, S32, I32, h15, hk⟩ := hk
    replace hk := og_some hk
    obtain ⟨h16, hk⟩ := hk
    replace hk := omn2_some hk
    obtain ⟨h17, hk⟩ := hk
    have h18 : sh.1 ≤ S32.1 := Nat.le_trans hm0 h16
    refine j_callS (pc := 32) C (ct_J12_copyOfRange h15) ms_J12_copyOfRange q867 dJ9_init_2_32 rfl rfl (Nat.le_of_ble_eq_true rfl) (rmOK.i (Nat.le_of_ble_eq_true rfl) (Nat.le_of_ble_eq_true rfl) (rm1 hm0 h16 h17) (rm2 hm0 h16 h17)) ?_
    refine j_kn (k' := S32.1 - sh.1) (n' := 200 * (S32.1 - sh.1)) (rk1 hm0 h16) (rk2 hm0 h16) ?_
    refine j_stk (st' := [.ref (wad G a32), .ref (wad G x0)]) rfl ?_
    replace hk := ockwS_some hk
    obtain ⟨ch19, ch19h, h19, hk⟩ := hk
    refine x_putNF (pc := 35) (o := (some a32)) C (fdS_0 ch19h) q889 h19 rfl dJ9_init_2_35 ?_
    refine j_goto (pc := 38) 97 C dJ9_init_2_38 (by decide) ?_
    obtain rfl := Option.some.inj hk
    exact j_vret (pc := 97) C dJ9_init_2_97 (Nat.le_refl _) (Nat.le_refl _)
def f_J9_init (sh : SH) (x0 : Nat) (x1 : Nat) (I : II) : Option (SH × II) := omn2 sh <| bd2 (f_J9_init_2 sh x0 x1 none I) fun S3 I3 => og (sh.1 ≤ S3.1) <| omn2 S3 <| some (S3, I3)
abbrev rmf_J9_init : Nat := 4
abbrev rml_J9_init : Nat := 130
theorem mi_J9_init : MI yJ9_init cJ9_init 2 1 := ⟨q847, q117, q848, rfl, by decide +kernel⟩
set_option maxHeartbeats 4000000 in
theorem ct_J9_init {G : WG} {l : Launch} {sh : SH} {I : II} {x0 : Nat} {x1 : Nat} {Z : (SH × II)} (hk : f_J9_init sh x0 x1 I = some Z) : CT G l yJ9_init (ws_ yJ9_init cJ9_init 2 none) (rmA rmf_J9_init rml_J9_init (Z.1.1 - sh.1)) [.ref (wad G x0), .ref (wad G x1)] (sh, I) (.returned none) Z := by
  refine CT.ofJ "java/lang/String" rfl (by decide) (Nat.le_of_ble_eq_true rfl) ?_
  intro p e s m args below meth c C
  unfold f_J9_init at hk
  refine j_lv (lv' := [some (.ref (wad G x0)), some (.ref (wad G x1))]) rfl ?_
  replace hk := omn2_some hk
  obtain ⟨hz0, hk⟩ := hk
  have hm0 : sh.1 ≤ sh.1 := Nat.le_refl _
  refine j_kn (k' := sh.1 - sh.1) (n' := 200 * (sh.1 - sh.1)) (Nat.sub_self _).symm (rb2 _) ?_
  refine j_aload_n (pc := 0) C dJ9_init_0 rfl rfl ?_
  refine j_aload_n (pc := 1) C dJ9_init_1 rfl rfl ?_
  refine j_null (pc := 2) C dJ9_init_2 ?_
  replace hk := bd2_some hk
  obtain ⟨S3, I3, h1, hk⟩ := hk
  replace hk := og_some hk
  obtain ⟨h2, hk⟩ := hk
  replace hk := omn2_some hk
  obtain ⟨h3, hk⟩ := hk
  have h4 : sh.1 ≤ S3.1 := Nat.le_trans hm0 h2
  refine x_callI (pc := 3) C (ct_J9_init_2 h1) mi_J9_init_2 q849 dJ9_init_3 rfl rfl (Nat.le_of_ble_eq_true rfl) (rmOK.i (Nat.le_of_ble_eq_true rfl) (Nat.le_of_ble_eq_true rfl) (rm1 hm0 h2 h3) (rm2 hm0 h2 h3)) ?_
  refine j_kn (k' := S3.1 - sh.1) (n' := 200 * (S3.1 - sh.1)) (rk1 hm0 h2) (rk2 hm0 h2) ?_
  obtain rfl := Option.some.inj hk
  exact j_vret (pc := 6) C dJ9_init_6 (Nat.le_refl _) (Nat.le_refl _)
def f_J8_toString (sh : SH) (x0 : Nat) (I : II) : Option (Nat × SH × II) := omn3 sh <| onw sh <| omn3 (newS sh 28 0) <| bd2 (f_J9_init (newS sh 28 0) ((sh).1) x0 (newI sh I)) fun S5 I5 => og (sh.1 + 1 ≤ S5.1) <| omn3 S5 <| some (((sh).1), S5, I5)
abbrev rmf_J8_toString : Nat := 5
abbrev rml_J8_toString : Nat := 151
theorem mv_J8_toString_ok : callOK yJ8_toString 0 := by decide +kernel
theorem mv_J8_toString : MV yJ8_toString cJ8_toString 1 (some (.object "java/lang/String")) 0 := ⟨q841, q842, q116, q843, mv_J8_toString_ok⟩
set_option maxHeartbeats 4000000 in
theorem ct_J8_toString {G : WG} {l : Launch} {sh : SH} {I : II} {x0 : Nat} {Z : (Nat × SH × II)} (hk : f_J8_toString sh x0 I = some Z) : CT G l yJ8_toString (ws_ yJ8_toString cJ8_toString 1 (some (.object "java/lang/String"))) (rmA rmf_J8_toString rml_J8_toString (Z.2.1.1 - sh.1)) [.ref (wad G x0)] (sh, I) (.returned (some (.ref (wad G Z.1)))) Z.2 := by
  refine CT.ofJ "java/lang/StringBuilder" rfl (by decide) (Nat.le_of_ble_eq_true rfl) ?_
  intro p e s m args below meth c C
  unfold f_J8_toString at hk
  refine j_lv (lv' := [some (.ref (wad G x0))]) rfl ?_
  replace hk := omn3_some hk
  obtain ⟨hz0, hk⟩ := hk
  have hm0 : sh.1 ≤ sh.1 := Nat.le_refl _
  refine j_kn (k' := sh.1 - sh.1) (n' := 200 * (sh.1 - sh.1)) (Nat.sub_self _).symm (rb2 _) ?_
  replace hk := onw_some hk
  obtain ⟨h1, hk⟩ := hk
  replace hk := omn3_some hk
  obtain ⟨h2, hk⟩ := hk
  have h2 : sh.1 + 1 ≤ Z.2.1.1 := h2
  refine x_new (pc := 0) (c2 := 28) C rfl (born_28) q844 q845 q117 h1 (ra1 hm0 h2) (ra2 hm0 h2 (by decide)) dJ8_toString_0 ?_
  have h3 : sh.1 ≤ sh.1 + 1 := Nat.le_succ_of_le hm0
  refine j_wid (k' := (newS sh 28 0).1 - sh.1) (n' := 200 * ((newS sh 28 0).1 - sh.1)) (rw1 hm0) (rw2 hm0 (by decide)) ?_
  refine j_dup (pc := 3) C dJ8_toString_3 rfl ?_
  refine j_aload_n (pc := 4) C dJ8_toString_4 rfl rfl ?_
  replace hk := bd2_some hk
  obtain ⟨S5, I5, h4, hk⟩ := hk
  replace hk := og_some hk
  obtain ⟨h5, hk⟩ := hk
  replace hk := omn3_some hk
  obtain ⟨h6, hk⟩ := hk
  have h7 : sh.1 ≤ S5.1 := Nat.le_trans h3 h5
  refine x_callI (pc := 5) C (ct_J9_init h4) mi_J9_init q846 dJ8_toString_5 rfl rfl (Nat.le_of_ble_eq_true rfl) (rmOK.i (Nat.le_of_ble_eq_true rfl) (Nat.le_of_ble_eq_true rfl) (rm1 h3 h5 h6) (rm2 h3 h5 h6)) ?_
  refine j_kn (k' := S5.1 - sh.1) (n' := 200 * (S5.1 - sh.1)) (rk1 h3 h5) (rk2 h3 h5) ?_
  obtain rfl := Option.some.inj hk
  exact x_aret (pc := 8) C dJ8_toString_8 (Nat.le_refl _) (Nat.le_refl _) rfl
def f_X11_paired (sh : SH) (x0 : Nat) (I : II) : Option (Nat × SH × II) := omn3 sh <| onw sh <| omn3 (newS sh 27 0) <| bd2 (f_J8_init (newS sh 27 0) ((sh).1) (newI sh I)) fun S4 I4 => og (sh.1 + 1 ≤ S4.1) <| omn3 S4 <| ost S4 <| ockD S4 x0 <| (f_X10_names S4 x0 I4).bind fun a8 => ock S4 ((sh).1) 27 <| bd3 (f_J8_append S4 ((sh).1) a8 I4) fun a11 S11 I11 => og (S4.1 ≤ S11.1) <| omn3 S11 <| ock S11 a11 27 <| bd3 (f_J8_append S11 a11 (exA + 1) I11) fun a16 S16 I16 => og (S11.1 ≤ S16.1) <| omn3 S16 <| ock S16 a16 27 <| bd3 (f_J8_toString S16 a16 I16) fun a19 S19 I19 => og (S16.1 ≤ S19.1) <| omn3 S19 <| some (a19, S19, I19)
abbrev rmf_X11_paired : Nat := 6
abbrev rml_X11_paired : Nat := 171
theorem mv_X11_paired_ok : callOK yX11_paired 0 := by decide +kernel
theorem mv_X11_paired : MV yX11_paired cX11_paired 1 (some (.object "java/lang/String")) 0 := ⟨q713, q714, q109, q719, mv_X11_paired_ok⟩
set_option maxHeartbeats 4000000 in
theorem ct_X11_paired {G : WG} {l : Launch} {sh : SH} {I : II} {x0 : Nat} {Z : (Nat × SH × II)} (hk : f_X11_paired sh x0 I = some Z) : CT G l yX11_paired (ws_ yX11_paired cX11_paired 1 (some (.object "java/lang/String"))) (rmA rmf_X11_paired rml_X11_paired (Z.2.1.1 - sh.1)) [.ref (wad G x0)] (sh, I) (.returned (some (.ref (wad G Z.1)))) Z.2 := by
  refine CT.ofJ "NineDemands$Moved" rfl (by decide) (Nat.le_of_ble_eq_true rfl) ?_
  intro p e s m args below meth c C
  unfold f_X11_paired at hk
  refine j_lv (lv' := [some (.ref (wad G x0))]) rfl ?_
  replace hk := omn3_some hk
  obtain ⟨hz0, hk⟩ := hk
  have hm0 : sh.1 ≤ sh.1 := Nat.le_refl _
  refine j_kn (k' := sh.1 - sh.1) (n' := 200 * (sh.1 - sh.1)) (Nat.sub_self _).symm (rb2 _) ?_
  replace hk := onw_some hk
  obtain ⟨h1, hk⟩ := hk
  replace hk := omn3_some hk
  obtain ⟨h2, hk⟩ := hk
  have h2 : sh.1 + 1 ≤ Z.2.1.1 := h2
  refine x_new (pc := 0) (c2 := 27) C rfl (born_27) q681 q682 q116 h1 (ra1 hm0 h2) (ra2 hm0 h2 (by decide)) dX11_paired_0 ?_
  have h3 : sh.1 ≤ sh.1 + 1 := Nat.le_succ_of_le hm0
  refine j_wid (k' := (newS sh 27 0).1 - sh.1) (n' := 200 * ((newS sh 27 0).1 - sh.1)) (rw1 hm0) (rw2 hm0 (by decide)) ?_
  refine j_dup (pc := 3) C dX11_paired_3 rfl ?_
  replace hk := bd2_some hk
  obtain ⟨S4, I4, h4, hk⟩ := hk
  replace hk := og_some hk
  obtain ⟨h5, hk⟩ := hk
  replace hk := omn3_some hk
  obtain ⟨h6, hk⟩ := hk
  have h7 : sh.1 ≤ S4.1 := Nat.le_trans h3 h5
  refine x_callI (pc := 4) C (ct_J8_init h4) mi_J8_init q683 dX11_paired_4 rfl rfl (Nat.le_of_ble_eq_true rfl) (rmOK.i (Nat.le_of_ble_eq_true rfl) (Nat.le_of_ble_eq_true rfl) (rm1 h3 h5 h6) (rm2 h3 h5 h6)) ?_
  refine j_kn (k' := S4.1 - sh.1) (n' := 200 * (S4.1 - sh.1)) (rk1 h3 h5) (rk2 h3 h5) ?_
  refine j_aload_n (pc := 7) C dX11_paired_7 rfl rfl ?_
  replace hk := ost_some hk
  obtain ⟨h8, hk⟩ := hk
  replace hk := ockD_some hk
  obtain ⟨ch9, ch9h, h9, hk⟩ := hk
  replace hk := ob_some hk
  obtain ⟨a8, h10, hk⟩ := hk
  obtain ⟨cr8, hcr8⟩ := famclD ch9h
  refine x_callSU (pc := 8) C (ct_X10_names h8 h10) h9 hcr8 q720 q677 q591 q675 q108 q911 (by decide) (mv_X10_names_ok) dX11_paired_8 rfl rfl (Nat.le_of_ble_eq_true rfl) (rmOK.i (Nat.le_of_ble_eq_true rfl) (Nat.le_of_ble_eq_true rfl) (rz1 h7 h6) (rz2 h7 h6)) ?_
  refine j_stk (st' := [.ref (wad G a8), .ref (wad G (sh).1)]) rfl ?_
  replace hk := ock_some hk
  obtain ⟨h11, hk⟩ := hk
  replace hk := bd3_some hk
  obtain ⟨a11, S11, I11, h12, hk⟩ := hk
  replace hk := og_some hk
  obtain ⟨h13, hk⟩ := hk
  replace hk := omn3_some hk
  obtain ⟨h14, hk⟩ := hk
  have h15 : sh.1 ≤ S11.1 := Nat.le_trans h7 h13
  refine x_callV (pc := 11) C (ct_J8_append h12) mv_J8_append h11 rfl rfl q721 dX11_paired_11 rfl rfl (Nat.le_of_ble_eq_true rfl) (rmOK.i (Nat.le_of_ble_eq_true rfl) (Nat.le_of_ble_eq_true rfl) (rm1 h7 h13 h14) (rm2 h7 h13 h14)) ?_
  refine j_kn (k' := S11.1 - sh.1) (n' := 200 * (S11.1 - sh.1)) (rk1 h7 h13) (rk2 h7 h13) ?_
  refine x_ldcS (pc := 14) 1 C rfl dX11_paired_14 ?_
  replace hk := ock_some hk
  obtain ⟨h16, hk⟩ := hk
  replace hk := bd3_some hk
  obtain ⟨a16, S16, I16, h17, hk⟩ := hk
  replace hk := og_some hk
  obtain ⟨h18, hk⟩ := hk
  replace hk := omn3_some hk
  obtain ⟨h19, hk⟩ := hk
  have h20 : sh.1 ≤ S16.1 := Nat.le_trans h15 h18
  refine x_callV (pc := 16) C (ct_J8_append h17) mv_J8_append h16 rfl rfl q721 dX11_paired_16 rfl rfl (Nat.le_of_ble_eq_true rfl) (rmOK.i (Nat.le_of_ble_eq_true rfl) (Nat.le_of_ble_eq_true rfl) (rm1 h15 h18 h19) (rm2 h15 h18 h19)) ?_
  refine j_kn (k' := S16.1 - sh.1) (n' := 200 * (S16.1 - sh.1)) (rk1 h15 h18) (rk2 h15 h18) ?_
  replace hk := ock_some hk
  obtain ⟨h21, hk⟩ := hk
  replace hk := bd3_some hk
  obtain ⟨a19, S19, I19, h22, hk⟩ := hk
  replace hk := og_some hk
  obtain ⟨h23, hk⟩ := hk
  replace hk := omn3_some hk
  obtain ⟨h24, hk⟩ := hk
  have h25 : sh.1 ≤ S19.1 := Nat.le_trans h20 h23
  refine x_callV (pc := 19) C (ct_J8_toString h22) mv_J8_toString h21 rfl rfl q840 dX11_paired_19 rfl rfl (Nat.le_of_ble_eq_true rfl) (rmOK.i (Nat.le_of_ble_eq_true rfl) (Nat.le_of_ble_eq_true rfl) (rm1 h20 h23 h24) (rm2 h20 h23 h24)) ?_
  refine j_kn (k' := S19.1 - sh.1) (n' := 200 * (S19.1 - sh.1)) (rk1 h20 h23) (rk2 h20 h23) ?_
  obtain rfl := Option.some.inj hk
  exact x_aret (pc := 22) C dX11_paired_22 (Nat.le_refl _) (Nat.le_refl _) rfl
def v_X11_paired (sh : SH) (x0 : Nat) (I : II) : Option (Nat × SH × II) := og (x0 < sh.1 ∨ (exA ≤ x0 ∧ x0 < exA + exN)) <| if (sh.2.1 x0).1 = 12 then f_X11_paired sh x0 I else if (sh.2.1 x0).1 = 13 then f_X11_paired sh x0 I else if (sh.2.1 x0).1 = 14 then f_X11_paired sh x0 I else if (sh.2.1 x0).1 = 15 then f_X11_paired sh x0 I else none
set_option maxHeartbeats 4000000 in
theorem vc_X11_paired {G : WG} {l : Launch} {sh : SH} {I : II} {x0 : Nat} {Z : (Nat × SH × II)} (hk : v_X11_paired sh x0 I = some Z) : VC G l ⟨"NineDemands$Moved", "paired", "()Ljava/lang/String;"⟩ x0 [] (sh, I) (some (.ref (wad G Z.1))) Z.2 7 191 (Z.2.1.1 - sh.1) (200 * (Z.2.1.1 - sh.1)) 0 := by
  unfold v_X11_paired at hk
  replace hk := og_some hk
  obtain ⟨hd9, hk⟩ := hk
  by_cases h0 : (sh.2.1 x0).1 = 12
  · replace hk := it_t h0 hk
    exact ⟨12, _, yX11_paired, _, _, _, "NineDemands$Moved", _, ⟨hd9, h0⟩, rfl, ct_X11_paired hk, q715, q714, q713, q109, q719, Or.inl ⟨q713, _, _, _, q719⟩, by decide +kernel, Nat.le_of_ble_eq_true rfl, Nat.le_of_ble_eq_true rfl, rfl, rfl⟩
  replace hk := it_f h0 hk
  by_cases h1 : (sh.2.1 x0).1 = 13
  · replace hk := it_t h1 hk
    exact ⟨13, _, yX11_paired, _, _, _, "NineDemands$Moved", _, ⟨hd9, h1⟩, rfl, ct_X11_paired hk, q715, q716, q713, q109, q719, Or.inl ⟨q713, _, _, _, q719⟩, by decide +kernel, Nat.le_of_ble_eq_true rfl, Nat.le_of_ble_eq_true rfl, rfl, rfl⟩
  replace hk := it_f h1 hk
  by_cases h2 : (sh.2.1 x0).1 = 14
  · replace hk := it_t h2 hk
    exact ⟨14, _, yX11_paired, _, _, _, "NineDemands$Moved", _, ⟨hd9, h2⟩, rfl, ct_X11_paired hk, q715, q718, q713, q109, q719, Or.inl ⟨q713, _, _, _, q719⟩, by decide +kernel, Nat.le_of_ble_eq_true rfl, Nat.le_of_ble_eq_true rfl, rfl, rfl⟩
  replace hk := it_f h2 hk
  by_cases h3 : (sh.2.1 x0).1 = 15
  · replace hk := it_t h3 hk
    exact ⟨15, _, yX11_paired, _, _, _, "NineDemands$Moved", _, ⟨hd9, h3⟩, rfl, ct_X11_paired hk, q715, q717, q713, q109, q719, Or.inl ⟨q713, _, _, _, q719⟩, by decide +kernel, Nat.le_of_ble_eq_true rfl, Nat.le_of_ble_eq_true rfl, rfl, rfl⟩
  replace hk := it_f h3 hk
  cases hk
def f_X11_names (sh : SH) (x0 : Nat) (I : II) : Option (Nat × SH × II) := omn3 sh <| onw sh <| omn3 (newS sh 27 0) <| bd2 (f_J8_init (newS sh 27 0) ((sh).1) (newI sh I)) fun S4 I4 => og (sh.1 + 1 ≤ S4.1) <| omn3 S4 <| bd3 (v_X11_paired S4 x0 I4) fun a8 S8 I8 => og (S4.1 ≤ S8.1) <| omn3 S8 <| ock S8 ((sh).1) 27 <| bd3 (f_J8_append S8 ((sh).1) a8 I8) fun a11 S11 I11 => og (S8.1 ≤ S11.1) <| omn3 S11 <| ock S11 a11 27 <| bd3 (f_J8_append S11 a11 (exA + 2) I11) fun a16 S16 I16 => og (S11.1 ≤ S16.1) <| omn3 S16 <| ock S16 a16 27 <| bd3 (f_J8_toString S16 a16 I16) fun a19 S19 I19 => og (S16.1 ≤ S19.1) <| omn3 S19 <| some (a19, S19, I19)
abbrev rmf_X11_names : Nat := 7
abbrev rml_X11_names : Nat := 191
theorem mv_X11_names_ok : callOK yX11_names 0 := by decide +kernel
set_option maxHeartbeats 4000000 in
theorem ct_X11_names {G : WG} {l : Launch} {sh : SH} {I : II} {x0 : Nat} {Z : (Nat × SH × II)} (hk : f_X11_names sh x0 I = some Z) : CT G l yX11_names (ws_ yX11_names cX11_names 1 (some (.object "java/lang/String"))) (rmA rmf_X11_names rml_X11_names (Z.2.1.1 - sh.1)) [.ref (wad G x0)] (sh, I) (.returned (some (.ref (wad G Z.1)))) Z.2 := by
  refine CT.ofJ "NineDemands$Moved" rfl (by decide) (Nat.le_of_ble_eq_true rfl) ?_
  intro p e s m args below meth c C
  unfold f_X11_names at hk
  refine j_lv (lv' := [some (.ref (wad G x0))]) rfl ?_
  replace hk := omn3_some hk
  obtain ⟨hz0, hk⟩ := hk
  have hm0 : sh.1 ≤ sh.1 := Nat.le_refl _
  refine j_kn (k' := sh.1 - sh.1) (n' := 200 * (sh.1 - sh.1)) (Nat.sub_self _).symm (rb2 _) ?_
  replace hk := onw_some hk
  obtain ⟨h1, hk⟩ := hk
  replace hk := omn3_some hk
  obtain ⟨h2, hk⟩ := hk
  have h2 : sh.1 + 1 ≤ Z.2.1.1 := h2
  refine x_new (pc := 0) (c2 := 27) C rfl (born_27) q681 q682 q116 h1 (ra1 hm0 h2) (ra2 hm0 h2 (by decide)) dX11_names_0 ?_
  have h3 : sh.1 ≤ sh.1 + 1 := Nat.le_succ_of_le hm0
  refine j_wid (k' := (newS sh 27 0).1 - sh.1) (n' := 200 * ((newS sh 27 0).1 - sh.1)) (rw1 hm0) (rw2 hm0 (by decide)) ?_
  refine j_dup (pc := 3) C dX11_names_3 rfl ?_
  replace hk := bd2_some hk
  obtain ⟨S4, I4, h4, hk⟩ := hk
  replace hk := og_some hk
  obtain ⟨h5, hk⟩ := hk
  replace hk := omn3_some hk
  obtain ⟨h6, hk⟩ := hk
  have h7 : sh.1 ≤ S4.1 := Nat.le_trans h3 h5
  refine x_callI (pc := 4) C (ct_J8_init h4) mi_J8_init q683 dX11_names_4 rfl rfl (Nat.le_of_ble_eq_true rfl) (rmOK.i (Nat.le_of_ble_eq_true rfl) (Nat.le_of_ble_eq_true rfl) (rm1 h3 h5 h6) (rm2 h3 h5 h6)) ?_
  refine j_kn (k' := S4.1 - sh.1) (n' := 200 * (S4.1 - sh.1)) (rk1 h3 h5) (rk2 h3 h5) ?_
  refine j_aload_n (pc := 7) C dX11_names_7 rfl rfl ?_
  replace hk := bd3_some hk
  obtain ⟨a8, S8, I8, h8, hk⟩ := hk
  replace hk := og_some hk
  obtain ⟨h9, hk⟩ := hk
  replace hk := omn3_some hk
  obtain ⟨h10, hk⟩ := hk
  have h11 : sh.1 ≤ S8.1 := Nat.le_trans h7 h9
  refine x_callX (pc := 8) C (vc_X11_paired h8) q712 dX11_names_8 rfl rfl (Nat.le_of_ble_eq_true rfl) (Nat.le_of_ble_eq_true rfl) (Nat.le_of_ble_eq_true rfl) (rm1 h7 h9 h10) (rm2 h7 h9 h10) ?_
  refine j_kn (k' := S8.1 - sh.1) (n' := 200 * (S8.1 - sh.1)) (rk1 h7 h9) (rk2 h7 h9) ?_
  refine j_stk (st' := [.ref (wad G a8), .ref (wad G (sh).1)]) rfl ?_
  replace hk := ock_some hk
  obtain ⟨h12, hk⟩ := hk
  replace hk := bd3_some hk
  obtain ⟨a11, S11, I11, h13, hk⟩ := hk
  replace hk := og_some hk
  obtain ⟨h14, hk⟩ := hk
  replace hk := omn3_some hk
  obtain ⟨h15, hk⟩ := hk
  have h16 : sh.1 ≤ S11.1 := Nat.le_trans h11 h14
  refine x_callV (pc := 11) C (ct_J8_append h13) mv_J8_append h12 rfl rfl q721 dX11_names_11 rfl rfl (Nat.le_of_ble_eq_true rfl) (rmOK.i (Nat.le_of_ble_eq_true rfl) (Nat.le_of_ble_eq_true rfl) (rm1 h11 h14 h15) (rm2 h11 h14 h15)) ?_
  refine j_kn (k' := S11.1 - sh.1) (n' := 200 * (S11.1 - sh.1)) (rk1 h11 h14) (rk2 h11 h14) ?_
  refine x_ldcS (pc := 14) 2 C rfl dX11_names_14 ?_
  replace hk := ock_some hk
  obtain ⟨h17, hk⟩ := hk
  replace hk := bd3_some hk
  obtain ⟨a16, S16, I16, h18, hk⟩ := hk
  replace hk := og_some hk
  obtain ⟨h19, hk⟩ := hk
  replace hk := omn3_some hk
  obtain ⟨h20, hk⟩ := hk
  have h21 : sh.1 ≤ S16.1 := Nat.le_trans h16 h19
  refine x_callV (pc := 16) C (ct_J8_append h18) mv_J8_append h17 rfl rfl q721 dX11_names_16 rfl rfl (Nat.le_of_ble_eq_true rfl) (rmOK.i (Nat.le_of_ble_eq_true rfl) (Nat.le_of_ble_eq_true rfl) (rm1 h16 h19 h20) (rm2 h16 h19 h20)) ?_
  refine j_kn (k' := S16.1 - sh.1) (n' := 200 * (S16.1 - sh.1)) (rk1 h16 h19) (rk2 h16 h19) ?_
  replace hk := ock_some hk
  obtain ⟨h22, hk⟩ := hk
  replace hk := bd3_some hk
  obtain ⟨a19, S19, I19, h23, hk⟩ := hk
  replace hk := og_some hk
  obtain ⟨h24, hk⟩ := hk
  replace hk := omn3_some hk
  obtain ⟨h25, hk⟩ := hk
  have h26 : sh.1 ≤ S19.1 := Nat.le_trans h21 h24
  refine x_callV (pc := 19) C (ct_J8_toString h23) mv_J8_toString h22 rfl rfl q840 dX11_names_19 rfl rfl (Nat.le_of_ble_eq_true rfl) (rmOK.i (Nat.le_of_ble_eq_true rfl) (Nat.le_of_ble_eq_true rfl) (rm1 h21 h24 h25) (rm2 h21 h24 h25)) ?_
  refine j_kn (k' := S19.1 - sh.1) (n' := 200 * (S19.1 - sh.1)) (rk1 h21 h24) (rk2 h21 h24) ?_
  obtain rfl := Option.some.inj hk
  exact x_aret (pc := 22) C dX11_names_22 (Nat.le_refl _) (Nat.le_refl _) rfl
def v_X14_paired (sh : SH) (x0 : Nat) (I : II) : Option (Nat × SH × II) := og (x0 < sh.1 ∨ (exA ≤ x0 ∧ x0 < exA + exN)) <| if (sh.2.1 x0).1 = 15 then f_X11_paired sh x0 I else none
set_option maxHeartbeats 4000000 in
theorem vc_X14_paired {G : WG} {l : Launch} {sh : SH} {I : II} {x0 : Nat} {Z : (Nat × SH × II)} (hk : v_X14_paired sh x0 I = some Z) : VC G l ⟨"NineDemands$Comes", "paired", "()Ljava/lang/String;"⟩ x0 [] (sh, I) (some (.ref (wad G Z.1))) Z.2 7 191 (Z.2.1.1 - sh.1) (200 * (Z.2.1.1 - sh.1)) 0 := by
  unfold v_X14_paired at hk
  replace hk := og_some hk
  obtain ⟨hd9, hk⟩ := hk
  by_cases h0 : (sh.2.1 x0).1 = 15
  · replace hk := it_t h0 hk
    exact ⟨15, _, yX11_paired, _, _, _, "NineDemands$Moved", _, ⟨hd9, h0⟩, rfl, ct_X11_paired hk, q905, q907, q713, q109, q719, Or.inl ⟨q713, _, _, _, q719⟩, by decide +kernel, Nat.le_of_ble_eq_true rfl, Nat.le_of_ble_eq_true rfl, rfl, rfl⟩
  replace hk := it_f h0 hk
  cases hk
def f_X14_names (sh : SH) (x0 : Nat) (I : II) : Option (Nat × SH × II) := omn3 sh <| bd3 (v_X14_paired sh x0 I) fun a1 S1 I1 => og (sh.1 ≤ S1.1) <| omn3 S1 <| some (a1, S1, I1)
abbrev rmf_X14_names : Nat := 7
abbrev rml_X14_names : Nat := 191
theorem mv_X14_names_ok : callOK yX14_names 0 := by decide +kernel
set_option maxHeartbeats 4000000 in
theorem ct_X14_names {G : WG} {l : Launch} {sh : SH} {I : II} {x0 : Nat} {Z : (Nat × SH × II)} (hk : f_X14_names sh x0 I = some Z) : CT G l yX14_names (ws_ yX14_names cX14_names 1 (some (.object "java/lang/String"))) (rmA rmf_X14_names rml_X14_names (Z.2.1.1 - sh.1)) [.ref (wad G x0)] (sh, I) (.returned (some (.ref (wad G Z.1)))) Z.2 := by
  refine CT.ofJ "NineDemands$Comes" rfl (by decide) (Nat.le_of_ble_eq_true rfl) ?_
  intro p e s m args below meth c C
  unfold f_X14_names at hk
  refine j_lv (lv' := [some (.ref (wad G x0))]) rfl ?_
  replace hk := omn3_some hk
  obtain ⟨hz0, hk⟩ := hk
  have hm0 : sh.1 ≤ sh.1 := Nat.le_refl _
  refine j_kn (k' := sh.1 - sh.1) (n' := 200 * (sh.1 - sh.1)) (Nat.sub_self _).symm (rb2 _) ?_
  refine j_aload_n (pc := 0) C dX14_names_0 rfl rfl ?_
  replace hk := bd3_some hk
  obtain ⟨a1, S1, I1, h1, hk⟩ := hk
  replace hk := og_some hk
  obtain ⟨h2, hk⟩ := hk
  replace hk := omn3_some hk
  obtain ⟨h3, hk⟩ := hk
  have h4 : sh.1 ≤ S1.1 := Nat.le_trans hm0 h2
  refine x_callX (pc := 1) C (vc_X14_paired h1) q904 dX14_names_1 rfl rfl (Nat.le_of_ble_eq_true rfl) (Nat.le_of_ble_eq_true rfl) (Nat.le_of_ble_eq_true rfl) (rm1 hm0 h2 h3) (rm2 hm0 h2 h3) ?_
  refine j_kn (k' := S1.1 - sh.1) (n' := 200 * (S1.1 - sh.1)) (rk1 hm0 h2) (rk2 hm0 h2) ?_
  obtain rfl := Option.some.inj hk
  exact x_aret (pc := 4) C dX14_names_4 (Nat.le_refl _) (Nat.le_refl _) rfl
def v_X10_names (sh : SH) (x0 : Nat) (I : II) : Option (Nat × SH × II) := og (x0 < sh.1 ∨ (exA ≤ x0 ∧ x0 < exA + exN)) <| if (sh.2.1 x0).1 = 11 then ost sh <| (f_X10_names sh x0 I).map fun r => (r, sh, I) else if (sh.2.1 x0).1 = 12 then f_X11_names sh x0 I else if (sh.2.1 x0).1 = 13 then f_X11_names sh x0 I else if (sh.2.1 x0).1 = 14 then f_X11_names sh x0 I else if (sh.2.1 x0).1 = 15 then f_X14_names sh x0 I else if (sh.2.1 x0).1 = 16 then ost sh <| (f_X10_names sh x0 I).map fun r => (r, sh, I) else none
set_option maxHeartbeats 4000000 in
theorem vc_X10_names {G : WG} {l : Launch} {sh : SH} {I : II} {x0 : Nat} {Z : (Nat × SH × II)} (hk : v_X10_names sh x0 I = some Z) : VC G l ⟨"NineDemands$Demand", "names", "()Ljava/lang/String;"⟩ x0 [] (sh, I) (some (.ref (wad G Z.1))) Z.2 8 211 (Z.2.1.1 - sh.1) (200 * (Z.2.1.1 - sh.1)) 0 := by
  unfold v_X10_names at hk
  replace hk := og_some hk
  obtain ⟨hd9, hk⟩ := hk
  by_cases h0 : (sh.2.1 x0).1 = 11
  · replace hk := it_t h0 hk
    replace hk := ost_some hk
    obtain ⟨hS, hk⟩ := hk
    replace hk := Option.map_eq_some_iff.mp hk
    obtain ⟨z9, hk, hz9⟩ := hk
    subst hz9
    exact ⟨11, _, yX10_names, _, _, _, "NineDemands$Demand", _, ⟨hd9, h0⟩, rfl, ct_X10_names hS hk, q677, q676, q675, q108, q911, Or.inl ⟨q675, _, _, _, q911⟩, by decide +kernel, Nat.le_of_ble_eq_true rfl, Nat.le_of_ble_eq_true rfl, (Nat.sub_self _).symm, (rb2 _)⟩
  replace hk := it_f h0 hk
  by_cases h1 : (sh.2.1 x0).1 = 12
  · replace hk := it_t h1 hk
    exact ⟨12, _, yX11_names, _, _, _, "NineDemands$Demand", _, ⟨hd9, h1⟩, rfl, ct_X11_names hk, q677, q908, q679, q109, q680, Or.inl ⟨q675, _, _, _, q911⟩, by decide +kernel, Nat.le_of_ble_eq_true rfl, Nat.le_of_ble_eq_true rfl, rfl, rfl⟩
  replace hk := it_f h1 hk
  by_cases h2 : (sh.2.1 x0).1 = 13
  · replace hk := it_t h2 hk
    exact ⟨13, _, yX11_names, _, _, _, "NineDemands$Demand", _, ⟨hd9, h2⟩, rfl, ct_X11_names hk, q677, q678, q679, q109, q680, Or.inl ⟨q675, _, _, _, q911⟩, by decide +kernel, Nat.le_of_ble_eq_true rfl, Nat.le_of_ble_eq_true rfl, rfl, rfl⟩
  replace hk := it_f h2 hk
  by_cases h3 : (sh.2.1 x0).1 = 14
  · replace hk := it_t h3 hk
    exact ⟨14, _, yX11_names, _, _, _, "NineDemands$Demand", _, ⟨hd9, h3⟩, rfl, ct_X11_names hk, q677, q910, q679, q109, q680, Or.inl ⟨q675, _, _, _, q911⟩, by decide +kernel, Nat.le_of_ble_eq_true rfl, Nat.le_of_ble_eq_true rfl, rfl, rfl⟩
  replace hk := it_f h3 hk
  by_cases h4 : (sh.2.1 x0).1 = 15
  · replace hk := it_t h4 hk
    exact ⟨15, _, yX14_names, _, _, _, "NineDemands$Demand", _, ⟨hd9, h4⟩, rfl, ct_X14_names hk, q677, q901, q902, q112, q903, Or.inl ⟨q675, _, _, _, q911⟩, by decide +kernel, Nat.le_of_ble_eq_true rfl, Nat.le_of_ble_eq_true rfl, rfl, rfl⟩
  replace hk := it_f h4 hk
  by_cases h5 : (sh.2.1 x0).1 = 16
  · replace hk := it_t h5 hk
    replace hk := ost_some hk
    obtain ⟨hS, hk⟩ := hk
    replace hk := Option.map_eq_some_iff.mp hk
    obtain ⟨z9, hk, hz9⟩ := hk
    subst hz9
    exact ⟨16, _, yX10_names, _, _, _, "NineDemands$Demand", _, ⟨hd9, h5⟩, rfl, ct_X10_names hS hk, q677, q909, q675, q108, q911, Or.inl ⟨q675, _, _, _, q911⟩, by decide +kernel, Nat.le_of_ble_eq_true rfl, Nat.le_of_ble_eq_true rfl, (Nat.sub_self _).symm, (rb2 _)⟩
  replace hk := it_f h5 hk
  cases hk
def f_X16_init (sh : SH) (x0 : Nat) (x1 : Nat) (x2 : Nat) (x3 : Int32) (I : II) : Option (SH × II) := omn2 sh <| ockw sh x0 17 <| ockw (shR sh x0 0 (some x1)) x0 17 <| ockw (shR (shR sh x0 0 (some x1)) x0 1 (some x2)) x0 17 <| some (shR (shR sh x0 0 (some x1)) x0 1 (some x2), up2 I x0 2 x3)
abbrev rmf_X16_init : Nat := 1
abbrev rml_X16_init : Nat := 30
theorem mi_X16_init : MI yX16_init cX16_init 4 3 := ⟨q914, q114, q915, rfl, by decide +kernel⟩
set_option maxHeartbeats 4000000 in
theorem ct_X16_init {G : WG} {l : Launch} {sh : SH} {I : II} {x0 : Nat} {x1 : Nat} {x2 : Nat} {x3 : Int32} {Z : (SH × II)} (hk : f_X16_init sh x0 x1 x2 x3 I = some Z) : CT G l yX16_init (ws_ yX16_init cX16_init 4 none) (rmA rmf_X16_init rml_X16_init (Z.1.1 - sh.1)) [.ref (wad G x0), .ref (wad G x1), .ref (wad G x2), .int x3] (sh, I) (.returned none) Z := by
  refine CT.ofJ "NineDemands$Reader" rfl (by decide) (Nat.le_of_ble_eq_true rfl) ?_
  intro p e s m args below meth c C
  unfold f_X16_init at hk
  refine j_lv (lv' := [some (.ref (wad G x0)), some (.ref (wad G x1)), some (.ref (wad G x2)), some (.int x3)]) rfl ?_
  replace hk := omn2_some hk
  obtain ⟨hz0, hk⟩ := hk
  have hm0 : sh.1 ≤ sh.1 := Nat.le_refl _
  refine j_kn (k' := sh.1 - sh.1) (n' := 200 * (sh.1 - sh.1)) (Nat.sub_self _).symm (rb2 _) ?_
  refine j_aload_n (pc := 0) C dX16_init_0 rfl rfl ?_
  refine x_objInit (pc := 1) C q916 q144 q145 dX16_init_1 (Nat.le_of_ble_eq_true rfl) (Nat.le_of_ble_eq_true rfl) ?_
  refine j_aload_n (pc := 4) C dX16_init_4 rfl rfl ?_
  refine j_aload_n (pc := 5) C dX16_init_5 rfl rfl ?_
  replace hk := ockw_some hk
  obtain ⟨h1, hk⟩ := hk
  refine x_putNF (pc := 6) (o := (some x1)) C fd_17_0 q917 h1 rfl dX16_init_6 ?_
  refine j_aload_n (pc := 9) C dX16_init_9 rfl rfl ?_
  refine j_aload_n (pc := 10) C dX16_init_10 rfl rfl ?_
  replace hk := ockw_some hk
  obtain ⟨h2, hk⟩ := hk
  refine x_putNF (pc := 11) (o := (some x2)) C fd_17_1 q918 h2 rfl dX16_init_11 ?_
  refine j_aload_n (pc := 14) C dX16_init_14 rfl rfl ?_
  refine j_iload_n (pc := 15) C dX16_init_15 rfl rfl ?_
  replace hk := ockw_some hk
  obtain ⟨h3, hk⟩ := hk
  refine x_putIF (pc := 16) C fd_17_2 q919 h3 rfl rfl dX16_init_16 ?_
  obtain rfl := Option.some.inj hk
  exact j_vret (pc := 19) C dX16_init_19 (Nat.le_refl _) (Nat.le_refl _)
def f_X16_look (sh : SH) (x0 : Nat) (I : II) : Option Int32 := ock sh x0 17 <| if (I x0 2) ≤ (I x0 3) then some (-1) else orf (sh.2.2 x0 1) fun t12 => oar sh t12 101 fun nh3 => oix (I x0 3) nh3 fun i19 => some ((I t12 i19) &&& (nI 255))
abbrev rm_X16_look : Room := { frames := 0, cells := 0, slots := 0, locals := 0 }
theorem mv_X16_look_ok : callOK yX16_look 0 := by decide +kernel
theorem mv_X16_look : MV yX16_look cX16_look 1 (some .int) 0 := ⟨q967, qs12, q114, q968, mv_X16_look_ok⟩
set_option maxHeartbeats 4000000 in
theorem ct_X16_look {G : WG} {l : Launch} {sh : SH} (hS : stN sh) {I : II} {x0 : Nat} {Z : Int32} (hk : f_X16_look sh x0 I = some Z) : CT G l yX16_look (ws_ yX16_look cX16_look 1 (some .int)) rm_X16_look [.ref (wad G x0)] (sh, I) (.returned (some (.int Z))) (sh, I) := by
  refine CT.ofJ "NineDemands$Reader" rfl (by decide) (Nat.le_of_ble_eq_true rfl) ?_
  intro p e s m args below meth c C
  unfold f_X16_look at hk
  refine j_lv (lv' := [some (.ref (wad G x0))]) rfl ?_
  refine j_aload_n (pc := 0) C dX16_look_0 rfl rfl ?_
  replace hk := ock_some hk
  obtain ⟨h1, hk⟩ := hk
  refine x_getI (pc := 1) C fd_17_3 (fl1 C q920) h1 dX16_look_1 ?_
  refine j_aload_n (pc := 4) C dX16_look_4 rfl rfl ?_
  refine x_getI (pc := 5) C fd_17_2 (fl1 C q919) h1 dX16_look_5 ?_
  refine j_icmp_ge (pc := 8) 27 C dX16_look_8 (by decide) (fun h2 => ?_) (fun h2 => ?_)
  · replace hk := it_t h2 hk
    refine j_iconst (pc := 27) (v := (-1)) C dX16_look_27 (by decide) ?_
    obtain rfl := Option.some.inj hk
    exact j_iret (pc := 28) C dX16_look_28 (Nat.le_of_ble_eq_true rfl) (Nat.le_of_ble_eq_true rfl)
  · replace hk := it_f h2 hk
    refine j_aload_n (pc := 11) C dX16_look_11 rfl rfl ?_
    replace hk := orf_some hk
    obtain ⟨t12, et12, hk⟩ := hk
    refine x_getR (pc := 12) C fd_17_1 (fl1 C q918) h1 et12 dX16_look_12 ?_
    refine j_aload_n (pc := 15) C dX16_look_15 rfl rfl ?_
    refine x_getI (pc := 16) C fd_17_3 (fl1 C q920) h1 dX16_look_16 ?_
    replace hk := oar_some hk
    obtain ⟨nh3, h3, hk⟩ := hk
    replace hk := oix_ex hk
    obtain ⟨i19, e19, h4, hk⟩ := hk
    refine x_bald (pc := 19) C h3 h4 e19 dX16_look_19 ?_
    refine j_sipush (pc := 20) (v := nI 255) C dX16_look_20 (by decide) ?_
    refine j_iand (pc := 23) C dX16_look_23 ?_
    refine j_goto (pc := 24) 28 C dX16_look_24 (by decide) ?_
    obtain rfl := Option.some.inj hk
    exact j_iret (pc := 28) C dX16_look_28 (Nat.le_of_ble_eq_true rfl) (Nat.le_of_ble_eq_true rfl)
def f_J9_isLatin1 (sh : SH) (x0 : Nat) (I : II) : Option Int32 := if (nI 1) = 0 then some (nI 0) else ockS sh x0 <| if (I x0 1) = 0 then some (nI 1) else some (nI 0)
abbrev rm_J9_isLatin1 : Room := { frames := 0, cells := 0, slots := 0, locals := 0 }
theorem mv_J9_isLatin1_ok : callOK yJ9_isLatin1 0 := by decide +kernel
theorem mv_J9_isLatin1 : MV yJ9_isLatin1 cJ9_isLatin1 1 (some .boolean) 0 := ⟨q978, q979, q117, q980, mv_J9_isLatin1_ok⟩
set_option maxHeartbeats 4000000 in
theorem ct_J9_isLatin1 {G : WG} {l : Launch} {sh : SH} {I : II} {x0 : Nat} {Z : Int32} (hk : f_J9_isLatin1 sh x0 I = some Z) : CT G l yJ9_isLatin1 (ws_ yJ9_isLatin1 cJ9_isLatin1 1 (some .boolean)) rm_J9_isLatin1 [.ref (wad G x0)] (sh, I) (.returned (some (.int Z))) (sh, I) := by
  refine CT.ofJ "java/lang/String" rfl (by decide) (Nat.le_of_ble_eq_true rfl) ?_
  intro p e s m args below meth c C
  unfold f_J9_isLatin1 at hk
  refine j_lv (lv' := [some (.ref (wad G x0))]) rfl ?_
  refine x_getsC (pc := 0) C q804 dJ9_isLatin1_0 ?_
  refine j_if_eq (pc := 3) 17 C dJ9_isLatin1_3 (by decide) (fun h1 => ?_) (fun h1 => ?_)
  · replace hk := it_t h1 hk
    refine j_iconst (pc := 17) (v := nI 0) C dJ9_isLatin1_17 (by decide) ?_
    obtain rfl := Option.some.inj hk
    exact j_zret (pc := 18) C dJ9_isLatin1_18 (Nat.le_of_ble_eq_true rfl) (Nat.le_of_ble_eq_true rfl) (isB.nar (v := (nI 0)) (by unfold isB; decide))
  · replace hk := it_f h1 hk
    refine j_aload_n (pc := 6) C dJ9_isLatin1_6 rfl rfl ?_
    replace hk := ockS_some hk
    obtain ⟨ch2, ch2h, h2, hk⟩ := hk
    refine x_getI (pc := 7) C (fdS_1 ch2h) (fl1 C q890) h2 dJ9_isLatin1_7 ?_
    refine j_if_ne (pc := 10) 17 C dJ9_isLatin1_10 (by decide) (fun h3 => ?_) (fun h3 => ?_)
    · replace hk := it_f h3 hk
      refine j_iconst (pc := 17) (v := nI 0) C dJ9_isLatin1_17 (by decide) ?_
      obtain rfl := Option.some.inj hk
      exact j_zret (pc := 18) C dJ9_isLatin1_18 (Nat.le_of_ble_eq_true rfl) (Nat.le_of_ble_eq_true rfl) (isB.nar (v := (nI 0)) (by unfold isB; decide))
    · replace hk := it_t h3 hk
      refine j_iconst (pc := 13) (v := nI 1) C dJ9_isLatin1_13 (by decide) ?_
      refine j_goto (pc := 14) 18 C dJ9_isLatin1_14 (by decide) ?_
      obtain rfl := Option.some.inj hk
      exact j_zret (pc := 18) C dJ9_isLatin1_18 (Nat.le_of_ble_eq_true rfl) (Nat.le_of_ble_eq_true rfl) (isB.nar (v := (nI 1)) (by unfold isB; decide))
def f_J14_canEncode (x0 : Int32) : Option Int32 := if x0 < 0 then some (nI 0) else if (nI 255) < x0 then some (nI 0) else some (nI 1)
abbrev rm_J14_canEncode : Room := { frames := 0, cells := 0, slots := 0, locals := 0 }
theorem ms_J14_canEncode : MS yJ14_canEncode cJ14_canEncode 1 (some .boolean) 1 := ⟨q986, q123, q987, by decide +kernel⟩
set_option maxHeartbeats 4000000 in
theorem ct_J14_canEncode {G : WG} {l : Launch} {sh : SH} {I : II} {x0 : Int32} {Z : Int32} (hk : f_J14_canEncode x0 = some Z) : CT G l yJ14_canEncode (ws_ yJ14_canEncode cJ14_canEncode 1 (some .boolean)) rm_J14_canEncode [.int x0] (sh, I) (.returned (some (.int Z))) (sh, I) := by
  refine CT.ofJ "java/lang/StringLatin1" rfl (by decide) (Nat.le_of_ble_eq_true rfl) ?_
  intro p e s m args below meth c C
  unfold f_J14_canEncode at hk
  refine j_lv (lv' := [some (.int x0)]) rfl ?_
  refine j_iload_n (pc := 0) C dJ14_canEncode_0 rfl rfl ?_
  refine j_if_lt (pc := 1) 15 C dJ14_canEncode_1 (by decide) (fun h1 => ?_) (fun h1 => ?_)
  · replace hk := it_t h1 hk
    refine j_iconst (pc := 15) (v := nI 0) C dJ14_canEncode_15 (by decide) ?_
    obtain rfl := Option.some.inj hk
    exact j_zret (pc := 16) C dJ14_canEncode_16 (Nat.le_of_ble_eq_true rfl) (Nat.le_of_ble_eq_true rfl) (isB.nar (v := (nI 0)) (by unfold isB; decide))
  · replace hk := it_f h1 hk
    refine j_iload_n (pc := 4) C dJ14_canEncode_4 rfl rfl ?_
    refine j_sipush (pc := 5) (v := nI 255) C dJ14_canEncode_5 (by decide) ?_
    refine j_icmp_gt (pc := 8) 15 C dJ14_canEncode_8 (by decide) (fun h2 => ?_) (fun h2 => ?_)
    · replace hk := it_t h2 hk
      refine j_iconst (pc := 15) (v := nI 0) C dJ14_canEncode_15 (by decide) ?_
      obtain rfl := Option.some.inj hk
      exact j_zret (pc := 16) C dJ14_canEncode_16 (Nat.le_of_ble_eq_true rfl) (Nat.le_of_ble_eq_true rfl) (isB.nar (v := (nI 0)) (by unfold isB; decide))
    · replace hk := it_f h2 hk
      refine j_iconst (pc := 11) (v := nI 1) C dJ14_canEncode_11 (by decide) ?_
      refine j_goto (pc := 12) 16 C dJ14_canEncode_12 (by decide) ?_
      obtain rfl := Option.some.inj hk
      exact j_zret (pc := 16) C dJ14_canEncode_16 (Nat.le_of_ble_eq_true rfl) (Nat.le_of_ble_eq_true rfl) (isB.nar (v := (nI 1)) (by unfold isB; decide))
def f_J14_indexOfChar_L7 (F : Nat) (sh : SH) (I : II) (x0 : Nat) (x3 : Int32) (x4 : Int32) : Nat → Int32 → Option Int32
  | 0, _ => none
  | n7 + 1, x5 => if x3 ≤ x5 then some (-1) else oar sh x0 101 fun nh2 => oix x5 nh2 fun i16 => if (I x0 i16) = x4 then some x5 else (f_J14_indexOfChar_L7 F sh I x0 x3 x4 n7) (x5 + (nI 1))
def f_J14_indexOfChar (F : Nat) (sh : SH) (x0 : Nat) (x1 : Int32) (x2 : Int32) (x3 : Int32) (I : II) : Option Int32 := f_J14_indexOfChar_L7 F sh I x0 x3 (Int8.toInt32 (Int32.toInt8 x1)) F x2
abbrev rm_J14_indexOfChar : Room := { frames := 0, cells := 0, slots := 0, locals := 0 }
theorem ms_J14_indexOfChar : MS yJ14_indexOfChar cJ14_indexOfChar 6 (some .int) 4 := ⟨q991, q123, q992, by decide +kernel⟩
set_option maxHeartbeats 4000000 in
theorem ct_J14_indexOfChar {G : WG} {l : Launch} {sh : SH} {I : II} {F : Nat} {x0 : Nat} {x1 : Int32} {x2 : Int32} {x3 : Int32} {Z : Int32} (hk : f_J14_indexOfChar F sh x0 x1 x2 x3 I = some Z) : CT G l yJ14_indexOfChar (ws_ yJ14_indexOfChar cJ14_indexOfChar 6 (some .int)) rm_J14_indexOfChar [.ref (wad G x0), .int x1, .int x2, .int x3] (sh, I) (.returned (some (.int Z))) (sh, I) := by
  refine CT.ofJ "java/lang/StringLatin1" rfl (by decide) (Nat.le_of_ble_eq_true rfl) ?_
  intro p e s m args below meth c C
  unfold f_J14_indexOfChar at hk
  refine j_lv (lv' := [some (.ref (wad G x0)), some (.int x1), some (.int x2), some (.int x3), none, none]) rfl ?_
  refine j_iload_n (pc := 0) C dJ14_indexOfChar_0 rfl rfl ?_
  refine j_i2b (pc := 1) C dJ14_indexOfChar_1 ?_
  refine j_istore (pc := 2) C dJ14_indexOfChar_2 (Nat.le_of_ble_eq_true rfl) rfl ?_
  refine j_iload_n (pc := 4) C dJ14_indexOfChar_4 rfl rfl ?_
  refine j_istore (pc := 5) C dJ14_indexOfChar_5 (Nat.le_of_ble_eq_true rfl) rfl ?_
  have L7 : ∀ (x0 : Nat) (x3 : Int32) (x4 : Int32) (n7 : Nat) (x5 : Int32), f_J14_indexOfChar_L7 F sh I x0 x3 x4 n7 x5 = some Z → J G p l e rm_J14_indexOfChar s m args below meth c 6 (.returned (some (.int Z))) (sh, I) (rm_J14_indexOfChar).cells (rm_J14_indexOfChar).slots (sh, I) 0 0 7 [some (.ref (wad G x0)), none, none, some (.int x3), some (.int x4), some (.int x5)] [] := by
    intro x0 x3 x4 n7
    induction n7 with
    | zero => intro x5 hk; rw [f_J14_indexOfChar_L7] at hk; cases hk
    | succ n7 ih7 =>
      intro x5 hk
      rw [f_J14_indexOfChar_L7] at hk
      generalize f_J14_indexOfChar_L7 F sh I x0 x3 x4 n7 = k7 at ih7 hk
      refine j_iload (pc := 7) C dJ14_indexOfChar_7 rfl ?_
      refine j_iload_n (pc := 9) C dJ14_indexOfChar_9 rfl rfl ?_
      refine j_icmp_ge (pc := 10) 31 C dJ14_indexOfChar_10 (by decide) (fun h1 => ?_) (fun h1 => ?_)
      · replace hk := it_t h1 hk
        refine j_iconst (pc := 31) (v := (-1)) C dJ14_indexOfChar_31 (by decide) ?_
        obtain rfl := Option.some.inj hk
        exact j_iret (pc := 32) C dJ14_indexOfChar_32 (Nat.le_of_ble_eq_true rfl) (Nat.le_of_ble_eq_true rfl)
      · replace hk := it_f h1 hk
        refine j_aload_n (pc := 13) C dJ14_indexOfChar_13 rfl rfl ?_
        refine j_iload (pc := 14) C dJ14_indexOfChar_14 rfl ?_
        replace hk := oar_some hk
        obtain ⟨nh2, h2, hk⟩ := hk
        replace hk := oix_ex hk
        obtain ⟨i16, e16, h3, hk⟩ := hk
        refine x_bald (pc := 16) C h2 h3 e16 dJ14_indexOfChar_16 ?_
        refine j_iload (pc := 17) C dJ14_indexOfChar_17 rfl ?_
        refine j_icmp_ne (pc := 19) 25 C dJ14_indexOfChar_19 (by decide) (fun h4 => ?_) (fun h4 => ?_)
        · replace hk := it_f h4 hk
          refine j_iinc (pc := 25) (nI 1) C dJ14_indexOfChar_25 rfl (by decide) (Nat.le_of_ble_eq_true rfl) rfl ?_
          refine j_goto (pc := 28) 7 C dJ14_indexOfChar_28 (by decide) ?_
          exact j_mask [true, false, false, true, true, true] (ih7 _ hk)
        · replace hk := it_t h4 hk
          refine j_iload (pc := 22) C dJ14_indexOfChar_22 rfl ?_
          obtain rfl := Option.some.inj hk
          exact j_iret (pc := 24) C dJ14_indexOfChar_24 (Nat.le_of_ble_eq_true rfl) (Nat.le_of_ble_eq_true rfl)
  exact j_mask [true, false, false, true, true, true] (L7 _ _ _ _ _ hk)
def f_J14_indexOf (F : Nat) (sh : SH) (x0 : Nat) (x1 : Int32) (x2 : Int32) (x3 : Int32) (I : II) : Option Int32 := (f_J14_canEncode x1).bind fun r1 => if r1 = 0 then some (-1) else oar sh x0 101 fun nh3 => if (if x2 < (nI 0) then (nI 0) else x2) < (if (nI nh3) < x3 then (nI nh3) else x3) then (f_J14_indexOfChar F sh x0 x1 (if x2 < (nI 0) then (nI 0) else x2) (if (nI nh3) < x3 then (nI nh3) else x3) I).bind fun r33 => some r33 else some (-1)
abbrev rm_J14_indexOf : Room := { frames := 1, cells := 0, slots := 0, locals := 40 }
theorem ms_J14_indexOf : MS yJ14_indexOf cJ14_indexOf 4 (some .int) 4 := ⟨q983, q123, q984, by decide +kernel⟩
set_option maxHeartbeats 4000000 in
theorem ct_J14_indexOf {G : WG} {l : Launch} {sh : SH} {I : II} {F : Nat} {x0 : Nat} {x1 : Int32} {x2 : Int32} {x3 : Int32} {Z : Int32} (hk : f_J14_indexOf F sh x0 x1 x2 x3 I = some Z) : CT G l yJ14_indexOf (ws_ yJ14_indexOf cJ14_indexOf 4 (some .int)) rm_J14_indexOf [.ref (wad G x0), .int x1, .int x2, .int x3] (sh, I) (.returned (some (.int Z))) (sh, I) := by
  refine CT.ofJ "java/lang/StringLatin1" rfl (by decide) (Nat.le_of_ble_eq_true rfl) ?_
  intro p e s m args below meth c C
  unfold f_J14_indexOf at hk
  refine j_lv (lv' := [some (.ref (wad G x0)), some (.int x1), some (.int x2), some (.int x3)]) rfl ?_
  refine j_iload_n (pc := 0) C dJ14_indexOf_0 rfl rfl ?_
  replace hk := ob_some hk
  obtain ⟨r1, h1, hk⟩ := hk
  refine j_callS (pc := 1) C (ct_J14_canEncode h1) ms_J14_canEncode q985 dJ14_indexOf_1 rfl rfl (Nat.le_of_ble_eq_true rfl) rfl ?_
  refine j_if_ne (pc := 4) 9 C dJ14_indexOf_4 (by decide) (fun h2 => ?_) (fun h2 => ?_)
  · replace hk := it_f h2 hk
    refine j_iload_n (pc := 9) C dJ14_indexOf_9 rfl rfl ?_
    refine j_iconst (pc := 10) (v := nI 0) C dJ14_indexOf_10 (by decide) ?_
    refine j_mmax (pc := 11) C q988 q744 q107 q745 dJ14_indexOf_11 (Nat.le_of_ble_eq_true rfl) (Nat.le_of_ble_eq_true rfl) (Nat.le_of_ble_eq_true rfl) (Nat.le_of_ble_eq_true rfl) ?_
    refine j_istore_n (pc := 14) C dJ14_indexOf_14 rfl (Nat.le_of_ble_eq_true rfl) rfl ?_
    refine j_iload_n (pc := 15) C dJ14_indexOf_15 rfl rfl ?_
    refine j_aload_n (pc := 16) C dJ14_indexOf_16 rfl rfl ?_
    replace hk := oar_some hk
    obtain ⟨nh3, h3, hk⟩ := hk
    refine x_alen (pc := 17) C h3 (by decide) dJ14_indexOf_17 ?_
    refine j_mmin (pc := 18) C q989 q481 q107 q482 dJ14_indexOf_18 (Nat.le_of_ble_eq_true rfl) (Nat.le_of_ble_eq_true rfl) (Nat.le_of_ble_eq_true rfl) (Nat.le_of_ble_eq_true rfl) ?_
    refine j_istore_n (pc := 21) C dJ14_indexOf_21 rfl (Nat.le_of_ble_eq_true rfl) rfl ?_
    refine j_iload_n (pc := 22) C dJ14_indexOf_22 rfl rfl ?_
    refine j_iload_n (pc := 23) C dJ14_indexOf_23 rfl rfl ?_
    refine j_icmp_lt (pc := 24) 29 C dJ14_indexOf_24 (by decide) (fun h4 => ?_) (fun h4 => ?_)
    · replace hk := it_t h4 hk
      refine j_aload_n (pc := 29) C dJ14_indexOf_29 rfl rfl ?_
      refine j_iload_n (pc := 30) C dJ14_indexOf_30 rfl rfl ?_
      refine j_iload_n (pc := 31) C dJ14_indexOf_31 rfl rfl ?_
      refine j_iload_n (pc := 32) C dJ14_indexOf_32 rfl rfl ?_
      replace hk := ob_some hk
      obtain ⟨r33, h5, hk⟩ := hk
      refine j_callS (pc := 33) C (ct_J14_indexOfChar h5) ms_J14_indexOfChar q990 dJ14_indexOf_33 rfl rfl (Nat.le_of_ble_eq_true rfl) rfl ?_
      obtain rfl := Option.some.inj hk
      exact j_iret (pc := 36) C dJ14_indexOf_36 (Nat.le_of_ble_eq_true rfl) (Nat.le_of_ble_eq_true rfl)
    · replace hk := it_f h4 hk
      refine j_iconst (pc := 27) (v := (-1)) C dJ14_indexOf_27 (by decide) ?_
      obtain rfl := Option.some.inj hk
      exact j_iret (pc := 28) C dJ14_indexOf_28 (Nat.le_of_ble_eq_true rfl) (Nat.le_of_ble_eq_true rfl)
  · replace hk := it_t h2 hk
    refine j_iconst (pc := 7) (v := (-1)) C dJ14_indexOf_7 (by decide) ?_
    obtain rfl := Option.some.inj hk
    exact j_iret (pc := 8) C dJ14_indexOf_8 (Nat.le_of_ble_eq_true rfl) (Nat.le_of_ble_eq_true rfl)
def f_J9_indexOf_2 (F : Nat) (sh : SH) (x0 : Nat) (x1 : Int32) (x2 : Int32) (I : II) : Option Int32 := ockS sh x0 <| (f_J9_isLatin1 sh x0 I).bind fun r1 => if r1 = 0 then orf (sh.2.2 x0 0) fun t24 => (f_J9_length sh x0 I).bind fun r30 => none else orf (sh.2.2 x0 0) fun t8 => (f_J9_length sh x0 I).bind fun r14 => (f_J14_indexOf F sh t8 x1 x2 r14 I).bind fun r17 => some r17
abbrev rm_J9_indexOf_2 : Room := { frames := 2, cells := 0, slots := 0, locals := 63 }
theorem mv_J9_indexOf_2_ok : callOK yJ9_indexOf_2 2 := by decide +kernel
theorem mv_J9_indexOf_2 : MV yJ9_indexOf_2 cJ9_indexOf_2 3 (some .int) 2 := ⟨q974, q975, q117, q976, mv_J9_indexOf_2_ok⟩
set_option maxHeartbeats 4000000 in
theorem ct_J9_indexOf_2 {G : WG} {l : Launch} {sh : SH} {I : II} {F : Nat} {x0 : Nat} {x1 : Int32} {x2 : Int32} {Z : Int32} (hk : f_J9_indexOf_2 F sh x0 x1 x2 I = some Z) : CT G l yJ9_indexOf_2 (ws_ yJ9_indexOf_2 cJ9_indexOf_2 3 (some .int)) rm_J9_indexOf_2 [.ref (wad G x0), .int x1, .int x2] (sh, I) (.returned (some (.int Z))) (sh, I) := by
  refine CT.ofJ "java/lang/String" rfl (by decide) (Nat.le_of_ble_eq_true rfl) ?_
  intro p e s m args below meth c C
  unfold f_J9_indexOf_2 at hk
  refine j_lv (lv' := [some (.ref (wad G x0)), some (.int x1), some (.int x2)]) rfl ?_
  refine j_aload_n (pc := 0) C dJ9_indexOf_2_0 rfl rfl ?_
  replace hk := ockS_some hk
  obtain ⟨ch1, ch1h, h1, hk⟩ := hk
  replace hk := ob_some hk
  obtain ⟨r1, h2, hk⟩ := hk
  obtain ⟨cr1, hcr1, hcy1⟩ := famnmS ch1h
  refine x_callV (pc := 1) C (ct_J9_isLatin1 h2) mv_J9_isLatin1 h1 hcr1 hcy1 q977 dJ9_indexOf_2_1 rfl rfl (Nat.le_of_ble_eq_true rfl) rfl ?_
  refine j_if_eq (pc := 4) 23 C dJ9_indexOf_2_4 (by decide) (fun h3 => ?_) (fun h3 => ?_)
  · replace hk := it_t h3 hk
    refine j_aload_n (pc := 23) C dJ9_indexOf_2_23 rfl rfl ?_
    replace hk := orf_some hk
    obtain ⟨t24, et24, hk⟩ := hk
    refine x_getR (pc := 24) C (fdS_0 ch1h) (fl1 C q889) h1 et24 dJ9_indexOf_2_24 ?_
    refine j_iload_n (pc := 27) C dJ9_indexOf_2_27 rfl rfl ?_
    refine j_iload_n (pc := 28) C dJ9_indexOf_2_28 rfl rfl ?_
    refine j_aload_n (pc := 29) C dJ9_indexOf_2_29 rfl rfl ?_
    replace hk := ob_some hk
    obtain ⟨r30, h4, hk⟩ := hk
    obtain ⟨cr30, hcr30, hcy30⟩ := famnmS ch1h
    refine x_callV (pc := 30) C (ct_J9_length h4) mv_J9_length h1 hcr30 hcy30 q981 dJ9_indexOf_2_30 rfl rfl (Nat.le_of_ble_eq_true rfl) rfl ?_
    cases hk
  · replace hk := it_f h3 hk
    refine j_aload_n (pc := 7) C dJ9_indexOf_2_7 rfl rfl ?_
    replace hk := orf_some hk
    obtain ⟨t8, et8, hk⟩ := hk
    refine x_getR (pc := 8) C (fdS_0 ch1h) (fl1 C q889) h1 et8 dJ9_indexOf_2_8 ?_
    refine j_iload_n (pc := 11) C dJ9_indexOf_2_11 rfl rfl ?_
    refine j_iload_n (pc := 12) C dJ9_indexOf_2_12 rfl rfl ?_
    refine j_aload_n (pc := 13) C dJ9_indexOf_2_13 rfl rfl ?_
    replace hk := ob_some hk
    obtain ⟨r14, h5, hk⟩ := hk
    obtain ⟨cr14, hcr14, hcy14⟩ := famnmS ch1h
    refine x_callV (pc := 14) C (ct_J9_length h5) mv_J9_length h1 hcr14 hcy14 q981 dJ9_indexOf_2_14 rfl rfl (Nat.le_of_ble_eq_true rfl) rfl ?_
    replace hk := ob_some hk
    obtain ⟨r17, h6, hk⟩ := hk
    refine j_callS (pc := 17) C (ct_J14_indexOf h6) ms_J14_indexOf q982 dJ9_indexOf_2_17 rfl rfl (Nat.le_of_ble_eq_true rfl) rfl ?_
    refine j_goto (pc := 20) 36 C dJ9_indexOf_2_20 (by decide) ?_
    obtain rfl := Option.some.inj hk
    exact j_iret (pc := 36) C dJ9_indexOf_2_36 (Nat.le_of_ble_eq_true rfl) (Nat.le_of_ble_eq_true rfl)
def f_J9_indexOf (F : Nat) (sh : SH) (x0 : Nat) (x1 : Int32) (I : II) : Option Int32 := ockS sh x0 <| (f_J9_indexOf_2 F sh x0 x1 (nI 0) I).bind fun r3 => some r3
abbrev rm_J9_indexOf : Room := { frames := 3, cells := 0, slots := 0, locals := 85 }
theorem mv_J9_indexOf_ok : callOK yJ9_indexOf 1 := by decide +kernel
theorem mv_J9_indexOf : MV yJ9_indexOf cJ9_indexOf 2 (some .int) 1 := ⟨q970, q971, q117, q972, mv_J9_indexOf_ok⟩
set_option maxHeartbeats 4000000 in
theorem ct_J9_indexOf {G : WG} {l : Launch} {sh : SH} {I : II} {F : Nat} {x0 : Nat} {x1 : Int32} {Z : Int32} (hk : f_J9_indexOf F sh x0 x1 I = some Z) : CT G l yJ9_indexOf (ws_ yJ9_indexOf cJ9_indexOf 2 (some .int)) rm_J9_indexOf [.ref (wad G x0), .int x1] (sh, I) (.returned (some (.int Z))) (sh, I) := by
  refine CT.ofJ "java/lang/String" rfl (by decide) (Nat.le_of_ble_eq_true rfl) ?_
  intro p e s m args below meth c C
  unfold f_J9_indexOf at hk
  refine j_lv (lv' := [some (.ref (wad G x0)), some (.int x1)]) rfl ?_
  refine j_aload_n (pc := 0) C dJ9_indexOf_0 rfl rfl ?_
  refine j_iload_n (pc := 1) C dJ9_indexOf_1 rfl rfl ?_
  refine j_iconst (pc := 2) (v := nI 0) C dJ9_indexOf_2 (by decide) ?_
  replace hk := ockS_some hk
  obtain ⟨ch1, ch1h, h1, hk⟩ := hk
  replace hk := ob_some hk
  obtain ⟨r3, h2, hk⟩ := hk
  obtain ⟨cr3, hcr3, hcy3⟩ := famnmS ch1h
  refine x_callV (pc := 3) C (ct_J9_indexOf_2 h2) mv_J9_indexOf_2 h1 hcr3 hcy3 q973 dJ9_indexOf_3 rfl rfl (Nat.le_of_ble_eq_true rfl) rfl ?_
  obtain rfl := Option.some.inj hk
  exact j_iret (pc := 6) C dJ9_indexOf_6 (Nat.le_of_ble_eq_true rfl) (Nat.le_of_ble_eq_true rfl)
def f_X16_isOne (F : Nat) (sh : SH) (x0 : Nat) (x1 : Nat) (I : II) : Option Int32 := ock sh x0 17 <| (f_X16_look sh x0 I).bind fun r1 => if r1 < 0 then some (nI 0) else (f_X16_look sh x0 I).bind fun r9 => ockS sh x1 <| (f_J9_indexOf F sh x1 r9 I).bind fun r12 => if r12 < 0 then some (nI 0) else some (nI 1)
abbrev rm_X16_isOne : Room := { frames := 4, cells := 0, slots := 0, locals := 106 }
theorem mv_X16_isOne_ok : callOK yX16_isOne 1 := by decide +kernel
theorem mv_X16_isOne : MV yX16_isOne cX16_isOne 2 (some .boolean) 1 := ⟨q963, qs11, q114, q964, mv_X16_isOne_ok⟩
set_option maxHeartbeats 4000000 in
theorem ct_X16_isOne {G : WG} {l : Launch} {sh : SH} (hS : stN sh) {I : II} {F : Nat} {x0 : Nat} {x1 : Nat} {Z : Int32} (hk : f_X16_isOne F sh x0 x1 I = some Z) : CT G l yX16_isOne (ws_ yX16_isOne cX16_isOne 2 (some .boolean)) rm_X16_isOne [.ref (wad G x0), .ref (wad G x1)] (sh, I) (.returned (some (.int Z))) (sh, I) := by
  refine CT.ofJ "NineDemands$Reader" rfl (by decide) (Nat.le_of_ble_eq_true rfl) ?_
  intro p e s m args below meth c C
  unfold f_X16_isOne at hk
  refine j_lv (lv' := [some (.ref (wad G x0)), some (.ref (wad G x1))]) rfl ?_
  refine j_aload_n (pc := 0) C dX16_isOne_0 rfl rfl ?_
  replace hk := ock_some hk
  obtain ⟨h1, hk⟩ := hk
  replace hk := ob_some hk
  obtain ⟨r1, h2, hk⟩ := hk
  refine x_callV (pc := 1) C (ct_X16_look hS h2) mv_X16_look h1 rfl rfl q965 dX16_isOne_1 rfl rfl (Nat.le_of_ble_eq_true rfl) rfl ?_
  refine j_if_lt (pc := 4) 22 C dX16_isOne_4 (by decide) (fun h3 => ?_) (fun h3 => ?_)
  · replace hk := it_t h3 hk
    refine j_iconst (pc := 22) (v := nI 0) C dX16_isOne_22 (by decide) ?_
    obtain rfl := Option.some.inj hk
    exact j_zret (pc := 23) C dX16_isOne_23 (Nat.le_of_ble_eq_true rfl) (Nat.le_of_ble_eq_true rfl) (isB.nar (v := (nI 0)) (by unfold isB; decide))
  · replace hk := it_f h3 hk
    refine j_aload_n (pc := 7) C dX16_isOne_7 rfl rfl ?_
    refine j_aload_n (pc := 8) C dX16_isOne_8 rfl rfl ?_
    replace hk := ob_some hk
    obtain ⟨r9, h4, hk⟩ := hk
    refine x_callV (pc := 9) C (ct_X16_look hS h4) mv_X16_look h1 rfl rfl q965 dX16_isOne_9 rfl rfl (Nat.le_of_ble_eq_true rfl) rfl ?_
    replace hk := ockS_some hk
    obtain ⟨ch5, ch5h, h5, hk⟩ := hk
    replace hk := ob_some hk
    obtain ⟨r12, h6, hk⟩ := hk
    obtain ⟨cr12, hcr12, hcy12⟩ := famnmS ch5h
    refine x_callV (pc := 12) C (ct_J9_indexOf h6) mv_J9_indexOf h5 hcr12 hcy12 q969 dX16_isOne_12 rfl rfl (Nat.le_of_ble_eq_true rfl) rfl ?_
    refine j_if_lt (pc := 15) 22 C dX16_isOne_15 (by decide) (fun h7 => ?_) (fun h7 => ?_)
    · replace hk := it_t h7 hk
      refine j_iconst (pc := 22) (v := nI 0) C dX16_isOne_22 (by decide) ?_
      obtain rfl := Option.some.inj hk
      exact j_zret (pc := 23) C dX16_isOne_23 (Nat.le_of_ble_eq_true rfl) (Nat.le_of_ble_eq_true rfl) (isB.nar (v := (nI 0)) (by unfold isB; decide))
    · replace hk := it_f h7 hk
      refine j_iconst (pc := 18) (v := nI 1) C dX16_isOne_18 (by decide) ?_
      refine j_goto (pc := 19) 23 C dX16_isOne_19 (by decide) ?_
      obtain rfl := Option.some.inj hk
      exact j_zret (pc := 23) C dX16_isOne_23 (Nat.le_of_ble_eq_true rfl) (Nat.le_of_ble_eq_true rfl) (isB.nar (v := (nI 1)) (by unfold isB; decide))
def f_X17_init (sh : SH) (x0 : Nat) (I : II) : Option Unit := some ()
abbrev rm_X17_init : Room := { frames := 1, cells := 0, slots := 0, locals := 30 }
theorem mi_X17_init : MI yX17_init cX17_init 1 0 := ⟨q1025, q125, q1026, rfl, by decide +kernel⟩
set_option maxHeartbeats 4000000 in
theorem ct_X17_init {G : WG} {l : Launch} {sh : SH} {I : II} {x0 : Nat} {Z : Unit} (hk : f_X17_init sh x0 I = some Z) : CT G l yX17_init (ws_ yX17_init cX17_init 1 none) rm_X17_init [.ref (wad G x0)] (sh, I) (.returned none) (sh, I) := by
  refine CT.ofJ "NineDemands$Term" rfl (by decide) (Nat.le_of_ble_eq_true rfl) ?_
  intro p e s m args below meth c C
  unfold f_X17_init at hk
  refine j_lv (lv' := [some (.ref (wad G x0))]) rfl ?_
  refine j_aload_n (pc := 0) C dX17_init_0 rfl rfl ?_
  refine x_objInit (pc := 1) C q1027 q144 q145 dX17_init_1 (Nat.le_of_ble_eq_true rfl) (Nat.le_of_ble_eq_true rfl) ?_
  obtain rfl := Option.some.inj hk
  exact j_vret (pc := 4) C dX17_init_4 (Nat.le_of_ble_eq_true rfl) (Nat.le_of_ble_eq_true rfl)
def f_X22_init (sh : SH) (x0 : Nat) (x1 : Int32) (x2 : Nat) (x3 : Nat) (I : II) : Option (SH × II) := omn2 sh <| (f_X17_init sh x0 I).bind fun _ => ockw sh x0 22 <| ockw (shR sh x0 1 (some x2)) x0 22 <| some (shR (shR sh x0 1 (some x2)) x0 2 (some x3), up2 I x0 0 x1)
abbrev rmf_X22_init : Nat := 2
abbrev rml_X22_init : Nat := 50
theorem mi_X22_init : MI yX22_init cX22_init 4 3 := ⟨q1086, q130, q1087, rfl, by decide +kernel⟩
set_option maxHeartbeats 4000000 in
theorem ct_X22_init {G : WG} {l : Launch} {sh : SH} {I : II} {x0 : Nat} {x1 : Int32} {x2 : Nat} {x3 : Nat} {Z : (SH × II)} (hk : f_X22_init sh x0 x1 x2 x3 I = some Z) : CT G l yX22_init (ws_ yX22_init cX22_init 4 none) (rmA rmf_X22_init rml_X22_init (Z.1.1 - sh.1)) [.ref (wad G x0), .int x1, .ref (wad G x2), .ref (wad G x3)] (sh, I) (.returned none) Z := by
  refine CT.ofJ "NineDemands$Two" rfl (by decide) (Nat.le_of_ble_eq_true rfl) ?_
  intro p e s m args below meth c C
  unfold f_X22_init at hk
  refine j_lv (lv' := [some (.ref (wad G x0)), some (.int x1), some (.ref (wad G x2)), some (.ref (wad G x3))]) rfl ?_
  replace hk := omn2_some hk
  obtain ⟨hz0, hk⟩ := hk
  have hm0 : sh.1 ≤ sh.1 := Nat.le_refl _
  refine j_kn (k' := sh.1 - sh.1) (n' := 200 * (sh.1 - sh.1)) (Nat.sub_self _).symm (rb2 _) ?_
  refine j_aload_n (pc := 0) C dX22_init_0 rfl rfl ?_
  replace hk := ob_some hk
  obtain ⟨_u, h1, hk⟩ := hk
  refine x_callIN (pc := 1) C (ct_X17_init h1) mi_X17_init q1088 dX22_init_1 rfl rfl (Nat.le_of_ble_eq_true rfl) (rmOK.i (Nat.le_of_ble_eq_true rfl) (Nat.le_of_ble_eq_true rfl) (rz1 hm0 hz0) (rz2 hm0 hz0)) ?_
  refine j_aload_n (pc := 4) C dX22_init_4 rfl rfl ?_
  refine j_iload_n (pc := 5) C dX22_init_5 rfl rfl ?_
  replace hk := ockw_some hk
  obtain ⟨h2, hk⟩ := hk
  refine x_putIF (pc := 6) C fd_22_0 q1089 h2 rfl rfl dX22_init_6 ?_
  refine j_aload_n (pc := 9) C dX22_init_9 rfl rfl ?_
  refine j_aload_n (pc := 10) C dX22_init_10 rfl rfl ?_
  refine x_putNF (pc := 11) (o := (some x2)) C fd_22_1 q1090 h2 rfl dX22_init_11 ?_
  refine j_aload_n (pc := 14) C dX22_init_14 rfl rfl ?_
  refine j_aload_n (pc := 15) C dX22_init_15 rfl rfl ?_
  replace hk := ockw_some hk
  obtain ⟨h3, hk⟩ := hk
  refine x_putNF (pc := 16) (o := (some x3)) C fd_22_2 q1091 h3 rfl dX22_init_16 ?_
  obtain rfl := Option.some.inj hk
  exact j_vret (pc := 19) C dX22_init_19 (Nat.le_refl _) (Nat.le_refl _)
def f_X21_init (sh : SH) (x0 : Nat) (x1 : Int32) (I : II) : Option II := (f_X17_init sh x0 I).bind fun _ => ockw sh x0 21 <| some (up2 I x0 0 x1)
abbrev rm_X21_init : Room := { frames := 2, cells := 0, slots := 0, locals := 50 }
theorem mi_X21_init : MI yX21_init cX21_init 2 1 := ⟨q1075, q129, q1076, rfl, by decide +kernel⟩
set_option maxHeartbeats 4000000 in
theorem ct_X21_init {G : WG} {l : Launch} {sh : SH} {I : II} {x0 : Nat} {x1 : Int32} {Z : II} (hk : f_X21_init sh x0 x1 I = some Z) : CT G l yX21_init (ws_ yX21_init cX21_init 2 none) rm_X21_init [.ref (wad G x0), .int x1] (sh, I) (.returned none) (sh, Z) := by
  refine CT.ofJ "NineDemands$Figure" rfl (by decide) (Nat.le_of_ble_eq_true rfl) ?_
  intro p e s m args below meth c C
  unfold f_X21_init at hk
  refine j_lv (lv' := [some (.ref (wad G x0)), some (.int x1)]) rfl ?_
  refine j_aload_n (pc := 0) C dX21_init_0 rfl rfl ?_
  replace hk := ob_some hk
  obtain ⟨_u, h1, hk⟩ := hk
  refine x_callIN (pc := 1) C (ct_X17_init h1) mi_X17_init q1077 dX21_init_1 rfl rfl (Nat.le_of_ble_eq_true rfl) rfl ?_
  refine j_aload_n (pc := 4) C dX21_init_4 rfl rfl ?_
  refine j_iload_n (pc := 5) C dX21_init_5 rfl rfl ?_
  replace hk := ockw_some hk
  obtain ⟨h2, hk⟩ := hk
  refine x_putIF (pc := 6) C fd_21_0 q1078 h2 rfl rfl dX21_init_6 ?_
  obtain rfl := Option.some.inj hk
  exact j_vret (pc := 9) C dX21_init_9 (Nat.le_of_ble_eq_true rfl) (Nat.le_of_ble_eq_true rfl)
def f_X20_init (sh : SH) (x0 : Nat) (x1 : Nat) (I : II) : Option (SH × II) := omn2 sh <| (f_X17_init sh x0 I).bind fun _ => ockw sh x0 20 <| some (shR sh x0 0 (some x1), I)
abbrev rmf_X20_init : Nat := 2
abbrev rml_X20_init : Nat := 50
theorem mi_X20_init : MI yX20_init cX20_init 2 1 := ⟨q1063, q128, q1064, rfl, by decide +kernel⟩
set_option maxHeartbeats 4000000 in
theorem ct_X20_init {G : WG} {l : Launch} {sh : SH} {I : II} {x0 : Nat} {x1 : Nat} {Z : (SH × II)} (hk : f_X20_init sh x0 x1 I = some Z) : CT G l yX20_init (ws_ yX20_init cX20_init 2 none) (rmA rmf_X20_init rml_X20_init (Z.1.1 - sh.1)) [.ref (wad G x0), .ref (wad G x1)] (sh, I) (.returned none) Z := by
  refine CT.ofJ "NineDemands$Turned" rfl (by decide) (Nat.le_of_ble_eq_true rfl) ?_
  intro p e s m args below meth c C
  unfold f_X20_init at hk
  refine j_lv (lv' := [some (.ref (wad G x0)), some (.ref (wad G x1))]) rfl ?_
  replace hk := omn2_some hk
  obtain ⟨hz0, hk⟩ := hk
  have hm0 : sh.1 ≤ sh.1 := Nat.le_refl _
  refine j_kn (k' := sh.1 - sh.1) (n' := 200 * (sh.1 - sh.1)) (Nat.sub_self _).symm (rb2 _) ?_
  refine j_aload_n (pc := 0) C dX20_init_0 rfl rfl ?_
  replace hk := ob_some hk
  obtain ⟨_u, h1, hk⟩ := hk
  refine x_callIN (pc := 1) C (ct_X17_init h1) mi_X17_init q1065 dX20_init_1 rfl rfl (Nat.le_of_ble_eq_true rfl) (rmOK.i (Nat.le_of_ble_eq_true rfl) (Nat.le_of_ble_eq_true rfl) (rz1 hm0 hz0) (rz2 hm0 hz0)) ?_
  refine j_aload_n (pc := 4) C dX20_init_4 rfl rfl ?_
  refine j_aload_n (pc := 5) C dX20_init_5 rfl rfl ?_
  replace hk := ockw_some hk
  obtain ⟨h2, hk⟩ := hk
  refine x_putNF (pc := 6) (o := (some x1)) C fd_20_0 q1066 h2 rfl dX20_init_6 ?_
  obtain rfl := Option.some.inj hk
  exact j_vret (pc := 9) C dX20_init_9 (Nat.le_refl _) (Nat.le_refl _)
def f_X18_init (sh : SH) (x0 : Nat) (x1 : Int32) (I : II) : Option II := (f_X17_init sh x0 I).bind fun _ => ockw sh x0 18 <| some (up2 I x0 0 x1)
abbrev rm_X18_init : Room := { frames := 2, cells := 0, slots := 0, locals := 50 }
theorem mi_X18_init : MI yX18_init cX18_init 2 1 := ⟨q1022, q126, q1023, rfl, by decide +kernel⟩
set_option maxHeartbeats 4000000 in
theorem ct_X18_init {G : WG} {l : Launch} {sh : SH} {I : II} {x0 : Nat} {x1 : Int32} {Z : II} (hk : f_X18_init sh x0 x1 I = some Z) : CT G l yX18_init (ws_ yX18_init cX18_init 2 none) rm_X18_init [.ref (wad G x0), .int x1] (sh, I) (.returned none) (sh, Z) := by
  refine CT.ofJ "NineDemands$Named" rfl (by decide) (Nat.le_of_ble_eq_true rfl) ?_
  intro p e s m args below meth c C
  unfold f_X18_init at hk
  refine j_lv (lv' := [some (.ref (wad G x0)), some (.int x1)]) rfl ?_
  refine j_aload_n (pc := 0) C dX18_init_0 rfl rfl ?_
  replace hk := ob_some hk
  obtain ⟨_u, h1, hk⟩ := hk
  refine x_callIN (pc := 1) C (ct_X17_init h1) mi_X17_init q1024 dX18_init_1 rfl rfl (Nat.le_of_ble_eq_true rfl) rfl ?_
  refine j_aload_n (pc := 4) C dX18_init_4 rfl rfl ?_
  refine j_iload_n (pc := 5) C dX18_init_5 rfl rfl ?_
  replace hk := ockw_some hk
  obtain ⟨h2, hk⟩ := hk
  refine x_putIF (pc := 6) C fd_18_0 q1028 h2 rfl rfl dX18_init_6 ?_
  obtain rfl := Option.some.inj hk
  exact j_vret (pc := 9) C dX18_init_9 (Nat.le_of_ble_eq_true rfl) (Nat.le_of_ble_eq_true rfl)
def f_J0_init_2 (sh : SH) (x0 : Nat) (x1 : Option Nat) (x2 : Option Nat) (x3 : Int32) (x4 : Int32) (I : II) : Option (SH × II) := omn2 sh <| ockwE sh x0 <| ockwE (shR sh x0 0 (some x0)) x0 <| ockwE (shR (shR sh x0 0 (some x0)) x0 1 ((shR sh x0 0 (some x0)).2.2 exS 1)) x0 <| if x4 = 0 then ockwE (shR (shR (shR sh x0 0 (some x0)) x0 1 ((shR sh x0 0 (some x0)).2.2 exS 1)) x0 2 ((shR (shR sh x0 0 (some x0)) x0 1 ((shR sh x0 0 (some x0)).2.2 exS 1)).2.2 exS 2)) x0 <| ockwE (shR (shR (shR (shR sh x0 0 (some x0)) x0 1 ((shR sh x0 0 (some x0)).2.2 exS 1)) x0 2 ((shR (shR sh x0 0 (some x0)) x0 1 ((shR sh x0 0 (some x0)).2.2 exS 1)).2.2 exS 2)) x0 1 none) x0 <| ockwE (shR (shR (shR (shR (shR sh x0 0 (some x0)) x0 1 ((shR sh x0 0 (some x0)).2.2 exS 1)) x0 2 ((shR (shR sh x0 0 (some x0)) x0 1 ((shR sh x0 0 (some x0)).2.2 exS 1)).2.2 exS 2)) x0 1 none) x0 3 x1) x0 <| if x3 = 0 then ockwE (shR (shR (shR (shR (shR (shR sh x0 0 (some x0)) x0 1 ((shR sh x0 0 (some x0)).2.2 exS 1)) x0 2 ((shR (shR sh x0 0 (some x0)) x0 1 ((shR sh x0 0 (some x0)).2.2 exS 1)).2.2 exS 2)) x0 1 none) x0 3 x1) x0 0 x2) x0 <| some (shR (shR (shR (shR (shR (shR (shR sh x0 0 (some x0)) x0 1 ((shR sh x0 0 (some x0)).2.2 exS 1)) x0 2 ((shR (shR sh x0 0 (some x0)) x0 1 ((shR sh x0 0 (some x0)).2.2 exS 1)).2.2 exS 2)) x0 1 none) x0 3 x1) x0 0 x2) x0 2 none, I) else some (shR (shR (shR (shR (shR (shR sh x0 0 (some x0)) x0 1 ((shR sh x0 0 (some x0)).2.2 exS 1)) x0 2 ((shR (shR sh x0 0 (some x0)) x0 1 ((shR sh x0 0 (some x0)).2.2 exS 1)).2.2 exS 2)) x0 1 none) x0 3 x1) x0 0 x2, I) else none
abbrev rmf_J0_init_2 : Nat := 1
abbrev rml_J0_init_2 : Nat := 30
theorem mi_J0_init_2 : MI yJ0_init_2 cJ0_init_2 5 4 := ⟨q196, q92, q197, rfl, by decide +kernel⟩
set_option maxHeartbeats 4000000 in
theorem ct_J0_init_2 {G : WG} {l : Launch} {sh : SH} {I : II} {x0 : Nat} {x1 : Option Nat} {x2 : Option Nat} {x3 : Int32} {x4 : Int32} {Z : (SH × II)} (hk : f_J0_init_2 sh x0 x1 x2 x3 x4 I = some Z) : CT G l yJ0_init_2 (ws_ yJ0_init_2 cJ0_init_2 5 none) (rmA rmf_J0_init_2 rml_J0_init_2 (Z.1.1 - sh.1)) [.ref (wad G x0), va_rf (Option.map (wad G) x1), va_rf (Option.map (wad G) x2), .int x3, .int x4] (sh, I) (.returned none) Z := by
  refine CT.ofJ "java/lang/Throwable" rfl (by decide) (by cases x1 <;> cases x2 <;> exact Nat.le_of_ble_eq_true rfl) ?_
  intro p e s m args below meth c C
  unfold f_J0_init_2 at hk
  refine j_lv (lv' := [some (.ref (wad G x0)), some (va_rf (Option.map (wad G) x1)), some (va_rf (Option.map (wad G) x2)), some (.int x3), some (.int x4)]) (by cases x1 <;> cases x2 <;> rfl) ?_
  replace hk := omn2_some hk
  obtain ⟨hz0, hk⟩ := hk
  have hm0 : sh.1 ≤ sh.1 := Nat.le_refl _
  refine j_kn (k' := sh.1 - sh.1) (n' := 200 * (sh.1 - sh.1)) (Nat.sub_self _).symm (rb2 _) ?_
  refine j_aload_n (pc := 0) C dJ0_init_2_0 rfl rfl ?_
  refine x_objInit (pc := 1) C q171 q144 q145 dJ0_init_2_1 (Nat.le_of_ble_eq_true rfl) (Nat.le_of_ble_eq_true rfl) ?_
  refine j_aload_n (pc := 4) C dJ0_init_2_4 rfl rfl ?_
  refine j_aload_n (pc := 5) C dJ0_init_2_5 rfl rfl ?_
  replace hk := ockwE_some hk
  obtain ⟨ch1, ch1h, h1, hk⟩ := hk
  refine x_putN (pc := 6) (o := (some x0)) C (fdE_0 ch1h) (fl1 C q202) h1 rfl dJ0_init_2_6 ?_
  refine j_aload_n (pc := 9) C dJ0_init_2_9 rfl rfl ?_
  refine x_getsR (pc := 10) 1 C rfl q172 dJ0_init_2_10 ?_
  replace hk := ockwE_some hk
  obtain ⟨ch2, ch2h, h2, hk⟩ := hk
  refine x_putN (pc := 13) (o := ((shR sh x0 0 (some x0)).2.2 exS 1)) C (fdE_1 ch2h) (fl1 C q203) h2 rfl dJ0_init_2_13 ?_
  refine j_aload_n (pc := 16) C dJ0_init_2_16 rfl rfl ?_
  refine x_getsR (pc := 17) 2 C rfl q174 dJ0_init_2_17 ?_
  replace hk := ockwE_some hk
  obtain ⟨ch3, ch3h, h3, hk⟩ := hk
  refine x_putN (pc := 20) (o := ((shR (shR sh x0 0 (some x0)) x0 1 ((shR sh x0 0 (some x0)).2.2 exS 1)).2.2 exS 2)) C (fdE_2 ch3h) (fl1 C q204) h3 rfl dJ0_init_2_20 ?_
  refine j_iload (pc := 23) C dJ0_init_2_23 rfl ?_
  refine j_if_eq (pc := 25) 36 C dJ0_init_2_25 (by decide) (fun h4 => ?_) (fun h4 => ?_)
  · replace hk := it_t h4 hk
    refine j_aload_n (pc := 36) C dJ0_init_2_36 rfl rfl ?_
    refine j_null (pc := 37) C dJ0_init_2_37 ?_
    replace hk := ockwE_some hk
    obtain ⟨ch5, ch5h, h5, hk⟩ := hk
    refine x_putN (pc := 38) (o := none) C (fdE_1 ch5h) (fl1 C q203) h5 rfl dJ0_init_2_38 ?_
    refine j_aload_n (pc := 41) C dJ0_init_2_41 rfl rfl ?_
    refine x_aload_n (pc := 42) C dJ0_init_2_42 rfl rfl ?_
    replace hk := ockwE_some hk
    obtain ⟨ch6, ch6h, h6, hk⟩ := hk
    refine x_putN (pc := 43) (o := x1) C (fdE_3 ch6h) (fl1 C q201) h6 rfl dJ0_init_2_43 ?_
    refine j_aload_n (pc := 46) C dJ0_init_2_46 rfl rfl ?_
    refine x_aload_n (pc := 47) C dJ0_init_2_47 rfl rfl ?_
    replace hk := ockwE_some hk
    obtain ⟨ch7, ch7h, h7, hk⟩ := hk
    refine x_putN (pc := 48) (o := x2) C (fdE_0 ch7h) (fl1 C q202) h7 rfl dJ0_init_2_48 ?_
    refine j_iload_n (pc := 51) C dJ0_init_2_51 rfl rfl ?_
    refine j_if_ne (pc := 52) 60 C dJ0_init_2_52 (by decide) (fun h8 => ?_) (fun h8 => ?_)
    · replace hk := it_f h8 hk
      obtain rfl := Option.some.inj hk
      exact j_vret (pc := 60) C dJ0_init_2_60 (Nat.le_refl _) (Nat.le_refl _)
    · replace hk := it_t h8 hk
      refine j_aload_n (pc := 55) C dJ0_init_2_55 rfl rfl ?_
      refine j_null (pc := 56) C dJ0_init_2_56 ?_
      replace hk := ockwE_some hk
      obtain ⟨ch9, ch9h, h9, hk⟩ := hk
      refine x_putN (pc := 57) (o := none) C (fdE_2 ch9h) (fl1 C q204) h9 rfl dJ0_init_2_57 ?_
      obtain rfl := Option.some.inj hk
      exact j_vret (pc := 60) C dJ0_init_2_60 (Nat.le_refl _) (Nat.le_refl _)
  · replace hk := it_f h4 hk
    refine j_aload_n (pc := 28) C dJ0_init_2_28 rfl rfl ?_
    cases hk
def f_J1_init (sh : SH) (x0 : Nat) (x1 : Option Nat) (x2 : Option Nat) (x3 : Int32) (x4 : Int32) (I : II) : Option (SH × II) := omn2 sh <| bd2 (f_J0_init_2 sh x0 x1 x2 x3 x4 I) fun S6 I6 => og (sh.1 ≤ S6.1) <| omn2 S6 <| some (S6, I6)
abbrev rmf_J1_init : Nat := 2
abbrev rml_J1_init : Nat := 54
theorem mi_J1_init : MI yJ1_init cJ1_init 5 4 := ⟨q193, q93, q194, rfl, by decide +kernel⟩
set_option maxHeartbeats 4000000 in
theorem ct_J1_init {G : WG} {l : Launch} {sh : SH} {I : II} {x0 : Nat} {x1 : Option Nat} {x2 : Option Nat} {x3 : Int32} {x4 : Int32} {Z : (SH × II)} (hk : f_J1_init sh x0 x1 x2 x3 x4 I = some Z) : CT G l yJ1_init (ws_ yJ1_init cJ1_init 5 none) (rmA rmf_J1_init rml_J1_init (Z.1.1 - sh.1)) [.ref (wad G x0), va_rf (Option.map (wad G) x1), va_rf (Option.map (wad G) x2), .int x3, .int x4] (sh, I) (.returned none) Z := by
  refine CT.ofJ "java/lang/Exception" rfl (by decide) (by cases x1 <;> cases x2 <;> exact Nat.le_of_ble_eq_true rfl) ?_
  intro p e s m args below meth c C
  unfold f_J1_init at hk
  refine j_lv (lv' := [some (.ref (wad G x0)), some (va_rf (Option.map (wad G) x1)), some (va_rf (Option.map (wad G) x2)), some (.int x3), some (.int x4)]) (by cases x1 <;> cases x2 <;> rfl) ?_
  replace hk := omn2_some hk
  obtain ⟨hz0, hk⟩ := hk
  have hm0 : sh.1 ≤ sh.1 := Nat.le_refl _
  refine j_kn (k' := sh.1 - sh.1) (n' := 200 * (sh.1 - sh.1)) (Nat.sub_self _).symm (rb2 _) ?_
  refine j_aload_n (pc := 0) C dJ1_init_0 rfl rfl ?_
  refine x_aload_n (pc := 1) C dJ1_init_1 rfl rfl ?_
  refine x_aload_n (pc := 2) C dJ1_init_2 rfl rfl ?_
  refine j_iload_n (pc := 3) C dJ1_init_3 rfl rfl ?_
  refine j_iload (pc := 4) C dJ1_init_4 rfl ?_
  replace hk := bd2_some hk
  obtain ⟨S6, I6, h1, hk⟩ := hk
  replace hk := og_some hk
  obtain ⟨h2, hk⟩ := hk
  replace hk := omn2_some hk
  obtain ⟨h3, hk⟩ := hk
  have h4 : sh.1 ≤ S6.1 := Nat.le_trans hm0 h2
  refine x_callI (pc := 6) C (ct_J0_init_2 h1) mi_J0_init_2 q195 dJ1_init_6 rfl rfl (Nat.le_of_ble_eq_true rfl) (rmOK.i (Nat.le_of_ble_eq_true rfl) (Nat.le_of_ble_eq_true rfl) (rm1 hm0 h2 h3) (rm2 hm0 h2 h3)) ?_
  refine j_kn (k' := S6.1 - sh.1) (n' := 200 * (S6.1 - sh.1)) (rk1 hm0 h2) (rk2 hm0 h2) ?_
  obtain rfl := Option.some.inj hk
  exact j_vret (pc := 9) C dJ1_init_9 (Nat.le_refl _) (Nat.le_refl _)
def f_J2_init (sh : SH) (x0 : Nat) (x1 : Option Nat) (x2 : Option Nat) (x3 : Int32) (x4 : Int32) (I : II) : Option (SH × II) := omn2 sh <| bd2 (f_J1_init sh x0 x1 x2 x3 x4 I) fun S6 I6 => og (sh.1 ≤ S6.1) <| omn2 S6 <| some (S6, I6)
abbrev rmf_J2_init : Nat := 3
abbrev rml_J2_init : Nat := 78
theorem mi_J2_init : MI yJ2_init cJ2_init 5 4 := ⟨q190, q94, q191, rfl, by decide +kernel⟩
set_option maxHeartbeats 4000000 in
theorem ct_J2_init {G : WG} {l : Launch} {sh : SH} {I : II} {x0 : Nat} {x1 : Option Nat} {x2 : Option Nat} {x3 : Int32} {x4 : Int32} {Z : (SH × II)} (hk : f_J2_init sh x0 x1 x2 x3 x4 I = some Z) : CT G l yJ2_init (ws_ yJ2_init cJ2_init 5 none) (rmA rmf_J2_init rml_J2_init (Z.1.1 - sh.1)) [.ref (wad G x0), va_rf (Option.map (wad G) x1), va_rf (Option.map (wad G) x2), .int x3, .int x4] (sh, I) (.returned none) Z := by
  refine CT.ofJ "java/lang/RuntimeException" rfl (by decide) (by cases x1 <;> cases x2 <;> exact Nat.le_of_ble_eq_true rfl) ?_
  intro p e s m args below meth c C
  unfold f_J2_init at hk
  refine j_lv (lv' := [some (.ref (wad G x0)), some (va_rf (Option.map (wad G) x1)), some (va_rf (Option.map (wad G) x2)), some (.int x3), some (.int x4)]) (by cases x1 <;> cases x2 <;> rfl) ?_
  replace hk := omn2_some hk
  obtain ⟨hz0, hk⟩ := hk
  have hm0 : sh.1 ≤ sh.1 := Nat.le_refl _
  refine j_kn (k' := sh.1 - sh.1) (n' := 200 * (sh.1 - sh.1)) (Nat.sub_self _).symm (rb2 _) ?_
  refine j_aload_n (pc := 0) C dJ2_init_0 rfl rfl ?_
  refine x_aload_n (pc := 1) C dJ2_init_1 rfl rfl ?_
  refine x_aload_n (pc := 2) C dJ2_init_2 rfl rfl ?_
  refine j_iload_n (pc := 3) C dJ2_init_3 rfl rfl ?_
  refine j_iload (pc := 4) C dJ2_init_4 rfl ?_
  replace hk := bd2_some hk
  obtain ⟨S6, I6, h1, hk⟩ := hk
  replace hk := og_some hk
  obtain ⟨h2, hk⟩ := hk
  replace hk := omn2_some hk
  obtain ⟨h3, hk⟩ := hk
  have h4 : sh.1 ≤ S6.1 := Nat.le_trans hm0 h2
  refine x_callI (pc := 6) C (ct_J1_init h1) mi_J1_init q192 dJ2_init_6 rfl rfl (Nat.le_of_ble_eq_true rfl) (rmOK.i (Nat.le_of_ble_eq_true rfl) (Nat.le_of_ble_eq_true rfl) (rm1 hm0 h2 h3) (rm2 hm0 h2 h3)) ?_
  refine j_kn (k' := S6.1 - sh.1) (n' := 200 * (S6.1 - sh.1)) (rk1 hm0 h2) (rk2 hm0 h2) ?_
  obtain rfl := Option.some.inj hk
  exact j_vret (pc := 9) C dJ2_init_9 (Nat.le_refl _) (Nat.le_refl _)
def f_X19_init (sh : SH) (x0 : Nat) (x1 : Int32) (I : II) : Option (SH × II) := omn2 sh <| bd2 (f_J2_init sh x0 none none (nI 0) (nI 0) I) fun S5 I5 => og (sh.1 ≤ S5.1) <| omn2 S5 <| ockw S5 x0 19 <| some (S5, up2 I5 x0 6 x1)
abbrev rmf_X19_init : Nat := 4
abbrev rml_X19_init : Nat := 102
theorem mi_X19_init : MI yX19_init cX19_init 2 1 := ⟨q1051, q127, q1052, rfl, by decide +kernel⟩
set_option maxHeartbeats 4000000 in
theorem ct_X19_init {G : WG} {l : Launch} {sh : SH} {I : II} {x0 : Nat} {x1 : Int32} {Z : (SH × II)} (hk : f_X19_init sh x0 x1 I = some Z) : CT G l yX19_init (ws_ yX19_init cX19_init 2 none) (rmA rmf_X19_init rml_X19_init (Z.1.1 - sh.1)) [.ref (wad G x0), .int x1] (sh, I) (.returned none) Z := by
  refine CT.ofJ "NineDemands$Fault" rfl (by decide) (Nat.le_of_ble_eq_true rfl) ?_
  intro p e s m args below meth c C
  unfold f_X19_init at hk
  refine j_lv (lv' := [some (.ref (wad G x0)), some (.int x1)]) rfl ?_
  replace hk := omn2_some hk
  obtain ⟨hz0, hk⟩ := hk
  have hm0 : sh.1 ≤ sh.1 := Nat.le_refl _
  refine j_kn (k' := sh.1 - sh.1) (n' := 200 * (sh.1 - sh.1)) (Nat.sub_self _).symm (rb2 _) ?_
  refine j_aload_n (pc := 0) C dX19_init_0 rfl rfl ?_
  refine j_null (pc := 1) C dX19_init_1 ?_
  refine j_null (pc := 2) C dX19_init_2 ?_
  refine j_iconst (pc := 3) (v := nI 0) C dX19_init_3 (by decide) ?_
  refine j_iconst (pc := 4) (v := nI 0) C dX19_init_4 (by decide) ?_
  replace hk := bd2_some hk
  obtain ⟨S5, I5, h1, hk⟩ := hk
  replace hk := og_some hk
  obtain ⟨h2, hk⟩ := hk
  replace hk := omn2_some hk
  obtain ⟨h3, hk⟩ := hk
  have h4 : sh.1 ≤ S5.1 := Nat.le_trans hm0 h2
  refine x_callI (pc := 5) C (ct_J2_init h1) mi_J2_init q1053 dX19_init_5 rfl rfl (Nat.le_of_ble_eq_true rfl) (rmOK.i (Nat.le_of_ble_eq_true rfl) (Nat.le_of_ble_eq_true rfl) (rm1 hm0 h2 h3) (rm2 hm0 h2 h3)) ?_
  refine j_kn (k' := S5.1 - sh.1) (n' := 200 * (S5.1 - sh.1)) (rk1 hm0 h2) (rk2 hm0 h2) ?_
  refine j_aload_n (pc := 8) C dX19_init_8 rfl rfl ?_
  refine j_iload_n (pc := 9) C dX19_init_9 rfl rfl ?_
  replace hk := ockw_some hk
  obtain ⟨h5, hk⟩ := hk
  refine x_putIF (pc := 10) C fd_19_6 q1054 h5 rfl rfl dX19_init_10 ?_
  obtain rfl := Option.some.inj hk
  exact j_vret (pc := 13) C dX19_init_13 (Nat.le_refl _) (Nat.le_refl _)
def f_X16_fault (sh : SH) (x0 : Nat) (x1 : Int32) (I : II) : Option ((Unit ⊕ Nat) × SH × II) := omn3 sh <| if x1 = 0 then onw sh <| omn3 (newS sh 19 0) <| ock (newS sh 19 0) x0 17 <| bd2 (f_X19_init (newS sh 19 0) ((sh).1) ((newI sh I) x0 3) (newI sh I)) fun S12 I12 => og (sh.1 + 1 ≤ S12.1) <| omn3 S12 <| some (.inr ((sh).1), S12, I12) else some ((.inl ()), sh, I)
abbrev rmf_X16_fault : Nat := 5
abbrev rml_X16_fault : Nat := 123
theorem mv_X16_fault_ok : callOK yX16_fault 1 := by decide +kernel
theorem mv_X16_fault : MV yX16_fault cX16_fault 2 none 1 := ⟨q1039, qs14, q114, q1040, mv_X16_fault_ok⟩
set_option maxHeartbeats 4000000 in
theorem ct_X16_fault {G : WG} {l : Launch} {sh : SH} {I : II} {x0 : Nat} {x1 : Int32} {Z : ((Unit ⊕ Nat) × SH × II)} (hk : f_X16_fault sh x0 x1 I = some Z) : CT G l yX16_fault (ws_ yX16_fault cX16_fault 2 none) (rmA rmf_X16_fault rml_X16_fault (Z.2.1.1 - sh.1)) [.ref (wad G x0), .int x1] (sh, I) (ocu G Z.1) Z.2 := by
  refine CT.ofJ "NineDemands$Reader" rfl (by decide) (Nat.le_of_ble_eq_true rfl) ?_
  intro p e s m args below meth c C
  unfold f_X16_fault at hk
  refine j_lv (lv' := [some (.ref (wad G x0)), some (.int x1)]) rfl ?_
  replace hk := omn3_some hk
  obtain ⟨hz0, hk⟩ := hk
  have hm0 : sh.1 ≤ sh.1 := Nat.le_refl _
  refine j_kn (k' := sh.1 - sh.1) (n' := 200 * (sh.1 - sh.1)) (Nat.sub_self _).symm (rb2 _) ?_
  refine j_iload_n (pc := 0) C dX16_fault_0 rfl rfl ?_
  refine j_if_ne (pc := 1) 16 C dX16_fault_1 (by decide) (fun h1 => ?_) (fun h1 => ?_)
  · replace hk := it_f h1 hk
    obtain rfl := Option.some.inj hk
    exact j_vret (pc := 16) C dX16_fault_16 (Nat.le_refl _) (Nat.le_refl _)
  · replace hk := it_t h1 hk
    replace hk := onw_some hk
    obtain ⟨h2, hk⟩ := hk
    replace hk := omn3_some hk
    obtain ⟨h3, hk⟩ := hk
    have h3 : sh.1 + 1 ≤ Z.2.1.1 := h3
    refine x_new (pc := 4) (c2 := 19) C rfl (born_19) q1041 q1042 q127 h2 (ra1 hm0 h3) (ra2 hm0 h3 (by decide)) dX16_fault_4 ?_
    have h4 : sh.1 ≤ sh.1 + 1 := Nat.le_succ_of_le hm0
    refine j_wid (k' := (newS sh 19 0).1 - sh.1) (n' := 200 * ((newS sh 19 0).1 - sh.1)) (rw1 hm0) (rw2 hm0 (by decide)) ?_
    refine j_dup (pc := 7) C dX16_fault_7 rfl ?_
    refine j_aload_n (pc := 8) C dX16_fault_8 rfl rfl ?_
    replace hk := ock_some hk
    obtain ⟨h5, hk⟩ := hk
    refine x_getI (pc := 9) C fd_17_3 (fl1 C q920) h5 dX16_fault_9 ?_
    replace hk := bd2_some hk
    obtain ⟨S12, I12, h6, hk⟩ := hk
    replace hk := og_some hk
    obtain ⟨h7, hk⟩ := hk
    replace hk := omn3_some hk
    obtain ⟨h8, hk⟩ := hk
    have h9 : sh.1 ≤ S12.1 := Nat.le_trans h4 h7
    refine x_callI (pc := 12) C (ct_X19_init h6) mi_X19_init q1050 dX16_fault_12 rfl rfl (Nat.le_of_ble_eq_true rfl) (rmOK.i (Nat.le_of_ble_eq_true rfl) (Nat.le_of_ble_eq_true rfl) (rm1 h4 h7 h8) (rm2 h4 h7 h8)) ?_
    refine j_kn (k' := S12.1 - sh.1) (n' := 200 * (S12.1 - sh.1)) (rk1 h4 h7) (rk2 h4 h7) ?_
    obtain rfl := Option.some.inj hk
    exact x_athrow (pc := 15) C rfl dX16_fault_15 (Nat.le_refl _) (Nat.le_refl _)
