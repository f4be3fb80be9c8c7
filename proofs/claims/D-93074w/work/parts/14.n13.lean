/-! the class: walks -/
set_option maxRecDepth 100000
def f_X16_opens_J14 (x0 : Nat) (s0 : Nat) (s1 : Int32) (S : SH) (I : II) : Option ((Unit ⊕ Nat) × SH × II) := ock S s0 17 <| bd3 (f_X16_fault S s0 s1 I) fun u14 S14 I14 => og (S.1 ≤ S14.1) <| omn3 S14 <| oex u14 (fun _w14 => ock S14 x0 17 <| ockw S14 x0 17 <| some ((.inl ()), S14, up2 (up2 I14 x0 4 ((I14 x0 4) + (nI 1))) x0 3 (((up2 I14 x0 4 ((I14 x0 4) + (nI 1))) x0 3) + (nI 1)))) (fun w14 => some (.inr w14, S14, I14))
def f_X16_opens (sh : SH) (x0 : Nat) (I : II) : Option ((Unit ⊕ Nat) × SH × II) := omn3 sh <| ock sh x0 17 <| if (nI 5) ≤ (I x0 4) then f_X16_opens_J14 x0 x0 (nI 0) sh I else f_X16_opens_J14 x0 x0 (nI 1) sh I
abbrev rmf_X16_opens : Nat := 6
abbrev rml_X16_opens : Nat := 144
theorem mv_X16_opens_ok : callOK yX16_opens 0 := by decide +kernel
theorem mv_X16_opens : MV yX16_opens cX16_opens 1 none 0 := ⟨q1035, qs13, q114, q1036, mv_X16_opens_ok⟩
set_option maxHeartbeats 4000000 in
theorem ct_X16_opens {G : WG} {l : Launch} {sh : SH} {I : II} {x0 : Nat} {Z : ((Unit ⊕ Nat) × SH × II)} (hk : f_X16_opens sh x0 I = some Z) : CT G l yX16_opens (ws_ yX16_opens cX16_opens 1 none) (rmA rmf_X16_opens rml_X16_opens (Z.2.1.1 - sh.1)) [.ref (wad G x0)] (sh, I) (ocu G Z.1) Z.2 := by
  refine CT.ofJ "NineDemands$Reader" rfl (by decide) (Nat.le_of_ble_eq_true rfl) ?_
  intro p e s m args below meth c C
  unfold f_X16_opens at hk
  refine j_lv (lv' := [some (.ref (wad G x0))]) rfl ?_
  replace hk := omn3_some hk
  obtain ⟨hz0, hk⟩ := hk
  have hm0 : sh.1 ≤ sh.1 := Nat.le_refl _
  refine j_kn (k' := sh.1 - sh.1) (n' := 200 * (sh.1 - sh.1)) (Nat.sub_self _).symm (rb2 _) ?_
  refine j_aload_n (pc := 0) C dX16_opens_0 rfl rfl ?_
  refine j_aload_n (pc := 1) C dX16_opens_1 rfl rfl ?_
  replace hk := ock_some hk
  obtain ⟨h1, hk⟩ := hk
  refine x_getI (pc := 2) C fd_17_4 (fl1 C q921) h1 dX16_opens_2 ?_
  refine j_iconst (pc := 5) (v := nI 5) C dX16_opens_5 (by decide) ?_
  have Jn14 : ∀ (x0 : Nat) (s0 : Nat) (s1 : Int32) (S : SH) (I : II), sh.1 ≤ S.1 → S.1 ≤ Z.2.1.1 → f_X16_opens_J14 x0 s0 s1 S I = some Z → J G p l e (rmA rmf_X16_opens rml_X16_opens (Z.2.1.1 - sh.1)) s m args below meth c 1 (ocu G Z.1) Z.2 ((rmA rmf_X16_opens rml_X16_opens (Z.2.1.1 - sh.1))).cells ((rmA rmf_X16_opens rml_X16_opens (Z.2.1.1 - sh.1))).slots (S, I) ((S).1 - sh.1) (200 * ((S).1 - sh.1)) 14 [some (.ref (wad G x0))] [.int s1, .ref (wad G s0)] := by
    intro x0 s0 s1 S I hm hz hk
    unfold f_X16_opens_J14 at hk
    replace hk := ock_some hk
    obtain ⟨h2, hk⟩ := hk
    replace hk := bd3_some hk
    obtain ⟨u14, S14, I14, h3, hk⟩ := hk
    replace hk := og_some hk
    obtain ⟨h4, hk⟩ := hk
    replace hk := omn3_some hk
    obtain ⟨h5, hk⟩ := hk
    have h6 : sh.1 ≤ S14.1 := Nat.le_trans hm h4
    cases u14 with
    | inr w14 =>
      replace hk := oex_r hk
      obtain rfl := Option.some.inj hk
      exact x_callVT (pc := 14) C (ct_X16_fault h3) mv_X16_fault h2 rfl rfl q1037 dX16_opens_14 rfl rfl (Nat.le_of_ble_eq_true rfl) (rmOK.i (Nat.le_of_ble_eq_true rfl) (Nat.le_of_ble_eq_true rfl) (rm1 hm h4 h5) (rm2 hm h4 h5)) rfl (Nat.le_of_eq (rk1 hm h4)) (Nat.le_of_eq (rk2 hm h4))
    | inl _w14 =>
      replace hk := oex_l hk
      refine x_callV (pc := 14) C (ct_X16_fault h3) mv_X16_fault h2 rfl rfl q1037 dX16_opens_14 rfl rfl (Nat.le_of_ble_eq_true rfl) (rmOK.i (Nat.le_of_ble_eq_true rfl) (Nat.le_of_ble_eq_true rfl) (rm1 hm h4 h5) (rm2 hm h4 h5)) ?_
      refine j_kn (k' := S14.1 - sh.1) (n' := 200 * (S14.1 - sh.1)) (rk1 hm h4) (rk2 hm h4) ?_
      refine j_aload_n (pc := 17) C dX16_opens_17 rfl rfl ?_
      refine j_dup (pc := 18) C dX16_opens_18 rfl ?_
      replace hk := ock_some hk
      obtain ⟨h7, hk⟩ := hk
      refine x_getI (pc := 19) C fd_17_4 (fl1 C q921) h7 dX16_opens_19 ?_
      refine j_iconst (pc := 22) (v := nI 1) C dX16_opens_22 (by decide) ?_
      refine j_iadd (pc := 23) C dX16_opens_23 ?_
      replace hk := ockw_some hk
      obtain ⟨h8, hk⟩ := hk
      refine x_putI (pc := 24) C fd_17_4 (fl1 C q921) h8 rfl rfl dX16_opens_24 ?_
      refine j_aload_n (pc := 27) C dX16_opens_27 rfl rfl ?_
      refine j_dup (pc := 28) C dX16_opens_28 rfl ?_
      refine x_getI (pc := 29) C fd_17_3 (fl1 C q920) h8.r dX16_opens_29 ?_
      refine j_iconst (pc := 32) (v := nI 1) C dX16_opens_32 (by decide) ?_
      refine j_iadd (pc := 33) C dX16_opens_33 ?_
      refine x_putI (pc := 34) C fd_17_3 (fl1 C q920) h8 rfl rfl dX16_opens_34 ?_
      obtain rfl := Option.some.inj hk
      exact j_vret (pc := 37) C dX16_opens_37 (Nat.le_refl _) (Nat.le_refl _)
  refine j_icmp_ge (pc := 6) 13 C dX16_opens_6 (by decide) (fun h9 => ?_) (fun h9 => ?_)
  · replace hk := it_t h9 hk
    refine j_iconst (pc := 13) (v := nI 0) C dX16_opens_13 (by decide) ?_
    exact j_mask [true] (Jn14 _ _ _ _ _ hm0 hz0 hk)
  · replace hk := it_f h9 hk
    refine j_iconst (pc := 9) (v := nI 1) C dX16_opens_9 (by decide) ?_
    refine j_goto (pc := 10) 14 C dX16_opens_10 (by decide) ?_
    exact j_mask [true] (Jn14 _ _ _ _ _ hm0 hz0 hk)
theorem mv_X16_both_ok : callOK yX16_both 0 := by decide +kernel
theorem mv_X16_both : MV yX16_both cX16_both 2 (some (.object "NineDemands$Term")) 0 := ⟨q943, qs6, q114, q944, mv_X16_both_ok⟩
theorem mv_X16_either_ok : callOK yX16_either 0 := by decide +kernel
theorem mv_X16_either : MV yX16_either cX16_either 2 (some (.object "NineDemands$Term")) 0 := ⟨q939, qs5, q114, q940, mv_X16_either_ok⟩
theorem mv_X16_product_ok : callOK yX16_product 0 := by decide +kernel
theorem mv_X16_product : MV yX16_product cX16_product 3 (some (.object "NineDemands$Term")) 0 := ⟨q955, qs9, q114, q956, mv_X16_product_ok⟩
theorem mv_X16_relation_ok : callOK yX16_relation 0 := by decide +kernel
theorem mv_X16_relation : MV yX16_relation cX16_relation 3 (some (.object "NineDemands$Term")) 0 := ⟨q947, qs7, q114, q948, mv_X16_relation_ok⟩
theorem mv_X16_single_ok : callOK yX16_single 0 := by decide +kernel
theorem mv_X16_single : MV yX16_single cX16_single 3 (some (.object "NineDemands$Term")) 0 := ⟨q959, qs10, q114, q960, mv_X16_single_ok⟩
theorem mv_X16_sum_ok : callOK yX16_sum 0 := by decide +kernel
theorem mv_X16_sum : MV yX16_sum cX16_sum 3 (some (.object "NineDemands$Term")) 0 := ⟨q951, qs8, q114, q952, mv_X16_sum_ok⟩
def f_X16_both_L5 (F : Nat) (c_X16_relation : SH → Nat → II → Option ((Nat ⊕ Nat) × SH × II)) (x0 : Nat) : Nat → Nat → SH → II → Option ((Nat ⊕ Nat) × SH × II)
  | 0, _, _, _ => none
  | n5 + 1, x1, S, I => ost S <| ock S x0 17 <| (f_X16_isOne F S x0 (exA + 4) I).bind fun r8 => if r8 = 0 then some ((.inl x1), S, I) else ockw S x0 17 <| onw S <| omn3 (newS S 22 0) <| ock (newS S 22 0) x0 17 <| bd3 (c_X16_relation (newS S 22 0) x0 (newI S (up2 I x0 3 ((I x0 3) + (nI 1))))) fun u32 S32 I32 => og (S.1 + 1 ≤ S32.1) <| omn3 S32 <| oex u32 (fun a32 => bd2 (f_X22_init S32 ((S).1) (nI 38) x1 a32 I32) fun S35 I35 => og (S32.1 ≤ S35.1) <| omn3 S35 <| (f_X16_both_L5 F c_X16_relation x0 n5) ((S).1) S35 I35) (fun w32 => some (.inr w32, S32, I32))
def fb_X16_both (F : Nat) (c_X16_relation : SH → Nat → II → Option ((Nat ⊕ Nat) × SH × II)) (sh : SH) (x0 : Nat) (I : II) : Option ((Nat ⊕ Nat) × SH × II) := omn3 sh <| ock sh x0 17 <| bd3 (c_X16_relation sh x0 I) fun u1 S1 I1 => og (sh.1 ≤ S1.1) <| omn3 S1 <| oex u1 (fun a1 => f_X16_both_L5 F c_X16_relation x0 F a1 S1 I1) (fun w1 => some (.inr w1, S1, I1))
set_option maxHeartbeats 4000000 in
theorem ctb_X16_both {G : WG} {l : Launch} {sh : SH} {Rf Rl : Nat} {F : Nat} {fc_X16_relation lc_X16_relation : Nat} {c_X16_relation : SH → Nat → II → Option ((Nat ⊕ Nat) × SH × II)} (hc_X16_relation : ∀ {sh : SH} {x0 : Nat} {I : II} {Z : ((Nat ⊕ Nat) × SH × II)}, c_X16_relation sh x0 I = some Z → CT G l yX16_relation (ws_ yX16_relation cX16_relation 3 (some (.object "NineDemands$Term"))) (rmA fc_X16_relation lc_X16_relation (Z.2.1.1 - sh.1)) [.ref (wad G x0)] (sh, I) (ocr G Z.1) Z.2) (hr_X16_relation : fc_X16_relation + 1 ≤ Rf ∧ 8 + (3 + 11) + lc_X16_relation ≤ Rl) (hr_X16_isOne : 4 + 1 ≤ Rf ∧ 8 + (2 + 11) + 106 ≤ Rl) (hr_X22_init : 2 + 1 ≤ Rf ∧ 8 + (4 + 11) + 50 ≤ Rl) {x0 : Nat} {I : II} {Z : ((Nat ⊕ Nat) × SH × II)} (hk : fb_X16_both F c_X16_relation sh x0 I = some Z) : CT G l yX16_both (ws_ yX16_both cX16_both 2 (some (.object "NineDemands$Term"))) (rmA Rf Rl (Z.2.1.1 - sh.1)) [.ref (wad G x0)] (sh, I) (ocr G Z.1) Z.2 := by
  refine CT.ofJ "NineDemands$Reader" rfl (by decide) (Nat.le_of_ble_eq_true rfl) ?_
  intro p e s m args below meth c C
  unfold fb_X16_both at hk
  refine j_lv (lv' := [some (.ref (wad G x0)), none]) rfl ?_
  replace hk := omn3_some hk
  obtain ⟨hz0, hk⟩ := hk
  have hm0 : sh.1 ≤ sh.1 := Nat.le_refl _
  refine j_kn (k' := sh.1 - sh.1) (n' := 200 * (sh.1 - sh.1)) (Nat.sub_self _).symm (rb2 _) ?_
  refine j_aload_n (pc := 0) C dX16_both_0 rfl rfl ?_
  replace hk := ock_some hk
  obtain ⟨h1, hk⟩ := hk
  replace hk := bd3_some hk
  obtain ⟨u1, S1, I1, h2, hk⟩ := hk
  replace hk := og_some hk
  obtain ⟨h3, hk⟩ := hk
  replace hk := omn3_some hk
  obtain ⟨h4, hk⟩ := hk
  have h5 : sh.1 ≤ S1.1 := Nat.le_trans hm0 h3
  cases u1 with
  | inr w1 =>
    replace hk := oex_r hk
    obtain rfl := Option.some.inj hk
    exact x_callVT (pc := 1) C (hc_X16_relation h2) mv_X16_relation h1 rfl rfl q945 dX16_both_1 rfl rfl (Nat.le_of_ble_eq_true rfl) (rmOK.i hr_X16_relation.1 hr_X16_relation.2 (rm1 hm0 h3 h4) (rm2 hm0 h3 h4)) rfl (Nat.le_of_eq (rk1 hm0 h3)) (Nat.le_of_eq (rk2 hm0 h3))
  | inl a1 =>
    replace hk := oex_l hk
    refine x_callV (pc := 1) C (hc_X16_relation h2) mv_X16_relation h1 rfl rfl q945 dX16_both_1 rfl rfl (Nat.le_of_ble_eq_true rfl) (rmOK.i hr_X16_relation.1 hr_X16_relation.2 (rm1 hm0 h3 h4) (rm2 hm0 h3 h4)) ?_
    refine j_kn (k' := S1.1 - sh.1) (n' := 200 * (S1.1 - sh.1)) (rk1 hm0 h3) (rk2 hm0 h3) ?_
    refine j_astore_n (pc := 4) C dX16_both_4 rfl (Nat.le_of_ble_eq_true rfl) rfl ?_
    have L5 : ∀ (x0 : Nat) (n5 : Nat) (x1 : Nat) (S : SH) (I : II), sh.1 ≤ S.1 → S.1 ≤ Z.2.1.1 → f_X16_both_L5 F c_X16_relation x0 n5 x1 S I = some Z → J G p l e (rmA Rf Rl (Z.2.1.1 - sh.1)) s m args below meth c 2 (ocr G Z.1) Z.2 ((rmA Rf Rl (Z.2.1.1 - sh.1))).cells ((rmA Rf Rl (Z.2.1.1 - sh.1))).slots (S, I) ((S).1 - sh.1) (200 * ((S).1 - sh.1)) 5 [some (.ref (wad G x0)), some (.ref (wad G x1))] [] := by
      intro x0 n5
      induction n5 with
      | zero => intro x1 S I hm hz hk; rw [f_X16_both_L5] at hk; cases hk
      | succ n5 ih5 =>
        intro x1 S I hm hz hk
        rw [f_X16_both_L5] at hk
        generalize f_X16_both_L5 F c_X16_relation x0 n5 = k5 at ih5 hk
        refine j_aload_n (pc := 5) C dX16_both_5 rfl rfl ?_
        refine x_ldcS (pc := 6) 4 C rfl dX16_both_6 ?_
        replace hk := ost_some hk
        obtain ⟨h6, hk⟩ := hk
        replace hk := ock_some hk
        obtain ⟨h7, hk⟩ := hk
        replace hk := ob_some hk
        obtain ⟨r8, h8, hk⟩ := hk
        refine x_callV (pc := 8) C (ct_X16_isOne h6 h8) mv_X16_isOne h7 rfl rfl q961 dX16_both_8 rfl rfl (Nat.le_of_ble_eq_true rfl) (rmOK.i hr_X16_isOne.1 hr_X16_isOne.2 (rz1 hm hz) (rz2 hm hz)) ?_
        refine j_if_eq (pc := 11) 42 C dX16_both_11 (by decide) (fun h9 => ?_) (fun h9 => ?_)
        · replace hk := it_t h9 hk
          refine j_aload_n (pc := 42) C dX16_both_42 rfl rfl ?_
          obtain rfl := Option.some.inj hk
          exact x_aret (pc := 43) C dX16_both_43 (Nat.le_refl _) (Nat.le_refl _) rfl
        · replace hk := it_f h9 hk
          refine j_aload_n (pc := 14) C dX16_both_14 rfl rfl ?_
          refine j_dup (pc := 15) C dX16_both_15 rfl ?_
          refine x_getI (pc := 16) C fd_17_3 (fl1 C q920) h7 dX16_both_16 ?_
          refine j_iconst (pc := 19) (v := nI 1) C dX16_both_19 (by decide) ?_
          refine j_iadd (pc := 20) C dX16_both_20 ?_
          replace hk := ockw_some hk
          obtain ⟨h10, hk⟩ := hk
          refine x_putI (pc := 21) C fd_17_3 (fl1 C q920) h10 rfl rfl dX16_both_21 ?_
          replace hk := onw_some hk
          obtain ⟨h11, hk⟩ := hk
          replace hk := omn3_some hk
          obtain ⟨h12, hk⟩ := hk
          have h12 : S.1 + 1 ≤ Z.2.1.1 := h12
          refine x_new (pc := 24) (c2 := 22) C rfl (born_22) q1083 q1084 q130 h11 (ra1 hm h12) (ra2 hm h12 (by decide)) dX16_both_24 ?_
          have h13 : sh.1 ≤ S.1 + 1 := Nat.le_succ_of_le hm
          refine j_wid (k' := (newS S 22 0).1 - sh.1) (n' := 200 * ((newS S 22 0).1 - sh.1)) (rw1 hm) (rw2 hm (by decide)) ?_
          refine j_dup (pc := 27) C dX16_both_27 rfl ?_
          refine j_bipush (pc := 28) (v := nI 38) C dX16_both_28 (by decide) ?_
          refine j_aload_n (pc := 30) C dX16_both_30 rfl rfl ?_
          refine j_aload_n (pc := 31) C dX16_both_31 rfl rfl ?_
          replace hk := ock_some hk
          obtain ⟨h14, hk⟩ := hk
          replace hk := bd3_some hk
          obtain ⟨u32, S32, I32, h15, hk⟩ := hk
          replace hk := og_some hk
          obtain ⟨h16, hk⟩ := hk
          replace hk := omn3_some hk
          obtain ⟨h17, hk⟩ := hk
          have h18 : sh.1 ≤ S32.1 := Nat.le_trans h13 h16
          cases u32 with
          | inr w32 =>
            replace hk := oex_r hk
            obtain rfl := Option.some.inj hk
            exact x_callVT (pc := 32) C (hc_X16_relation h15) mv_X16_relation h14 rfl rfl q945 dX16_both_32 rfl rfl (Nat.le_of_ble_eq_true rfl) (rmOK.i hr_X16_relation.1 hr_X16_relation.2 (rm1 h13 h16 h17) (rm2 h13 h16 h17)) rfl (Nat.le_of_eq (rk1 h13 h16)) (Nat.le_of_eq (rk2 h13 h16))
          | inl a32 =>
            replace hk := oex_l hk
            refine x_callV (pc := 32) C (hc_X16_relation h15) mv_X16_relation h14 rfl rfl q945 dX16_both_32 rfl rfl (Nat.le_of_ble_eq_true rfl) (rmOK.i hr_X16_relation.1 hr_X16_relation.2 (rm1 h13 h16 h17) (rm2 h13 h16 h17)) ?_
            refine j_kn (k' := S32.1 - sh.1) (n' := 200 * (S32.1 - sh.1)) (rk1 h13 h16) (rk2 h13 h16) ?_
            refine j_stk (st' := [.ref (wad G a32), .ref (wad G x1), .int (nI 38), .ref (wad G (S).1), .ref (wad G (S).1)]) rfl ?_
            replace hk := bd2_some hk
            obtain ⟨S35, I35, h19, hk⟩ := hk
            replace hk := og_some hk
            obtain ⟨h20, hk⟩ := hk
            replace hk := omn3_some hk
            obtain ⟨h21, hk⟩ := hk
            have h22 : sh.1 ≤ S35.1 := Nat.le_trans h18 h20
            refine x_callI (pc := 35) C (ct_X22_init h19) mi_X22_init q1085 dX16_both_35 rfl rfl (Nat.le_of_ble_eq_true rfl) (rmOK.i hr_X22_init.1 hr_X22_init.2 (rm1 h18 h20 h21) (rm2 h18 h20 h21)) ?_
            refine j_kn (k' := S35.1 - sh.1) (n' := 200 * (S35.1 - sh.1)) (rk1 h18 h20) (rk2 h18 h20) ?_
            refine j_astore_n (pc := 38) C dX16_both_38 rfl (Nat.le_of_ble_eq_true rfl) rfl ?_
            refine j_goto (pc := 39) 5 C dX16_both_39 (by decide) ?_
            exact j_mask [true, true] (ih5 _ _ _ h22 h21 hk)
    exact j_mask [true, true] (L5 _ _ _ _ _ h5 h4 hk)
def f_X16_either_L5 (F : Nat) (c_X16_both : SH → Nat → II → Option ((Nat ⊕ Nat) × SH × II)) (x0 : Nat) : Nat → Nat → SH → II → Option ((Nat ⊕ Nat) × SH × II)
  | 0, _, _, _ => none
  | n5 + 1, x1, S, I => ost S <| ock S x0 17 <| (f_X16_isOne F S x0 (exA + 3) I).bind fun r8 => if r8 = 0 then some ((.inl x1), S, I) else ockw S x0 17 <| onw S <| omn3 (newS S 22 0) <| ock (newS S 22 0) x0 17 <| bd3 (c_X16_both (newS S 22 0) x0 (newI S (up2 I x0 3 ((I x0 3) + (nI 1))))) fun u32 S32 I32 => og (S.1 + 1 ≤ S32.1) <| omn3 S32 <| oex u32 (fun a32 => bd2 (f_X22_init S32 ((S).1) (nI 124) x1 a32 I32) fun S35 I35 => og (S32.1 ≤ S35.1) <| omn3 S35 <| (f_X16_either_L5 F c_X16_both x0 n5) ((S).1) S35 I35) (fun w32 => some (.inr w32, S32, I32))
def fb_X16_either (F : Nat) (c_X16_both : SH → Nat → II → Option ((Nat ⊕ Nat) × SH × II)) (sh : SH) (x0 : Nat) (I : II) : Option ((Nat ⊕ Nat) × SH × II) := omn3 sh <| ock sh x0 17 <| bd3 (c_X16_both sh x0 I) fun u1 S1 I1 => og (sh.1 ≤ S1.1) <| omn3 S1 <| oex u1 (fun a1 => f_X16_either_L5 F c_X16_both x0 F a1 S1 I1) (fun w1 => some (.inr w1, S1, I1))
set_option maxHeartbeats 4000000 in
theorem ctb_X16_either {G : WG} {l : Launch} {sh : SH} {Rf Rl : Nat} {F : Nat} {fc_X16_both lc_X16_both : Nat} {c_X16_both : SH → Nat → II → Option ((Nat ⊕ Nat) × SH × II)} (hc_X16_both : ∀ {sh : SH} {x0 : Nat} {I : II} {Z : ((Nat ⊕ Nat) × SH × II)}, c_X16_both sh x0 I = some Z → CT G l yX16_both (ws_ yX16_both cX16_both 2 (some (.object "NineDemands$Term"))) (rmA fc_X16_both lc_X16_both (Z.2.1.1 - sh.1)) [.ref (wad G x0)] (sh, I) (ocr G Z.1) Z.2) (hr_X16_both : fc_X16_both + 1 ≤ Rf ∧ 8 + (2 + 11) + lc_X16_both ≤ Rl) (hr_X16_isOne : 4 + 1 ≤ Rf ∧ 8 + (2 + 11) + 106 ≤ Rl) (hr_X22_init : 2 + 1 ≤ Rf ∧ 8 + (4 + 11) + 50 ≤ Rl) {x0 : Nat} {I : II} {Z : ((Nat ⊕ Nat) × SH × II)} (hk : fb_X16_either F c_X16_both sh x0 I = some Z) : CT G l yX16_either (ws_ yX16_either cX16_either 2 (some (.object "NineDemands$Term"))) (rmA Rf Rl (Z.2.1.1 - sh.1)) [.ref (wad G x0)] (sh, I) (ocr G Z.1) Z.2 := by
  refine CT.ofJ "NineDemands$Reader" rfl (by decide) (Nat.le_of_ble_eq_true rfl) ?_
  intro p e s m args below meth c C
  unfold fb_X16_either at hk
  refine j_lv (lv' := [some (.ref (wad G x0)), none]) rfl ?_
  replace hk := omn3_some hk
  obtain ⟨hz0, hk⟩ := hk
  have hm0 : sh.1 ≤ sh.1 := Nat.le_refl _
  refine j_kn (k' := sh.1 - sh.1) (n' := 200 * (sh.1 - sh.1)) (Nat.sub_self _).symm (rb2 _) ?_
  refine j_aload_n (pc := 0) C dX16_either_0 rfl rfl ?_
  replace hk := ock_some hk
  obtain ⟨h1, hk⟩ := hk
  replace hk := bd3_some hk
  obtain ⟨u1, S1, I1, h2, hk⟩ := hk
  replace hk := og_some hk
  obtain ⟨h3, hk⟩ := hk
  replace hk := omn3_some hk
  obtain ⟨h4, hk⟩ := hk
  have h5 : sh.1 ≤ S1.1 := Nat.le_trans hm0 h3
  cases u1 with
  | inr w1 =>
    replace hk := oex_r hk
    obtain rfl := Option.some.inj hk
    exact x_callVT (pc := 1) C (hc_X16_both h2) mv_X16_both h1 rfl rfl q941 dX16_either_1 rfl rfl (Nat.le_of_ble_eq_true rfl) (rmOK.i hr_X16_both.1 hr_X16_both.2 (rm1 hm0 h3 h4) (rm2 hm0 h3 h4)) rfl (Nat.le_of_eq (rk1 hm0 h3)) (Nat.le_of_eq (rk2 hm0 h3))
  | inl a1 =>
    replace hk := oex_l hk
    refine x_callV (pc := 1) C (hc_X16_both h2) mv_X16_both h1 rfl rfl q941 dX16_either_1 rfl rfl (Nat.le_of_ble_eq_true rfl) (rmOK.i hr_X16_both.1 hr_X16_both.2 (rm1 hm0 h3 h4) (rm2 hm0 h3 h4)) ?_
    refine j_kn (k' := S1.1 - sh.1) (n' := 200 * (S1.1 - sh.1)) (rk1 hm0 h3) (rk2 hm0 h3) ?_
    refine j_astore_n (pc := 4) C dX16_either_4 rfl (Nat.le_of_ble_eq_true rfl) rfl ?_
    have L5 : ∀ (x0 : Nat) (n5 : Nat) (x1 : Nat) (S : SH) (I : II), sh.1 ≤ S.1 → S.1 ≤ Z.2.1.1 → f_X16_either_L5 F c_X16_both x0 n5 x1 S I = some Z → J G p l e (rmA Rf Rl (Z.2.1.1 - sh.1)) s m args below meth c 2 (ocr G Z.1) Z.2 ((rmA Rf Rl (Z.2.1.1 - sh.1))).cells ((rmA Rf Rl (Z.2.1.1 - sh.1))).slots (S, I) ((S).1 - sh.1) (200 * ((S).1 - sh.1)) 5 [some (.ref (wad G x0)), some (.ref (wad G x1))] [] := by
      intro x0 n5
      induction n5 with
      | zero => intro x1 S I hm hz hk; rw [f_X16_either_L5] at hk; cases hk
      | succ n5 ih5 =>
        intro x1 S I hm hz hk
        rw [f_X16_either_L5] at hk
        generalize f_X16_either_L5 F c_X16_both x0 n5 = k5 at ih5 hk
        refine j_aload_n (pc := 5) C dX16_either_5 rfl rfl ?_
        refine x_ldcS (pc := 6) 3 C rfl dX16_either_6 ?_
        replace hk := ost_some hk
        obtain ⟨h6, hk⟩ := hk
        replace hk := ock_some hk
        obtain ⟨h7, hk⟩ := hk
        replace hk := ob_some hk
        obtain ⟨r8, h8, hk⟩ := hk
        refine x_callV (pc := 8) C (ct_X16_isOne h6 h8) mv_X16_isOne h7 rfl rfl q961 dX16_either_8 rfl rfl (Nat.le_of_ble_eq_true rfl) (rmOK.i hr_X16_isOne.1 hr_X16_isOne.2 (rz1 hm hz) (rz2 hm hz)) ?_
        refine j_if_eq (pc := 11) 42 C dX16_either_11 (by decide) (fun h9 => ?_) (fun h9 => ?_)
        · replace hk := it_t h9 hk
          refine j_aload_n (pc := 42) C dX16_either_42 rfl rfl ?_
          obtain rfl := Option.some.inj hk
          exact x_aret (pc := 43) C dX16_either_43 (Nat.le_refl _) (Nat.le_refl _) rfl
        · replace hk := it_f h9 hk
          refine j_aload_n (pc := 14) C dX16_either_14 rfl rfl ?_
          refine j_dup (pc := 15) C dX16_either_15 rfl ?_
          refine x_getI (pc := 16) C fd_17_3 (fl1 C q920) h7 dX16_either_16 ?_
          refine j_iconst (pc := 19) (v := nI 1) C dX16_either_19 (by decide) ?_
          refine j_iadd (pc := 20) C dX16_either_20 ?_
          replace hk := ockw_some hk
          obtain ⟨h10, hk⟩ := hk
          refine x_putI (pc := 21) C fd_17_3 (fl1 C q920) h10 rfl rfl dX16_either_21 ?_
          replace hk := onw_some hk
          obtain ⟨h11, hk⟩ := hk
          replace hk := omn3_some hk
          obtain ⟨h12, hk⟩ := hk
          have h12 : S.1 + 1 ≤ Z.2.1.1 := h12
          refine x_new (pc := 24) (c2 := 22) C rfl (born_22) q1083 q1084 q130 h11 (ra1 hm h12) (ra2 hm h12 (by decide)) dX16_either_24 ?_
          have h13 : sh.1 ≤ S.1 + 1 := Nat.le_succ_of_le hm
          refine j_wid (k' := (newS S 22 0).1 - sh.1) (n' := 200 * ((newS S 22 0).1 - sh.1)) (rw1 hm) (rw2 hm (by decide)) ?_
          refine j_dup (pc := 27) C dX16_either_27 rfl ?_
          refine j_bipush (pc := 28) (v := nI 124) C dX16_either_28 (by decide) ?_
          refine j_aload_n (pc := 30) C dX16_either_30 rfl rfl ?_
          refine j_aload_n (pc := 31) C dX16_either_31 rfl rfl ?_
          replace hk := ock_some hk
          obtain ⟨h14, hk⟩ := hk
          replace hk := bd3_some hk
          obtain ⟨u32, S32, I32, h15, hk⟩ := hk
          replace hk := og_some hk
          obtain ⟨h16, hk⟩ := hk
          replace hk := omn3_some hk
          obtain ⟨h17, hk⟩ := hk
          have h18 : sh.1 ≤ S32.1 := Nat.le_trans h13 h16
          cases u32 with
          | inr w32 =>
            replace hk := oex_r hk
            obtain rfl := Option.some.inj hk
            exact x_callVT (pc := 32) C (hc_X16_both h15) mv_X16_both h14 rfl rfl q941 dX16_either_32 rfl rfl (Nat.le_of_ble_eq_true rfl) (rmOK.i hr_X16_both.1 hr_X16_both.2 (rm1 h13 h16 h17) (rm2 h13 h16 h17)) rfl (Nat.le_of_eq (rk1 h13 h16)) (Nat.le_of_eq (rk2 h13 h16))
          | inl a32 =>
            replace hk := oex_l hk
            refine x_callV (pc := 32) C (hc_X16_both h15) mv_X16_both h14 rfl rfl q941 dX16_either_32 rfl rfl (Nat.le_of_ble_eq_true rfl) (rmOK.i hr_X16_both.1 hr_X16_both.2 (rm1 h13 h16 h17) (rm2 h13 h16 h17)) ?_
            refine j_kn (k' := S32.1 - sh.1) (n' := 200 * (S32.1 - sh.1)) (rk1 h13 h16) (rk2 h13 h16) ?_
            refine j_stk (st' := [.ref (wad G a32), .ref (wad G x1), .int (nI 124), .ref (wad G (S).1), .ref (wad G (S).1)]) rfl ?_
            replace hk := bd2_some hk
            obtain ⟨S35, I35, h19, hk⟩ := hk
            replace hk := og_some hk
            obtain ⟨h20, hk⟩ := hk
            replace hk := omn3_some hk
            obtain ⟨h21, hk⟩ := hk
            have h22 : sh.1 ≤ S35.1 := Nat.le_trans h18 h20
            refine x_callI (pc := 35) C (ct_X22_init h19) mi_X22_init q1085 dX16_either_35 rfl rfl (Nat.le_of_ble_eq_true rfl) (rmOK.i hr_X22_init.1 hr_X22_init.2 (rm1 h18 h20 h21) (rm2 h18 h20 h21)) ?_
            refine j_kn (k' := S35.1 - sh.1) (n' := 200 * (S35.1 - sh.1)) (rk1 h18 h20) (rk2 h18 h20) ?_
            refine j_astore_n (pc := 38) C dX16_either_38 rfl (Nat.le_of_ble_eq_true rfl) rfl ?_
            refine j_goto (pc := 39) 5 C dX16_either_39 (by decide) ?_
            exact j_mask [true, true] (ih5 _ _ _ h22 h21 hk)
    exact j_mask [true, true] (L5 _ _ _ _ _ h5 h4 hk)
def f_X16_product_L5 (F : Nat) (c_X16_single : SH → Nat → II → Option ((Nat ⊕ Nat) × SH × II)) (x0 : Nat) : Nat → Nat → SH → II → Option ((Nat ⊕ Nat) × SH × II)
  | 0, _, _, _ => none
  | n5 + 1, x1, S, I => ost S <| ock S x0 17 <| (f_X16_isOne F S x0 (exA + 7) I).bind fun r8 => if r8 = 0 then some ((.inl x1), S, I) else (f_X16_look S x0 I).bind fun r15 => ockw S x0 17 <| onw S <| omn3 (newS S 22 0) <| ock (newS S 22 0) x0 17 <| bd3 (c_X16_single (newS S 22 0) x0 (newI S (up2 I x0 3 ((I x0 3) + (nI 1))))) fun u36 S36 I36 => og (S.1 + 1 ≤ S36.1) <| omn3 S36 <| oex u36 (fun a36 => bd2 (f_X22_init S36 ((S).1) r15 x1 a36 I36) fun S39 I39 => og (S36.1 ≤ S39.1) <| omn3 S39 <| (f_X16_product_L5 F c_X16_single x0 n5) ((S).1) S39 I39) (fun w36 => some (.inr w36, S36, I36))
def fb_X16_product (F : Nat) (c_X16_single : SH → Nat → II → Option ((Nat ⊕ Nat) × SH × II)) (sh : SH) (x0 : Nat) (I : II) : Option ((Nat ⊕ Nat) × SH × II) := omn3 sh <| ock sh x0 17 <| bd3 (c_X16_single sh x0 I) fun u1 S1 I1 => og (sh.1 ≤ S1.1) <| omn3 S1 <| oex u1 (fun a1 => f_X16_product_L5 F c_X16_single x0 F a1 S1 I1) (fun w1 => some (.inr w1, S1, I1))
set_option maxHeartbeats 4000000 in
theorem ctb_X16_product {G : WG} {l : Launch} {sh : SH} {Rf Rl : Nat} {F : Nat} {fc_X16_single lc_X16_single : Nat} {c_X16_single : SH → Nat → II → Option ((Nat ⊕ Nat) × SH × II)} (hc_X16_single : ∀ {sh : SH} {x0 : Nat} {I : II} {Z : ((Nat ⊕ Nat) × SH × II)}, c_X16_single sh x0 I = some Z → CT G l yX16_single (ws_ yX16_single cX16_single 3 (some (.object "NineDemands$Term"))) (rmA fc_X16_single lc_X16_single (Z.2.1.1 - sh.1)) [.ref (wad G x0)] (sh, I) (ocr G Z.1) Z.2) (hr_X16_single : fc_X16_single + 1 ≤ Rf ∧ 8 + (3 + 11) + lc_X16_single ≤ Rl) (hr_X16_isOne : 4 + 1 ≤ Rf ∧ 8 + (2 + 11) + 106 ≤ Rl) (hr_X16_look : 0 + 1 ≤ Rf ∧ 8 + (1 + 11) + 0 ≤ Rl) (hr_X22_init : 2 + 1 ≤ Rf ∧ 8 + (4 + 11) + 50 ≤ Rl) {x0 : Nat} {I : II} {Z : ((Nat ⊕ Nat) × SH × II)} (hk : fb_X16_product F c_X16_single sh x0 I = some Z) : CT G l yX16_product (ws_ yX16_product cX16_product 3 (some (.object "NineDemands$Term"))) (rmA Rf Rl (Z.2.1.1 - sh.1)) [.ref (wad G x0)] (sh, I) (ocr G Z.1) Z.2 := by
  refine CT.ofJ "NineDemands$Reader" rfl (by decide) (Nat.le_of_ble_eq_true rfl) ?_
  intro p e s m args below meth c C
  unfold fb_X16_product at hk
  refine j_lv (lv' := [some (.ref (wad G x0)), none, none]) rfl ?_
  replace hk := omn3_some hk
  obtain ⟨hz0, hk⟩ := hk
  have hm0 : sh.1 ≤ sh.1 := Nat.le_refl _
  refine j_kn (k' := sh.1 - sh.1) (n' := 200 * (sh.1 - sh.1)) (Nat.sub_self _).symm (rb2 _) ?_
  refine j_aload_n (pc := 0) C dX16_product_0 rfl rfl ?_
  replace hk := ock_some hk
  obtain ⟨h1, hk⟩ := hk
  replace hk := bd3_some hk
  obtain ⟨u1, S1, I1, h2, hk⟩ := hk
  replace hk := og_some hk
  obtain ⟨h3, hk⟩ := hk
  replace hk := omn3_some hk
  obtain ⟨h4, hk⟩ := hk
  have h5 : sh.1 ≤ S1.1 := Nat.le_trans hm0 h3
  cases u1 with
  | inr w1 =>
    replace hk := oex_r hk
    obtain rfl := Option.some.inj hk
    exact x_callVT (pc := 1) C (hc_X16_single h2) mv_X16_single h1 rfl rfl q957 dX16_product_1 rfl rfl (Nat.le_of_ble_eq_true rfl) (rmOK.i hr_X16_single.1 hr_X16_single.2 (rm1 hm0 h3 h4) (rm2 hm0 h3 h4)) rfl (Nat.le_of_eq (rk1 hm0 h3)) (Nat.le_of_eq (rk2 hm0 h3))
  | inl a1 =>
    replace hk := oex_l hk
    refine x_callV (pc := 1) C (hc_X16_single h2) mv_X16_single h1 rfl rfl q957 dX16_product_1 rfl rfl (Nat.le_of_ble_eq_true rfl) (rmOK.i hr_X16_single.1 hr_X16_single.2 (rm1 hm0 h3 h4) (rm2 hm0 h3 h4)) ?_
    refine j_kn (k' := S1.1 - sh.1) (n' := 200 * (S1.1 - sh.1)) (rk1 hm0 h3) (rk2 hm0 h3) ?_
    refine j_astore_n (pc := 4) C dX16_product_4 rfl (Nat.le_of_ble_eq_true rfl) rfl ?_
    have L5 : ∀ (x0 : Nat) (n5 : Nat) (x1 : Nat) (S : SH) (I : II), sh.1 ≤ S.1 → S.1 ≤ Z.2.1.1 → f_X16_product_L5 F c_X16_single x0 n5 x1 S I = some Z → J G p l e (rmA Rf Rl (Z.2.1.1 - sh.1)) s m args below meth c 3 (ocr G Z.1) Z.2 ((rmA Rf Rl (Z.2.1.1 - sh.1))).cells ((rmA Rf Rl (Z.2.1.1 - sh.1))).slots (S, I) ((S).1 - sh.1) (200 * ((S).1 - sh.1)) 5 [some (.ref (wad G x0)), some (.ref (wad G x1)), none] [] := by
      intro x0 n5
      induction n5 with
      | zero => intro x1 S I hm hz hk; rw [f_X16_product_L5] at hk; cases hk
      | succ n5 ih5 =>
        intro x1 S I hm hz hk
        rw [f_X16_product_L5] at hk
        generalize f_X16_product_L5 F c_X16_single x0 n5 = k5 at ih5 hk
        refine j_aload_n (pc := 5) C dX16_product_5 rfl rfl ?_
        refine x_ldcS (pc := 6) 7 C rfl dX16_product_6 ?_
        replace hk := ost_some hk
        obtain ⟨h6, hk⟩ := hk
        replace hk := ock_some hk
        obtain ⟨h7, hk⟩ := hk
        replace hk := ob_some hk
        obtain ⟨r8, h8, hk⟩ := hk
        refine x_callV (pc := 8) C (ct_X16_isOne h6 h8) mv_X16_isOne h7 rfl rfl q961 dX16_product_8 rfl rfl (Nat.le_of_ble_eq_true rfl) (rmOK.i hr_X16_isOne.1 hr_X16_isOne.2 (rz1 hm hz) (rz2 hm hz)) ?_
        refine j_if_eq (pc := 11) 46 C dX16_product_11 (by decide) (fun h9 => ?_) (fun h9 => ?_)
        · replace hk := it_t h9 hk
          refine j_aload_n (pc := 46) C dX16_product_46 rfl rfl ?_
          obtain rfl := Option.some.inj hk
          exact x_aret (pc := 47) C dX16_product_47 (Nat.le_refl _) (Nat.le_refl _) rfl
        · replace hk := it_f h9 hk
          refine j_aload_n (pc := 14) C dX16_product_14 rfl rfl ?_
          replace hk := ob_some hk
          obtain ⟨r15, h10, hk⟩ := hk
          refine x_callV (pc := 15) C (ct_X16_look h6 h10) mv_X16_look h7 rfl rfl q965 dX16_product_15 rfl rfl (Nat.le_of_ble_eq_true rfl) (rmOK.i hr_X16_look.1 hr_X16_look.2 (rz1 hm hz) (rz2 hm hz)) ?_
          refine j_istore_n (pc := 18) C dX16_product_18 rfl (Nat.le_of_ble_eq_true rfl) rfl ?_
          refine j_aload_n (pc := 19) C dX16_product_19 rfl rfl ?_
          refine j_dup (pc := 20) C dX16_product_20 rfl ?_
          refine x_getI (pc := 21) C fd_17_3 (fl1 C q920) h7 dX16_product_21 ?_
          refine j_iconst (pc := 24) (v := nI 1) C dX16_product_24 (by decide) ?_
          refine j_iadd (pc := 25) C dX16_product_25 ?_
          replace hk := ockw_some hk
          obtain ⟨h11, hk⟩ := hk
          refine x_putI (pc := 26) C fd_17_3 (fl1 C q920) h11 rfl rfl dX16_product_26 ?_
          replace hk := onw_some hk
          obtain ⟨h12, hk⟩ := hk
          replace hk := omn3_some hk
          obtain ⟨h13, hk⟩ := hk
          have h13 : S.1 + 1 ≤ Z.2.1.1 := h13
          refine x_new (pc := 29) (c2 := 22) C rfl (born_22) q1083 q1084 q130 h12 (ra1 hm h13) (ra2 hm h13 (by decide)) dX16_product_29 ?_
          have h14 : sh.1 ≤ S.1 + 1 := Nat.le_succ_of_le hm
          refine j_wid (k' := (newS S 22 0).1 - sh.1) (n' := 200 * ((newS S 22 0).1 - sh.1)) (rw1 hm) (rw2 hm (by decide)) ?_
          refine j_dup (pc := 32) C dX16_product_32 rfl ?_
          refine j_iload_n (pc := 33) C dX16_product_33 rfl rfl ?_
          refine j_aload_n (pc := 34) C dX16_product_34 rfl rfl ?_
          refine j_aload_n (pc := 35) C dX16_product_35 rfl rfl ?_
          replace hk := ock_some hk
          obtain ⟨h15, hk⟩ := hk
          replace hk := bd3_some hk
          obtain ⟨u36, S36, I36, h16, hk⟩ := hk
          replace hk := og_some hk
          obtain ⟨h17, hk⟩ := hk
          replace hk := omn3_some hk
          obtain ⟨h18, hk⟩ := hk
          have h19 : sh.1 ≤ S36.1 := Nat.le_trans h14 h17
          cases u36 with
          | inr w36 =>
            replace hk := oex_r hk
            obtain rfl := Option.some.inj hk
            exact x_callVT (pc := 36) C (hc_X16_single h16) mv_X16_single h15 rfl rfl q957 dX16_product_36 rfl rfl (Nat.le_of_ble_eq_true rfl) (rmOK.i hr_X16_single.1 hr_X16_single.2 (rm1 h14 h17 h18) (rm2 h14 h17 h18)) rfl (Nat.le_of_eq (rk1 h14 h17)) (Nat.le_of_eq (rk2 h14 h17))
          | inl a36 =>
            replace hk := oex_l hk
            refine x_callV (pc := 36) C (hc_X16_single h16) mv_X16_single h15 rfl rfl q957 dX16_product_36 rfl rfl (Nat.le_of_ble_eq_true rfl) (rmOK.i hr_X16_single.1 hr_X16_single.2 (rm1 h14 h17 h18) (rm2 h14 h17 h18)) ?_
            refine j_kn (k' := S36.1 - sh.1) (n' := 200 * (S36.1 - sh.1)) (rk1 h14 h17) (rk2 h14 h17) ?_
            refine j_stk (st' := [.ref (wad G a36), .ref (wad G x1), .int r15, .ref (wad G (S).1), .ref (wad G (S).1)]) rfl ?_
            replace hk := bd2_some hk
            obtain ⟨S39, I39, h20, hk⟩ := hk
            replace hk := og_some hk
            obtain ⟨h21, hk⟩ := hk
            replace hk := omn3_some hk
            obtain ⟨h22, hk⟩ := hk
            have h23 : sh.1 ≤ S39.1 := Nat.le_trans h19 h21
            refine x_callI (pc := 39) C (ct_X22_init h20) mi_X22_init q1085 dX16_product_39 rfl rfl (Nat.le_of_ble_eq_true rfl) (rmOK.i hr_X22_init.1 hr_X22_init.2 (rm1 h19 h21 h22) (rm2 h19 h21 h22)) ?_
            refine j_kn (k' := S39.1 - sh.1) (n' := 200 * (S39.1 - sh.1)) (rk1 h19 h21) (rk2 h19 h21) ?_
            refine j_astore_n (pc := 42) C dX16_product_42 rfl (Nat.le_of_ble_eq_true rfl) rfl ?_
            refine j_goto (pc := 43) 5 C dX16_product_43 (by decide) ?_
            exact j_mask [true, true, false] (ih5 _ _ _ h23 h22 hk)
    exact j_mask [true, true, false] (L5 _ _ _ _ _ h5 h4 hk)
def fb_X16_relation (F : Nat) (c_X16_sum : SH → Nat → II → Option ((Nat ⊕ Nat) × SH × II)) (sh : SH) (x0 : Nat) (I : II) : Option ((Nat ⊕ Nat) × SH × II) := omn3 sh <| ock sh x0 17 <| bd3 (c_X16_sum sh x0 I) fun u1 S1 I1 => og (sh.1 ≤ S1.1) <| omn3 S1 <| oex u1 (fun a1 => ost S1 <| ock S1 x0 17 <| (f_X16_isOne F S1 x0 (exA + 5) I1).bind fun r8 => if r8 = 0 then some ((.inl a1), S1, I1) else (f_X16_look S1 x0 I1).bind fun r17 => ockw S1 x0 17 <| onw S1 <| omn3 (newS S1 22 0) <| ock (newS S1 22 0) x0 17 <| bd3 (c_X16_sum (newS S1 22 0) x0 (newI S1 (up2 I1 x0 3 ((I1 x0 3) + (nI 1))))) fun u38 S38 I38 => og (S1.1 + 1 ≤ S38.1) <| omn3 S38 <| oex u38 (fun a38 => bd2 (f_X22_init S38 ((S1).1) r17 a1 a38 I38) fun S41 I41 => og (S38.1 ≤ S41.1) <| omn3 S41 <| some ((.inl ((S1).1)), S41, I41)) (fun w38 => some (.inr w38, S38, I38))) (fun w1 => some (.inr w1, S1, I1))
set_option maxHeartbeats 4000000 in
theorem ctb_X16_relation {G : WG} {l : Launch} {sh : SH} {Rf Rl : Nat} {F : Nat} {fc_X16_sum lc_X16_sum : Nat} {c_X16_sum : SH → Nat → II → Option ((Nat ⊕ Nat) × SH × II)} (hc_X16_sum : ∀ {sh : SH} {x0 : Nat} {I : II} {Z : ((Nat ⊕ Nat) × SH × II)}, c_X16_sum sh x0 I = some Z → CT G l yX16_sum (ws_ yX16_sum cX16_sum 3 (some (.object "NineDemands$Term"))) (rmA fc_X16_sum lc_X16_sum (Z.2.1.1 - sh.1)) [.ref (wad G x0)] (sh, I) (ocr G Z.1) Z.2) (hr_X16_sum : fc_X16_sum + 1 ≤ Rf ∧ 8 + (3 + 11) + lc_X16_sum ≤ Rl) (hr_X16_isOne : 4 + 1 ≤ Rf ∧ 8 + (2 + 11) + 106 ≤ Rl) (hr_X16_look : 0 + 1 ≤ Rf ∧ 8 + (1 + 11) + 0 ≤ Rl) (hr_X22_init : 2 + 1 ≤ Rf ∧ 8 + (4 + 11) + 50 ≤ Rl) {x0 : Nat} {I : II} {Z : ((Nat ⊕ Nat) × SH × II)} (hk : fb_X16_relation F c_X16_sum sh x0 I = some Z) : CT G l yX16_relation (ws_ yX16_relation cX16_relation 3 (some (.object "NineDemands$Term"))) (rmA Rf Rl (Z.2.1.1 - sh.1)) [.ref (wad G x0)] (sh, I) (ocr G Z.1) Z.2 := by
  refine CT.ofJ "NineDemands$Reader" rfl (by decide) (Nat.le_of_ble_eq_true rfl) ?_
  intro p e s m args below meth c C
  unfold fb_X16_relation at hk
  refine j_lv (lv' := [some (.ref (wad G x0)), none, none]) rfl ?_
  replace hk := omn3_some hk
  obtain ⟨hz0, hk⟩ := hk
  have hm0 : sh.1 ≤ sh.1 := Nat.le_refl _
  refine j_kn (k' := sh.1 - sh.1) (n' := 200 * (sh.1 - sh.1)) (Nat.sub_self _).symm (rb2 _) ?_
  refine j_aload_n (pc := 0) C dX16_relation_0 rfl rfl ?_
  replace hk := ock_some hk
  obtain ⟨h1, hk⟩ := hk
  replace hk := bd3_some hk
  obtain ⟨u1, S1, I1, h2, hk⟩ := hk
  replace hk := og_some hk
  obtain ⟨h3, hk⟩ := hk
  replace hk := omn3_some hk
  obtain ⟨h4, hk⟩ := hk
  have h5 : sh.1 ≤ S1.1 := Nat.le_trans hm0 h3
  cases u1 with
  | inr w1 =>
    replace hk := oex_r hk
    obtain rfl := Option.some.inj hk
    exact x_callVT (pc := 1) C (hc_X16_sum h2) mv_X16_sum h1 rfl rfl q949 dX16_relation_1 rfl rfl (Nat.le_of_ble_eq_true rfl) (rmOK.i hr_X16_sum.1 hr_X16_sum.2 (rm1 hm0 h3 h4) (rm2 hm0 h3 h4)) rfl (Nat.le_of_eq (rk1 hm0 h3)) (Nat.le_of_eq (rk2 hm0 h3))
  | inl a1 =>
    replace hk := oex_l hk
    refine x_callV (pc := 1) C (hc_X16_sum h2) mv_X16_sum h1 rfl rfl q949 dX16_relation_1 rfl rfl (Nat.le_of_ble_eq_true rfl) (rmOK.i hr_X16_sum.1 hr_X16_sum.2 (rm1 hm0 h3 h4) (rm2 hm0 h3 h4)) ?_
    refine j_kn (k' := S1.1 - sh.1) (n' := 200 * (S1.1 - sh.1)) (rk1 hm0 h3) (rk2 hm0 h3) ?_
    refine j_astore_n (pc := 4) C dX16_relation_4 rfl (Nat.le_of_ble_eq_true rfl) rfl ?_
    refine j_aload_n (pc := 5) C dX16_relation_5 rfl rfl ?_
    refine x_ldcS (pc := 6) 5 C rfl dX16_relation_6 ?_
    replace hk := ost_some hk
    obtain ⟨h6, hk⟩ := hk
    replace hk := ock_some hk
    obtain ⟨h7, hk⟩ := hk
    replace hk := ob_some hk
    obtain ⟨r8, h8, hk⟩ := hk
    refine x_callV (pc := 8) C (ct_X16_isOne h6 h8) mv_X16_isOne h7 rfl rfl q961 dX16_relation_8 rfl rfl (Nat.le_of_ble_eq_true rfl) (rmOK.i hr_X16_isOne.1 hr_X16_isOne.2 (rz1 h5 h4) (rz2 h5 h4)) ?_
    refine j_if_ne (pc := 11) 16 C dX16_relation_11 (by decide) (fun h9 => ?_) (fun h9 => ?_)
    · replace hk := it_f h9 hk
      refine j_aload_n (pc := 16) C dX16_relation_16 rfl rfl ?_
      replace hk := ob_some hk
      obtain ⟨r17, h10, hk⟩ := hk
      refine x_callV (pc := 17) C (ct_X16_look h6 h10) mv_X16_look h7 rfl rfl q965 dX16_relation_17 rfl rfl (Nat.le_of_ble_eq_true rfl) (rmOK.i hr_X16_look.1 hr_X16_look.2 (rz1 h5 h4) (rz2 h5 h4)) ?_
      refine j_istore_n (pc := 20) C dX16_relation_20 rfl (Nat.le_of_ble_eq_true rfl) rfl ?_
      refine j_aload_n (pc := 21) C dX16_relation_21 rfl rfl ?_
      refine j_dup (pc := 22) C dX16_relation_22 rfl ?_
      refine x_getI (pc := 23) C fd_17_3 (fl1 C q920) h7 dX16_relation_23 ?_
      refine j_iconst (pc := 26) (v := nI 1) C dX16_relation_26 (by decide) ?_
      refine j_iadd (pc := 27) C dX16_relation_27 ?_
      replace hk := ockw_some hk
      obtain ⟨h11, hk⟩ := hk
      refine x_putI (pc := 28) C fd_17_3 (fl1 C q920) h11 rfl rfl dX16_relation_28 ?_
      replace hk := onw_some hk
      obtain ⟨h12, hk⟩ := hk
      replace hk := omn3_some hk
      obtain ⟨h13, hk⟩ := hk
      have h13 : S1.1 + 1 ≤ Z.2.1.1 := h13
      refine x_new (pc := 31) (c2 := 22) C rfl (born_22) q1083 q1084 q130 h12 (ra1 h5 h13) (ra2 h5 h13 (by decide)) dX16_relation_31 ?_
      have h14 : sh.1 ≤ S1.1 + 1 := Nat.le_succ_of_le h5
      refine j_wid (k' := (newS S1 22 0).1 - sh.1) (n' := 200 * ((newS S1 22 0).1 - sh.1)) (rw1 h5) (rw2 h5 (by decide)) ?_
      refine j_dup (pc := 34) C dX16_relation_34 rfl ?_
      refine j_iload_n (pc := 35) C dX16_relation_35 rfl rfl ?_
      refine j_aload_n (pc := 36) C dX16_relation_36 rfl rfl ?_
      refine j_aload_n (pc := 37) C dX16_relation_37 rfl rfl ?_
      replace hk := ock_some hk
      obtain ⟨h15, hk⟩ := hk
      replace hk := bd3_some hk
      obtain ⟨u38, S38, I38, h16, hk⟩ := hk
      replace hk := og_some hk
      obtain ⟨h17, hk⟩ := hk
      replace hk := omn3_some hk
      obtain ⟨h18, hk⟩ := hk
      have h19 : sh.1 ≤ S38.1 := Nat.le_trans h14 h17
      cases u38 with
      | inr w38 =>
        replace hk := oex_r hk
        obtain rfl := Option.some.inj hk
        exact x_callVT (pc := 38) C (hc_X16_sum h16) mv_X16_sum h15 rfl rfl q949 dX16_relation_38 rfl rfl (Nat.le_of_ble_eq_true rfl) (rmOK.i hr_X16_sum.1 hr_X16_sum.2 (rm1 h14 h17 h18) (rm2 h14 h17 h18)) rfl (Nat.le_of_eq (rk1 h14 h17)) (Nat.le_of_eq (rk2 h14 h17))
      | inl a38 =>
        replace hk := oex_l hk
        refine x_callV (pc := 38) C (hc_X16_sum h16) mv_X16_sum h15 rfl rfl q949 dX16_relation_38 rfl rfl (Nat.le_of_ble_eq_true rfl) (rmOK.i hr_X16_sum.1 hr_X16_sum.2 (rm1 h14 h17 h18) (rm2 h14 h17 h18)) ?_
        refine j_kn (k' := S38.1 - sh.1) (n' := 200 * (S38.1 - sh.1)) (rk1 h14 h17) (rk2 h14 h17) ?_
        refine j_stk (st' := [.ref (wad G a38), .ref (wad G a1), .int r17, .ref (wad G (S1).1), .ref (wad G (S1).1)]) rfl ?_
        replace hk := bd2_some hk
        obtain ⟨S41, I41, h20, hk⟩ := hk
        replace hk := og_some hk
        obtain ⟨h21, hk⟩ := hk
        replace hk := omn3_some hk
        obtain ⟨h22, hk⟩ := hk
        have h23 : sh.1 ≤ S41.1 := Nat.le_trans h19 h21
        refine x_callI (pc := 41) C (ct_X22_init h20) mi_X22_init q1085 dX16_relation_41 rfl rfl (Nat.le_of_ble_eq_true rfl) (rmOK.i hr_X22_init.1 hr_X22_init.2 (rm1 h19 h21 h22) (rm2 h19 h21 h22)) ?_
        refine j_kn (k' := S41.1 - sh.1) (n' := 200 * (S41.1 - sh.1)) (rk1 h19 h21) (rk2 h19 h21) ?_
        obtain rfl := Option.some.inj hk
        exact x_aret (pc := 44) C dX16_relation_44 (Nat.le_refl _) (Nat.le_refl _) rfl
    · replace hk := it_t h9 hk
      refine j_aload_n (pc := 14) C dX16_relation_14 rfl rfl ?_
      obtain rfl := Option.some.inj hk
      exact x_aret (pc := 15) C dX16_relation_15 (Nat.le_refl _) (Nat.le_refl _) rfl
def f_X16_single_J202 (F : Nat) (c_X16_either : SH → Nat → II → Option ((Nat ⊕ Nat) × SH × II)) (c_X16_single : SH → Nat → II → Option ((Nat ⊕ Nat) × SH × II)) (x1 : Int32) (S : SH) (I : II) : Option ((Nat ⊕ Nat) × SH × II) := onw S <| omn3 (newS S 21 0) <| (f_X21_init (newS S 21 0) ((S).1) x1 (newI S I)).bind fun I207 => some ((.inl ((S).1)), newS S 21 0, I207)
def f_X16_single_L154 (F : Nat) (c_X16_either : SH → Nat → II → Option ((Nat ⊕ Nat) × SH × II)) (c_X16_single : SH → Nat → II → Option ((Nat ⊕ Nat) × SH × II)) (x0 : Nat) : Nat → Int32 → Int32 → SH → II → Option ((Nat ⊕ Nat) × SH × II)
  | 0, _, _, _, _ => none
  | n154 + 1, x1, x2, S, I => if (nI 4) ≤ x2 then f_X16_single_J202 F c_X16_either c_X16_single x1 S I else ost S <| ock S x0 17 <| (f_X16_look S x0 I).bind fun r160 => (f_X0_in r160 (nI 48) (nI 57)).bind fun r167 => if r167 = 0 then f_X16_single_J202 F c_X16_either c_X16_single x1 S I else (f_X16_look S x0 I).bind fun r178 => ockw S x0 17 <| (f_X16_single_L154 F c_X16_either c_X16_single x0 n154) ((((nI 10) * x1) + r178) - (nI 48)) (x2 + (nI 1)) S (up2 I x0 3 ((I x0 3) + (nI 1)))
def f_X16_single_J110 (F : Nat) (c_X16_either : SH → Nat → II → Option ((Nat ⊕ Nat) × SH × II)) (c_X16_single : SH → Nat → II → Option ((Nat ⊕ Nat) × SH × II)) (x0 : Nat) (x1 : Nat) (s0 : Nat) (s1 : Int32) (S : SH) (I : II) : Option ((Nat ⊕ Nat) × SH × II) := ock S s0 17 <| bd3 (f_X16_fault S s0 s1 I) fun u110 S110 I110 => og (S.1 ≤ S110.1) <| omn3 S110 <| oex u110 (fun _w110 => ock S110 x0 17 <| ockw S110 x0 17 <| some ((.inl x1), S110, up2 (up2 I110 x0 3 ((I110 x0 3) + (nI 1))) x0 4 (((up2 I110 x0 3 ((I110 x0 3) + (nI 1))) x0 4) - (nI 1)))) (fun w110 => some (.inr w110, S110, I110))
def fb_X16_single (F : Nat) (c_X16_either : SH → Nat → II → Option ((Nat ⊕ Nat) × SH × II)) (c_X16_single : SH → Nat → II → Option ((Nat ⊕ Nat) × SH × II)) (sh : SH) (x0 : Nat) (I : II) : Option ((Nat ⊕ Nat) × SH × II) := omn3 sh <| ock sh x0 17 <| orf (sh.2.2 x0 0) fun t2 => ost sh <| (f_X16_isOne F sh x0 t2 I).bind fun r5 => if r5 = 0 then (f_X16_isOne F sh x0 (exA + 8) I).bind fun r43 => if r43 = 0 then (f_X16_isOne F sh x0 (exA + 9) I).bind fun r80 => if r80 = 0 then (f_X16_look sh x0 I).bind fun r137 => (f_X0_in r137 (nI 48) (nI 57)).bind fun r144 => bd3 (f_X16_fault sh x0 r144 I) fun u147 S147 I147 => og (sh.1 ≤ S147.1) <| omn3 S147 <| oex u147 (fun _w147 => f_X16_single_L154 F c_X16_either c_X16_single x0 F (nI 0) (nI 0) S147 I147) (fun w147 => some (.inr w147, S147, I147)) else bd3 (f_X16_opens sh x0 I) fun u87 S87 I87 => og (sh.1 ≤ S87.1) <| omn3 S87 <| oex u87 (fun _w87 => ock S87 x0 17 <| bd3 (c_X16_either S87 x0 I87) fun u91 S91 I91 => og (S87.1 ≤ S91.1) <| omn3 S91 <| oex u91 (fun a91 => ost S91 <| ock S91 x0 17 <| (f_X16_look S91 x0 I91).bind fun r97 => if r97 = (nI 41) then f_X16_single_J110 F c_X16_either c_X16_single x0 a91 x0 (nI 1) S91 I91 else f_X16_single_J110 F c_X16_either c_X16_single x0 a91 x0 (nI 0) S91 I91) (fun w91 => some (.inr w91, S91, I91))) (fun w87 => some (.inr w87, S87, I87)) else bd3 (f_X16_opens sh x0 I) fun u50 S50 I50 => og (sh.1 ≤ S50.1) <| omn3 S50 <| oex u50 (fun _w50 => ock S50 x0 17 <| bd3 (c_X16_single S50 x0 I50) fun u54 S54 I54 => og (S50.1 ≤ S54.1) <| omn3 S54 <| oex u54 (fun a54 => ock S54 x0 17 <| ockw S54 x0 17 <| onw S54 <| omn3 (newS S54 20 0) <| bd2 (f_X20_init (newS S54 20 0) ((S54).1) a54 (newI S54 (up2 I54 x0 4 ((I54 x0 4) - (nI 1))))) fun S73 I73 => og (S54.1 + 1 ≤ S73.1) <| omn3 S73 <| some ((.inl ((S54).1)), S73, I73)) (fun w54 => some (.inr w54, S54, I54))) (fun w50 => some (.inr w50, S50, I50)) else ockw sh x0 17 <| onw sh <| omn3 (newS sh 18 0) <| ock (newS sh 18 0) x0 17 <| orf ((newS sh 18 0).2.2 x0 1) fun t26 => oar (newS sh 18 0) t26 101 fun nh70 => oix (((newI sh (up2 I x0 3 ((I x0 3) + (nI 1)))) x0 3) - (nI 1)) nh70 fun i35 => (f_X18_init (newS sh 18 0) ((sh).1) ((newI sh (up2 I x0 3 ((I x0 3) + (nI 1)))) t26 i35) (newI sh (up2 I x0 3 ((I x0 3) + (nI 1))))).bind fun I36 => some ((.inl ((sh).1)), newS sh 18 0, I36)
set_option maxHeartbeats 4000000 in
theorem ctb_X16_single {G : WG} {l : Launch} {sh : SH} {Rf Rl : Nat} {F : Nat} {fc_X16_either lc_X16_either : Nat} {c_X16_either : SH → Nat → II → Option ((Nat ⊕ Nat) × SH × II)} {fc_X16_single lc_X16_single : Nat} {c_X16_single : SH → Nat → II → Option ((Nat ⊕ Nat) × SH × II)} (hc_X16_either : ∀ {sh : SH} {x0 : Nat} {I : II} {Z : ((Nat ⊕ Nat) × SH × II)}, c_X16_either sh x0 I = some Z → CT G l yX16_either (ws_ yX16_either cX16_either 2 (some (.object "NineDemands$Term"))) (rmA fc_X16_either lc_X16_either (Z.2.1.1 - sh.1)) [.ref (wad G x0)] (sh, I) (ocr G Z.1) Z.2) (hc_X16_single : ∀ {sh : SH} {x0 : Nat} {I : II} {Z : ((Nat ⊕ Nat) × SH × II)}, c_X16_single sh x0 I = some Z → CT G l yX16_single (ws_ yX16_single cX16_single 3 (some (.object "NineDemands$Term"))) (rmA fc_X16_single lc_X16_single (Z.2.1.1 - sh.1)) [.ref (wad G x0)] (sh, I) (ocr G Z.1) Z.2) (hr_X16_isOne : 4 + 1 ≤ Rf ∧ 8 + (2 + 11) + 106 ≤ Rl) (hr_X16_look : 0 + 1 ≤ Rf ∧ 8 + (1 + 11) + 0 ≤ Rl) (hr_X0_in : 0 + 1 ≤ Rf ∧ 8 + (3 + 11) + 0 ≤ Rl) (hr_X16_fault : 5 + 1 ≤ Rf ∧ 8 + (2 + 11) + 123 ≤ Rl) (hr_X21_init : 2 + 1 ≤ Rf ∧ 8 + (2 + 11) + 50 ≤ Rl) (hr_X16_opens : 6 + 1 ≤ Rf ∧ 8 + (1 + 11) + 144 ≤ Rl) (hr_X16_either : fc_X16_either + 1 ≤ Rf ∧ 8 + (2 + 11) + lc_X16_either ≤ Rl) (hr_X16_single : fc_X16_single + 1 ≤ Rf ∧ 8 + (3 + 11) + lc_X16_single ≤ Rl) (hr_X20_init : 2 + 1 ≤ Rf ∧ 8 + (2 + 11) + 50 ≤ Rl) (hr_X18_init : 2 + 1 ≤ Rf ∧ 8 + (2 + 11) + 50 ≤ Rl) {x0 : Nat} {I : II} {Z : ((Nat ⊕ Nat) × SH × II)} (hk : fb_X16_single F c_X16_either c_X16_single sh x0 I = some Z) : CT G l yX16_single (ws_ yX16_single cX16_single 3 (some (.object "NineDemands$Term"))) (rmA Rf Rl (Z.2.1.1 - sh.1)) [.ref (wad G x0)] (sh, I) (ocr G Z.1) Z.2 := by
  refine CT.ofJ "NineDemands$Reader" rfl (by decide) (Nat.le_of_ble_eq_true rfl) ?_
  intro p e s m args below meth c C
  unfold fb_X16_single at hk
  refine j_lv (lv' := [some (.ref (wad G x0)), none, none]) rfl ?_
  replace hk := omn3_some hk
  obtain ⟨hz0, hk⟩ := hk
  have hm0 : sh.1 ≤ sh.1 := Nat.le_refl _
  refine j_kn (k' := sh.1 - sh.1) (n' := 200 * (sh.1 - sh.1)) (Nat.sub_self _).symm (rb2 _) ?_
  refine j_aload_n (pc := 0) C dX16_single_0 rfl rfl ?_
  refine j_aload_n (pc := 1) C dX16_single_1 rfl rfl ?_
  replace hk := ock_some hk
  obtain ⟨h1, hk⟩ := hk
  replace hk := orf_some hk
  obtain ⟨t2, et2, hk⟩ := hk
  refine x_getR (pc := 2) C fd_17_0 (fl1 C q917) h1 et2 dX16_single_2 ?_
  replace hk := ost_some hk
  obtain ⟨h2, hk⟩ := hk
  replace hk := ob_some hk
  obtain ⟨r5, h3, hk⟩ := hk
  refine x_callV (pc := 5) C (ct_X16_isOne h2 h3) mv_X16_isOne h1 rfl rfl q961 dX16_single_5 rfl rfl (Nat.le_of_ble_eq_true rfl) (rmOK.i hr_X16_isOne.1 hr_X16_isOne.2 (rz1 hm0 hz0) (rz2 hm0 hz0)) ?_
  refine j_if_eq (pc := 8) 40 C dX16_single_8 (by decide) (fun h4 => ?_) (fun h4 => ?_)
  · replace hk := it_t h4 hk
    refine j_aload_n (pc := 40) C dX16_single_40 rfl rfl ?_
    refine x_ldcS (pc := 41) 8 C rfl dX16_single_41 ?_
    replace hk := ob_some hk
    obtain ⟨r43, h5, hk⟩ := hk
    refine x_callV (pc := 43) C (ct_X16_isOne h2 h5) mv_X16_isOne h1 rfl rfl q961 dX16_single_43 rfl rfl (Nat.le_of_ble_eq_true rfl) (rmOK.i hr_X16_isOne.1 hr_X16_isOne.2 (rz1 hm0 hz0) (rz2 hm0 hz0)) ?_
    refine j_if_eq (pc := 46) 77 C dX16_single_46 (by decide) (fun h6 => ?_) (fun h6 => ?_)
    · replace hk := it_t h6 hk
      refine j_aload_n (pc := 77) C dX16_single_77 rfl rfl ?_
      refine x_ldcS (pc := 78) 9 C rfl dX16_single_78 ?_
      replace hk := ob_some hk
      obtain ⟨r80, h7, hk⟩ := hk
      refine x_callV (pc := 80) C (ct_X16_isOne h2 h7) mv_X16_isOne h1 rfl rfl q961 dX16_single_80 rfl rfl (Nat.le_of_ble_eq_true rfl) (rmOK.i hr_X16_isOne.1 hr_X16_isOne.2 (rz1 hm0 hz0) (rz2 hm0 hz0)) ?_
      refine j_if_eq (pc := 83) 135 C dX16_single_83 (by decide) (fun h8 => ?_) (fun h8 => ?_)
      · replace hk := it_t h8 hk
        refine j_aload_n (pc := 135) C dX16_single_135 rfl rfl ?_
        refine j_aload_n (pc := 136) C dX16_single_136 rfl rfl ?_
        replace hk := ob_some hk
        obtain ⟨r137, h9, hk⟩ := hk
        refine x_callV (pc := 137) C (ct_X16_look h2 h9) mv_X16_look h1 rfl rfl q965 dX16_single_137 rfl rfl (Nat.le_of_ble_eq_true rfl) (rmOK.i hr_X16_look.1 hr_X16_look.2 (rz1 hm0 hz0) (rz2 hm0 hz0)) ?_
        refine j_bipush (pc := 140) (v := nI 48) C dX16_single_140 (by decide) ?_
        refine j_bipush (pc := 142) (v := nI 57) C dX16_single_142 (by decide) ?_
        replace hk := ob_some hk
        obtain ⟨r144, h10, hk⟩ := hk
        refine x_callSN (pc := 144) C (ct_X0_in h10) ms_X0_in q1071 dX16_single_144 rfl rfl (Nat.le_of_ble_eq_true rfl) (rmOK.i hr_X0_in.1 hr_X0_in.2 (rz1 hm0 hz0) (rz2 hm0 hz0)) ?_
        replace hk := bd3_some hk
        obtain ⟨u147, S147, I147, h11, hk⟩ := hk
        replace hk := og_some hk
        obtain ⟨h12, hk⟩ := hk
        replace hk := omn3_some hk
        obtain ⟨h13, hk⟩ := hk
        have h14 : sh.1 ≤ S147.1 := Nat.le_trans hm0 h12
        cases u147 with
        | inr w147 =>
          replace hk := oex_r hk
          obtain rfl := Option.some.inj hk
          exact x_callVT (pc := 147) C (ct_X16_fault h11) mv_X16_fault h1 rfl rfl q1037 dX16_single_147 rfl rfl (Nat.le_of_ble_eq_true rfl) (rmOK.i hr_X16_fault.1 hr_X16_fault.2 (rm1 hm0 h12 h13) (rm2 hm0 h12 h13)) rfl (Nat.le_of_eq (rk1 hm0 h12)) (Nat.le_of_eq (rk2 hm0 h12))
        | inl _w147 =>
          replace hk := oex_l hk
          refine x_callV (pc := 147) C (ct_X16_fault h11) mv_X16_fault h1 rfl rfl q1037 dX16_single_147 rfl rfl (Nat.le_of_ble_eq_true rfl) (rmOK.i hr_X16_fault.1 hr_X16_fault.2 (rm1 hm0 h12 h13) (rm2 hm0 h12 h13)) ?_
          refine j_kn (k' := S147.1 - sh.1) (n' := 200 * (S147.1 - sh.1)) (rk1 hm0 h12) (rk2 hm0 h12) ?_
          refine j_iconst (pc := 150) (v := nI 0) C dX16_single_150 (by decide) ?_
          refine j_istore_n (pc := 151) C dX16_single_151 rfl (Nat.le_of_ble_eq_true rfl) rfl ?_
          refine j_iconst (pc := 152) (v := nI 0) C dX16_single_152 (by decide) ?_
          refine j_istore_n (pc := 153) C dX16_single_153 rfl (Nat.le_of_ble_eq_true rfl) rfl ?_
          have L154 : ∀ (x0 : Nat) (n154 : Nat) (x1 : Int32) (x2 : Int32) (S : SH) (I : II), sh.1 ≤ S.1 → S.1 ≤ Z.2.1.1 → f_X16_single_L154 F c_X16_either c_X16_single x0 n154 x1 x2 S I = some Z → J G p l e (rmA Rf Rl (Z.2.1.1 - sh.1)) s m args below meth c 3 (ocr G Z.1) Z.2 ((rmA Rf Rl (Z.2.1.1 - sh.1))).cells ((rmA Rf Rl (Z.2.1.1 - sh.1))).slots (S, I) ((S).1 - sh.1) (200 * ((S).1 - sh.1)) 154 [some (.ref (wad G x0)), some (.int x1), some (.int x2)] [] := by
            intro x0 n154
            induction n154 with
            | zero => intro x1 x2 S I hm hz hk; rw [f_X16_single_L154] at hk; cases hk
            | succ n154 ih154 =>
              intro x1 x2 S I hm hz hk
              rw [f_X16_single_L154] at hk
              generalize f_X16_single_L154 F c_X16_either c_X16_single x0 n154 = k154 at ih154 hk
              refine j_iload_n (pc := 154) C dX16_single_154 rfl rfl ?_
              refine j_iconst (pc := 155) (v := nI 4) C dX16_single_155 (by decide) ?_
              have Jn202 : ∀ (x1 : Int32) (S : SH) (I : II), sh.1 ≤ S.1 → S.1 ≤ Z.2.1.1 → f_X16_single_J202 F c_X16_either c_X16_single x1 S I = some Z → J G p l e (rmA Rf Rl (Z.2.1.1 - sh.1)) s m args below meth c 3 (ocr G Z.1) Z.2 ((rmA Rf Rl (Z.2.1.1 - sh.1))).cells ((rmA Rf Rl (Z.2.1.1 - sh.1))).slots (S, I) ((S).1 - sh.1) (200 * ((S).1 - sh.1)) 202 [none, some (.int x1), none] [] := by
                intro x1 S I hm hz hk
                unfold f_X16_single_J202 at hk
                replace hk := onw_some hk
                obtain ⟨h15, hk⟩ := hk
                replace hk := omn3_some hk
                obtain ⟨h16, hk⟩ := hk
                have h16 : S.1 + 1 ≤ Z.2.1.1 := h16
                refine x_new (pc := 202) (c2 := 21) C rfl (born_21) q1072 q1073 q129 h15 (ra1 hm h16) (ra2 hm h16 (by decide)) dX16_single_202 ?_
                have h17 : sh.1 ≤ S.1 + 1 := Nat.le_succ_of_le hm
                refine j_wid (k' := (newS S 21 0).1 - sh.1) (n' := 200 * ((newS S 21 0).1 - sh.1)) (rw1 hm) (rw2 hm (by decide)) ?_
                refine j_dup (pc := 205) C dX16_single_205 rfl ?_
                refine j_iload_n (pc := 206) C dX16_single_206 rfl rfl ?_
                replace hk := ob_some hk
                obtain ⟨I207, h18, hk⟩ := hk
                refine x_callI (pc := 207) C (ct_X21_init h18) mi_X21_init q1074 dX16_single_207 rfl rfl (Nat.le_of_ble_eq_true rfl) (rmOK.i hr_X21_init.1 hr_X21_init.2 (rz1 h17 h16) (rz2 h17 h16)) ?_
                obtain rfl := Option.some.inj hk
                exact x_aret (pc := 210) C dX16_single_210 (Nat.le_refl _) (Nat.le_refl _) rfl
              refine j_icmp_ge (pc := 156) 202 C dX16_single_156 (by decide) (fun h19 => ?_) (fun h19 => ?_)
              · replace hk := it_t h19 hk
                exact j_mask [false, true, false] (Jn202 _ _ _ hm hz hk)
              · replace hk := it_f h19 hk
                refine j_aload_n (pc := 159) C dX16_single_159 rfl rfl ?_
                replace hk := ost_some hk
                obtain ⟨h20, hk⟩ := hk
                replace hk := ock_some hk
                obtain ⟨h21, hk⟩ := hk
                replace hk := ob_some hk
                obtain ⟨r160, h22, hk⟩ := hk
                refine x_callV (pc := 160) C (ct_X16_look h20 h22) mv_X16_look h21 rfl rfl q965 dX16_single_160 rfl rfl (Nat.le_of_ble_eq_true rfl) (rmOK.i hr_X16_look.1 hr_X16_look.2 (rz1 hm hz) (rz2 hm hz)) ?_
                refine j_bipush (pc := 163) (v := nI 48) C dX16_single_163 (by decide) ?_
                refine j_bipush (pc := 165) (v := nI 57) C dX16_single_165 (by decide) ?_
                replace hk := ob_some hk
                obtain ⟨r167, h23, hk⟩ := hk
                refine x_callSN (pc := 167) C (ct_X0_in h23) ms_X0_in q1071 dX16_single_167 rfl rfl (Nat.le_of_ble_eq_true rfl) (rmOK.i hr_X0_in.1 hr_X0_in.2 (rz1 hm hz) (rz2 hm hz)) ?_
                refine j_if_eq (pc := 170) 202 C dX16_single_170 (by decide) (fun h24 => ?_) (fun h24 => ?_)
                · replace hk := it_t h24 hk
                  exact j_mask [false, true, false] (Jn202 _ _ _ hm hz hk)
                · replace hk := it_f h24 hk
                  refine j_bipush (pc := 173) (v := nI 10) C dX16_single_173 (by decide) ?_
                  refine j_iload_n (pc := 175) C dX16_single_175 rfl rfl ?_
                  refine j_imul (pc := 176) C dX16_single_176 ?_
                  refine j_aload_n (pc := 177) C dX16_single_177 rfl rfl ?_
                  replace hk := ob_some hk
                  obtain ⟨r178, h25, hk⟩ := hk
                  refine x_callV (pc := 178) C (ct_X16_look h20 h25) mv_X16_look h21 rfl rfl q965 dX16_single_178 rfl rfl (Nat.le_of_ble_eq_true rfl) (rmOK.i hr_X16_look.1 hr_X16_look.2 (rz1 hm hz) (rz2 hm hz)) ?_
                  refine j_iadd (pc := 181) C dX16_single_181 ?_
                  refine j_bipush (pc := 182) (v := nI 48) C dX16_single_182 (by decide) ?_
                  refine j_isub (pc := 184) C dX16_single_184 ?_
                  refine j_istore_n (pc := 185) C dX16_single_185 rfl (Nat.le_of_ble_eq_true rfl) rfl ?_
                  refine j_aload_n (pc := 186) C dX16_single_186 rfl rfl ?_
                  refine j_dup (pc := 187) C dX16_single_187 rfl ?_
                  refine x_getI (pc := 188) C fd_17_3 (fl1 C q920) h21 dX16_single_188 ?_
                  refine j_iconst (pc := 191) (v := nI 1) C dX16_single_191 (by decide) ?_
                  refine j_iadd (pc := 192) C dX16_single_192 ?_
                  replace hk := ockw_some hk
                  obtain ⟨h26, hk⟩ := hk
                  refine x_putI (pc := 193) C fd_17_3 (fl1 C q920) h26 rfl rfl dX16_single_193 ?_
                  refine j_iinc (pc := 196) (nI 1) C dX16_single_196 rfl (by decide) (Nat.le_of_ble_eq_true rfl) rfl ?_
                  refine j_goto (pc := 199) 154 C dX16_single_199 (by decide) ?_
                  exact j_mask [true, true, true] (ih154 _ _ _ _ hm hz hk)
          exact j_mask [true, true, true] (L154 _ _ _ _ _ _ h14 h13 hk)
      · replace hk := it_f h8 hk
        refine j_aload_n (pc := 86) C dX16_single_86 rfl rfl ?_
        replace hk := bd3_some hk
        obtain ⟨u87, S87, I87, h27, hk⟩ := hk
        replace hk := og_some hk
        obtain ⟨h28, hk⟩ := hk
        replace hk := omn3_some hk
        obtain ⟨h29, hk⟩ := hk
        have h30 : sh.1 ≤ S87.1 := Nat.le_trans hm0 h28
        cases u87 with
        | inr w87 =>
          replace hk := oex_r hk
          obtain rfl := Option.some.inj hk
          exact x_callVT (pc := 87) C (ct_X16_opens h27) mv_X16_opens h1 rfl rfl q1033 dX16_single_87 rfl rfl (Nat.le_of_ble_eq_true rfl) (rmOK.i hr_X16_opens.1 hr_X16_opens.2 (rm1 hm0 h28 h29) (rm2 hm0 h28 h29)) rfl (Nat.le_of_eq (rk1 hm0 h28)) (Nat.le_of_eq (rk2 hm0 h28))
        | inl _w87 =>
          replace hk := oex_l hk
          refine x_callV (pc := 87) C (ct_X16_opens h27) mv_X16_opens h1 rfl rfl q1033 dX16_single_87 rfl rfl (Nat.le_of_ble_eq_true rfl) (rmOK.i hr_X16_opens.1 hr_X16_opens.2 (rm1 hm0 h28 h29) (rm2 hm0 h28 h29)) ?_
          refine j_kn (k' := S87.1 - sh.1) (n' := 200 * (S87.1 - sh.1)) (rk1 hm0 h28) (rk2 hm0 h28) ?_
          refine j_aload_n (pc := 90) C dX16_single_90 rfl rfl ?_
          replace hk := ock_some hk
          obtain ⟨h31, hk⟩ := hk
          replace hk := bd3_some hk
          obtain ⟨u91, S91, I91, h32, hk⟩ := hk
          replace hk := og_some hk
          obtain ⟨h33, hk⟩ := hk
          replace hk := omn3_some hk
          obtain ⟨h34, hk⟩ := hk
          have h35 : sh.1 ≤ S91.1 := Nat.le_trans h30 h33
          cases u91 with
          | inr w91 =>
            replace hk := oex_r hk
            obtain rfl := Option.some.inj hk
            exact x_callVT (pc := 91) C (hc_X16_either h32) mv_X16_either h31 rfl rfl q937 dX16_single_91 rfl rfl (Nat.le_of_ble_eq_true rfl) (rmOK.i hr_X16_either.1 hr_X16_either.2 (rm1 h30 h33 h34) (rm2 h30 h33 h34)) rfl (Nat.le_of_eq (rk1 h30 h33)) (Nat.le_of_eq (rk2 h30 h33))
          | inl a91 =>
            replace hk := oex_l hk
            refine x_callV (pc := 91) C (hc_X16_either h32) mv_X16_either h31 rfl rfl q937 dX16_single_91 rfl rfl (Nat.le_of_ble_eq_true rfl) (rmOK.i hr_X16_either.1 hr_X16_either.2 (rm1 h30 h33 h34) (rm2 h30 h33 h34)) ?_
            refine j_kn (k' := S91.1 - sh.1) (n' := 200 * (S91.1 - sh.1)) (rk1 h30 h33) (rk2 h30 h33) ?_
            refine j_astore_n (pc := 94) C dX16_single_94 rfl (Nat.le_of_ble_eq_true rfl) rfl ?_
            refine j_aload_n (pc := 95) C dX16_single_95 rfl rfl ?_
            refine j_aload_n (pc := 96) C dX16_single_96 rfl rfl ?_
            replace hk := ost_some hk
            obtain ⟨h36, hk⟩ := hk
            replace hk := ock_some hk
            obtain ⟨h37, hk⟩ := hk
            replace hk := ob_some hk
            obtain ⟨r97, h38, hk⟩ := hk
            refine x_callV (pc := 97) C (ct_X16_look h36 h38) mv_X16_look h37 rfl rfl q965 dX16_single_97 rfl rfl (Nat.le_of_ble_eq_true rfl) (rmOK.i hr_X16_look.1 hr_X16_look.2 (rz1 h35 h34) (rz2 h35 h34)) ?_
            refine j_bipush (pc := 100) (v := nI 41) C dX16_single_100 (by decide) ?_
            have Jn110 : ∀ (x0 : Nat) (x1 : Nat) (s0 : Nat) (s1 : Int32) (S : SH) (I : II), sh.1 ≤ S.1 → S.1 ≤ Z.2.1.1 → f_X16_single_J110 F c_X16_either c_X16_single x0 x1 s0 s1 S I = some Z → J G p l e (rmA Rf Rl (Z.2.1.1 - sh.1)) s m args below meth c 3 (ocr G Z.1) Z.2 ((rmA Rf Rl (Z.2.1.1 - sh.1))).cells ((rmA Rf Rl (Z.2.1.1 - sh.1))).slots (S, I) ((S).1 - sh.1) (200 * ((S).1 - sh.1)) 110 [some (.ref (wad G x0)), some (.ref (wad G x1)), none] [.int s1, .ref (wad G s0)] := by
              intro x0 x1 s0 s1 S I hm hz hk
              unfold f_X16_single_J110 at hk
              replace hk := ock_some hk
              obtain ⟨h39, hk⟩ := hk
              replace hk := bd3_some hk
              obtain ⟨u110, S110, I110, h40, hk⟩ := hk
              replace hk := og_some hk
              obtain ⟨h41, hk⟩ := hk
              replace hk := omn3_some hk
              obtain ⟨h42, hk⟩ := hk
              have h43 : sh.1 ≤ S110.1 := Nat.le_trans hm h41
              cases u110 with
              | inr w110 =>
                replace hk := oex_r hk
                obtain rfl := Option.some.inj hk
                exact x_callVT (pc := 110) C (ct_X16_fault h40) mv_X16_fault h39 rfl rfl q1037 dX16_single_110 rfl rfl (Nat.le_of_ble_eq_true rfl) (rmOK.i hr_X16_fault.1 hr_X16_fault.2 (rm1 hm h41 h42) (rm2 hm h41 h42)) rfl (Nat.le_of_eq (rk1 hm h41)) (Nat.le_of_eq (rk2 hm h41))
              | inl _w110 =>
                replace hk := oex_l hk
                refine x_callV (pc := 110) C (ct_X16_fault h40) mv_X16_fault h39 rfl rfl q1037 dX16_single_110 rfl rfl (Nat.le_of_ble_eq_true rfl) (rmOK.i hr_X16_fault.1 hr_X16_fault.2 (rm1 hm h41 h42) (rm2 hm h41 h42)) ?_
                refine j_kn (k' := S110.1 - sh.1) (n' := 200 * (S110.1 - sh.1)) (rk1 hm h41) (rk2 hm h41) ?_
                refine j_aload_n (pc := 113) C dX16_single_113 rfl rfl ?_
                refine j_dup (pc := 114) C dX16_single_114 rfl ?_
                replace hk := ock_some hk
                obtain ⟨h44, hk⟩ := hk
                refine x_getI (pc := 115) C fd_17_3 (fl1 C q920) h44 dX16_single_115 ?_
                refine j_iconst (pc := 118) (v := nI 1) C dX16_single_118 (by decide) ?_
                refine j_iadd (pc := 119) C dX16_single_119 ?_
                replace hk := ockw_some hk
                obtain ⟨h45, hk⟩ := hk
                refine x_putI (pc := 120) C fd_17_3 (fl1 C q920) h45 rfl rfl dX16_single_120 ?_
                refine j_aload_n (pc := 123) C dX16_single_123 rfl rfl ?_
                refine j_dup (pc := 124) C dX16_single_124 rfl ?_
                refine x_getI (pc := 125) C fd_17_4 (fl1 C q921) h45.r dX16_single_125 ?_
                refine j_iconst (pc := 128) (v := nI 1) C dX16_single_128 (by decide) ?_
                refine j_isub (pc := 129) C dX16_single_129 ?_
                refine x_putI (pc := 130) C fd_17_4 (fl1 C q921) h45 rfl rfl dX16_single_130 ?_
                refine j_aload_n (pc := 133) C dX16_single_133 rfl rfl ?_
                obtain rfl := Option.some.inj hk
                exact x_aret (pc := 134) C dX16_single_134 (Nat.le_refl _) (Nat.le_refl _) rfl
            refine j_icmp_ne (pc := 102) 109 C dX16_single_102 (by decide) (fun h46 => ?_) (fun h46 => ?_)
            · replace hk := it_f h46 hk
              refine j_iconst (pc := 109) (v := nI 0) C dX16_single_109 (by decide) ?_
              exact j_mask [true, true, false] (Jn110 _ _ _ _ _ _ h35 h34 hk)
            · replace hk := it_t h46 hk
              refine j_iconst (pc := 105) (v := nI 1) C dX16_single_105 (by decide) ?_
              refine j_goto (pc := 106) 110 C dX16_single_106 (by decide) ?_
              exact j_mask [true, true, false] (Jn110 _ _ _ _ _ _ h35 h34 hk)
    · replace hk := it_f h6 hk
      refine j_aload_n (pc := 49) C dX16_single_49 rfl rfl ?_
      replace hk := bd3_some hk
      obtain ⟨u50, S50, I50, h47, hk⟩ := hk
      replace hk := og_some hk
      obtain ⟨h48, hk⟩ := hk
      replace hk := omn3_some hk
      obtain ⟨h49, hk⟩ := hk
      have h50 : sh.1 ≤ S50.1 := Nat.le_trans hm0 h48
      cases u50 with
      | inr w50 =>
        replace hk := oex_r hk
        obtain rfl := Option.some.inj hk
        exact x_callVT (pc := 50) C (ct_X16_opens h47) mv_X16_opens h1 rfl rfl q1033 dX16_single_50 rfl rfl (Nat.le_of_ble_eq_true rfl) (rmOK.i hr_X16_opens.1 hr_X16_opens.2 (rm1 hm0 h48 h49) (rm2 hm0 h48 h49)) rfl (Nat.le_of_eq (rk1 hm0 h48)) (Nat.le_of_eq (rk2 hm0 h48))
      | inl _w50 =>
        replace hk := oex_l hk
        refine x_callV (pc := 50) C (ct_X16_opens h47) mv_X16_opens h1 rfl rfl q1033 dX16_single_50 rfl rfl (Nat.le_of_ble_eq_true rfl) (rmOK.i hr_X16_opens.1 hr_X16_opens.2 (rm1 hm0 h48 h49) (rm2 hm0 h48 h49)) ?_
        refine j_kn (k' := S50.1 - sh.1) (n' := 200 * (S50.1 - sh.1)) (rk1 hm0 h48) (rk2 hm0 h48) ?_
        refine j_aload_n (pc := 53) C dX16_single_53 rfl rfl ?_
        replace hk := ock_some hk
        obtain ⟨h51, hk⟩ := hk
        replace hk := bd3_some hk
        obtain ⟨u54, S54, I54, h52, hk⟩ := hk
        replace hk := og_some hk
        obtain ⟨h53, hk⟩ := hk
        replace hk := omn3_some hk
        obtain ⟨h54, hk⟩ := hk
        have h55 : sh.1 ≤ S54.1 := Nat.le_trans h50 h53
        cases u54 with
        | inr w54 =>
          replace hk := oex_r hk
          obtain rfl := Option.some.inj hk
          exact x_callVT (pc := 54) C (hc_X16_single h52) mv_X16_single h51 rfl rfl q957 dX16_single_54 rfl rfl (Nat.le_of_ble_eq_true rfl) (rmOK.i hr_X16_single.1 hr_X16_single.2 (rm1 h50 h53 h54) (rm2 h50 h53 h54)) rfl (Nat.le_of_eq (rk1 h50 h53)) (Nat.le_of_eq (rk2 h50 h53))
        | inl a54 =>
          replace hk := oex_l hk
          refine x_callV (pc := 54) C (hc_X16_single h52) mv_X16_single h51 rfl rfl q957 dX16_single_54 rfl rfl (Nat.le_of_ble_eq_true rfl) (rmOK.i hr_X16_single.1 hr_X16_single.2 (rm1 h50 h53 h54) (rm2 h50 h53 h54)) ?_
          refine j_kn (k' := S54.1 - sh.1) (n' := 200 * (S54.1 - sh.1)) (rk1 h50 h53) (rk2 h50 h53) ?_
          refine j_astore_n (pc := 57) C dX16_single_57 rfl (Nat.le_of_ble_eq_true rfl) rfl ?_
          refine j_aload_n (pc := 58) C dX16_single_58 rfl rfl ?_
          refine j_dup (pc := 59) C dX16_single_59 rfl ?_
          replace hk := ock_some hk
          obtain ⟨h56, hk⟩ := hk
          refine x_getI (pc := 60) C fd_17_4 (fl1 C q921) h56 dX16_single_60 ?_
          refine j_iconst (pc := 63) (v := nI 1) C dX16_single_63 (by decide) ?_
          refine j_isub (pc := 64) C dX16_single_64 ?_
          replace hk := ockw_some hk
          obtain ⟨h57, hk⟩ := hk
          refine x_putI (pc := 65) C fd_17_4 (fl1 C q921) h57 rfl rfl dX16_single_65 ?_
          replace hk := onw_some hk
          obtain ⟨h58, hk⟩ := hk
          replace hk := omn3_some hk
          obtain ⟨h59, hk⟩ := hk
          have h59 : S54.1 + 1 ≤ Z.2.1.1 := h59
          refine x_new (pc := 68) (c2 := 20) C rfl (born_20) q1060 q1061 q128 h58 (ra1 h55 h59) (ra2 h55 h59 (by decide)) dX16_single_68 ?_
          have h60 : sh.1 ≤ S54.1 + 1 := Nat.le_succ_of_le h55
          refine j_wid (k' := (newS S54 20 0).1 - sh.1) (n' := 200 * ((newS S54 20 0).1 - sh.1)) (rw1 h55) (rw2 h55 (by decide)) ?_
          refine j_dup (pc := 71) C dX16_single_71 rfl ?_
          refine j_aload_n (pc := 72) C dX16_single_72 rfl rfl ?_
          replace hk := bd2_some hk
          obtain ⟨S73, I73, h61, hk⟩ := hk
          replace hk := og_some hk
          obtain ⟨h62, hk⟩ := hk
          replace hk := omn3_some hk
          obtain ⟨h63, hk⟩ := hk
          have h64 : sh.1 ≤ S73.1 := Nat.le_trans h60 h62
          refine x_callI (pc := 73) C (ct_X20_init h61) mi_X20_init q1062 dX16_single_73 rfl rfl (Nat.le_of_ble_eq_true rfl) (rmOK.i hr_X20_init.1 hr_X20_init.2 (rm1 h60 h62 h63) (rm2 h60 h62 h63)) ?_
          refine j_kn (k' := S73.1 - sh.1) (n' := 200 * (S73.1 - sh.1)) (rk1 h60 h62) (rk2 h60 h62) ?_
          obtain rfl := Option.some.inj hk
          exact x_aret (pc := 76) C dX16_single_76 (Nat.le_refl _) (Nat.le_refl _) rfl
  · replace hk := it_f h4 hk
    refine j_aload_n (pc := 11) C dX16_single_11 rfl rfl ?_
    refine j_dup (pc := 12) C dX16_single_12 rfl ?_
    refine x_getI (pc := 13) C fd_17_3 (fl1 C q920) h1 dX16_single_13 ?_
    refine j_iconst (pc := 16) (v := nI 1) C dX16_single_16 (by decide) ?_
    refine j_iadd (pc := 17) C dX16_single_17 ?_
    replace hk := ockw_some hk
    obtain ⟨h65, hk⟩ := hk
    refine x_putI (pc := 18) C fd_17_3 (fl1 C q920) h65 rfl rfl dX16_single_18 ?_
    replace hk := onw_some hk
    obtain ⟨h66, hk⟩ := hk
    replace hk := omn3_some hk
    obtain ⟨h67, hk⟩ := hk
    have h67 : sh.1 + 1 ≤ Z.2.1.1 := h67
    refine x_new (pc := 21) (c2 := 18) C rfl (born_18) q1019 q1020 q126 h66 (ra1 hm0 h67) (ra2 hm0 h67 (by decide)) dX16_single_21 ?_
    have h68 : sh.1 ≤ sh.1 + 1 := Nat.le_succ_of_le hm0
    refine j_wid (k' := (newS sh 18 0).1 - sh.1) (n' := 200 * ((newS sh 18 0).1 - sh.1)) (rw1 hm0) (rw2 hm0 (by decide)) ?_
    refine j_dup (pc := 24) C dX16_single_24 rfl ?_
    refine j_aload_n (pc := 25) C dX16_single_25 rfl rfl ?_
    replace hk := ock_some hk
    obtain ⟨h69, hk⟩ := hk
    replace hk := orf_some hk
    obtain ⟨t26, et26, hk⟩ := hk
    refine x_getR (pc := 26) C fd_17_1 (fl1 C q918) h69 et26 dX16_single_26 ?_
    refine j_aload_n (pc := 29) C dX16_single_29 rfl rfl ?_
    refine x_getI (pc := 30) C fd_17_3 (fl1 C q920) h69 dX16_single_30 ?_
    refine j_iconst (pc := 33) (v := nI 1) C dX16_single_33 (by decide) ?_
    refine j_isub (pc := 34) C dX16_single_34 ?_
    replace hk := oar_some hk
    obtain ⟨nh70, h70, hk⟩ := hk
    replace hk := oix_ex hk
    obtain ⟨i35, e35, h71, hk⟩ := hk
    refine x_bald (pc := 35) C h70 h71 e35 dX16_single_35 ?_
    replace hk := ob_some hk
    obtain ⟨I36, h72, hk⟩ := hk
    refine x_callI (pc := 36) C (ct_X18_init h72) mi_X18_init q1021 dX16_single_36 rfl rfl (Nat.le_of_ble_eq_true rfl) (rmOK.i hr_X18_init.1 hr_X18_init.2 (rz1 h68 h67) (rz2 h68 h67)) ?_
    obtain rfl := Option.some.inj hk
    exact x_aret (pc := 39) C dX16_single_39 (Nat.le_refl _) (Nat.le_refl _) rfl
def f_X16_sum_L5 (F : Nat) (c_X16_product : SH → Nat → II → Option ((Nat ⊕ Nat) × SH × II)) (x0 : Nat) : Nat → Nat → SH → II → Option ((Nat ⊕ Nat) × SH × II)
  | 0, _, _, _ => none
  | n5 + 1, x1, S, I => ost S <| ock S x0 17 <| (f_X16_isOne F S x0 (exA + 6) I).bind fun r8 => if r8 = 0 then some ((.inl x1), S, I) else (f_X16_look S x0 I).bind fun r15 => ockw S x0 17 <| onw S <| omn3 (newS S 22 0) <| ock (newS S 22 0) x0 17 <| bd3 (c_X16_product (newS S 22 0) x0 (newI S (up2 I x0 3 ((I x0 3) + (nI 1))))) fun u36 S36 I36 => og (S.1 + 1 ≤ S36.1) <| omn3 S36 <| oex u36 (fun a36 => bd2 (f_X22_init S36 ((S).1) r15 x1 a36 I36) fun S39 I39 => og (S36.1 ≤ S39.1) <| omn3 S39 <| (f_X16_sum_L5 F c_X16_product x0 n5) ((S).1) S39 I39) (fun w36 => some (.inr w36, S36, I36))
def fb_X16_sum (F : Nat) (c_X16_product : SH → Nat → II → Option ((Nat ⊕ Nat) × SH × II)) (sh : SH) (x0 : Nat) (I : II) : Option ((Nat ⊕ Nat) × SH × II) := omn3 sh <| ock sh x0 17 <| bd3 (c_X16_product sh x0 I) fun u1 S1 I1 => og (sh.1 ≤ S1.1) <| omn3 S1 <| oex u1 (fun a1 => f_X16_sum_L5 F c_X16_product x0 F a1 S1 I1) (fun w1 => some (.inr w1, S1, I1))
set_option maxHeartbeats 4000000 in
theorem ctb_X16_sum {G : WG} {l : Launch} {sh : SH} {Rf Rl : Nat} {F : Nat} {fc_X16_product lc_X16_product : Nat} {c_X16_product : SH → Nat → II → Option ((Nat ⊕ Nat) × SH × II)} (hc_X16_product : ∀ {sh : SH} {x0 : Nat} {I : II} {Z : ((Nat ⊕ Nat) × SH × II)}, c_X16_product sh x0 I = some Z → CT G l yX16_product (ws_ yX16_product cX16_product 3 (some (.object "NineDemands$Term"))) (rmA fc_X16_product lc_X16_product (Z.2.1.1 - sh.1)) [.ref (wad G x0)] (sh, I) (ocr G Z.1) Z.2) (hr_X16_product : fc_X16_product + 1 ≤ Rf ∧ 8 + (3 + 11) + lc_X16_product ≤ Rl) (hr_X16_isOne : 4 + 1 ≤ Rf ∧ 8 + (2 + 11) + 106 ≤ Rl) (hr_X16_look : 0 + 1 ≤ Rf ∧ 8 + (1 + 11) + 0 ≤ Rl) (hr_X22_init : 2 + 1 ≤ Rf ∧ 8 + (4 + 11) + 50 ≤ Rl) {x0 : Nat} {I : II} {Z : ((Nat ⊕ Nat) × SH × II)} (hk : fb_X16_sum F c_X16_product sh x0 I = some Z) : CT G l yX16_sum (ws_ yX16_sum cX16_sum 3 (some (.object "NineDemands$Term"))) (rmA Rf Rl (Z.2.1.1 - sh.1)) [.ref (wad G x0)] (sh, I) (ocr G Z.1) Z.2 := by
  refine CT.ofJ "NineDemands$Reader" rfl (by decide) (Nat.le_of_ble_eq_true rfl) ?_
  intro p e s m args below meth c C
  unfold fb_X16_sum at hk
  refine j_lv (lv' := [some (.ref (wad G x0)), none, none]) rfl ?_
  replace hk := omn3_some hk
  obtain ⟨hz0, hk⟩ := hk
  have hm0 : sh.1 ≤ sh.1 := Nat.le_refl _
  refine j_kn (k' := sh.1 - sh.1) (n' := 200 * (sh.1 - sh.1)) (Nat.sub_self _).symm (rb2 _) ?_
  refine j_aload_n (pc := 0) C dX16_sum_0 rfl rfl ?_
  replace hk := ock_some hk
  obtain ⟨h1, hk⟩ := hk
  replace hk := bd3_some hk
  obtain ⟨u1, S1, I1, h2, hk⟩ := hk
  replace hk := og_some hk
  obtain ⟨h3, hk⟩ := hk
  replace hk := omn3_some hk
  obtain ⟨h4, hk⟩ := hk
  have h5 : sh.1 ≤ S1.1 := Nat.le_trans hm0 h3
  cases u1 with
  | inr w1 =>
    replace hk := oex_r hk
    obtain rfl := Option.some.inj hk
    exact x_callVT (pc := 1) C (hc_X16_product h2) mv_X16_product h1 rfl rfl q953 dX16_sum_1 rfl rfl (Nat.le_of_ble_eq_true rfl) (rmOK.i hr_X16_product.1 hr_X16_product.2 (rm1 hm0 h3 h4) (rm2 hm0 h3 h4)) rfl (Nat.le_of_eq (rk1 hm0 h3)) (Nat.le_of_eq (rk2 hm0 h3))
  | inl a1 =>
    replace hk := oex_l hk
    refine x_callV (pc := 1) C (hc_X16_product h2) mv_X16_product h1 rfl rfl q953 dX16_sum_1 rfl rfl (Nat.le_of_ble_eq_true rfl) (rmOK.i hr_X16_product.1 hr_X16_product.2 (rm1 hm0 h3 h4) (rm2 hm0 h3 h4)) ?_
    refine j_kn (k' := S1.1 - sh.1) (n' := 200 * (S1.1 - sh.1)) (rk1 hm0 h3) (rk2 hm0 h3) ?_
    refine j_astore_n (pc := 4) C dX16_sum_4 rfl (Nat.le_of_ble_eq_true rfl) rfl ?_
    have L5 : ∀ (x0 : Nat) (n5 : Nat) (x1 : Nat) (S : SH) (I : II), sh.1 ≤ S.1 → S.1 ≤ Z.2.1.1 → f_X16_sum_L5 F c_X16_product x0 n5 x1 S I = some Z → J G p l e (rmA Rf Rl (Z.2.1.1 - sh.1)) s m args below meth c 3 (ocr G Z.1) Z.2 ((rmA Rf Rl (Z.2.1.1 - sh.1))).cells ((rmA Rf Rl (Z.2.1.1 - sh.1))).slots (S, I) ((S).1 - sh.1) (200 * ((S).1 - sh.1)) 5 [some (.ref (wad G x0)), some (.ref (wad G x1)), none] [] := by
      intro x0 n5
      induction n5 with
      | zero => intro x1 S I hm hz hk; rw [f_X16_sum_L5] at hk; cases hk
      | succ n5 ih5 =>
        intro x1 S I hm hz hk
        rw [f_X16_sum_L5] at hk
        generalize f_X16_sum_L5 F c_X16_product x0 n5 = k5 at ih5 hk
        refine j_aload_n (pc := 5) C dX16_sum_5 rfl rfl ?_
        refine x_ldcS (pc := 6) 6 C rfl dX16_sum_6 ?_
        replace hk := ost_some hk
        obtain ⟨h6, hk⟩ := hk
        replace hk := ock_some hk
        obtain ⟨h7, hk⟩ := hk
        replace hk := ob_some hk
        obtain ⟨r8, h8, hk⟩ := hk
        refine x_callV (pc := 8) C (ct_X16_isOne h6 h8) mv_X16_isOne h7 rfl rfl q961 dX16_sum_8 rfl rfl (Nat.le_of_ble_eq_true rfl) (rmOK.i hr_X16_isOne.1 hr_X16_isOne.2 (rz1 hm hz) (rz2 hm hz)) ?_
        refine j_if_eq (pc := 11) 46 C dX16_sum_11 (by decide) (fun h9 => ?_) (fun h9 => ?_)
        · replace hk := it_t h9 hk
          refine j_aload_n (pc := 46) C dX16_sum_46 rfl rfl ?_
          obtain rfl := Option.some.inj hk
          exact x_aret (pc := 47) C dX16_sum_47 (Nat.le_refl _) (Nat.le_refl _) rfl
        · replace hk := it_f h9 hk
          refine j_aload_n (pc := 14) C dX16_sum_14 rfl rfl ?_
          replace hk := ob_some hk
          obtain ⟨r15, h10, hk⟩ := hk
          refine x_callV (pc := 15) C (ct_X16_look h6 h10) mv_X16_look h7 rfl rfl q965 dX16_sum_15 rfl rfl (Nat.le_of_ble_eq_true rfl) (rmOK.i hr_X16_look.1 hr_X16_look.2 (rz1 hm hz) (rz2 hm hz)) ?_
          refine j_istore_n (pc := 18) C dX16_sum_18 rfl (Nat.le_of_ble_eq_true rfl) rfl ?_
          refine j_aload_n (pc := 19) C dX16_sum_19 rfl rfl ?_
          refine j_dup (pc := 20) C dX16_sum_20 rfl ?_
          refine x_getI (pc := 21) C fd_17_3 (fl1 C q920) h7 dX16_sum_21 ?_
          refine j_iconst (pc := 24) (v := nI 1) C dX16_sum_24 (by decide) ?_
          refine j_iadd (pc := 25) C dX16_sum_25 ?_
          replace hk := ockw_some hk
          obtain ⟨h11, hk⟩ := hk
          refine x_putI (pc := 26) C fd_17_3 (fl1 C q920) h11 rfl rfl dX16_sum_26 ?_
          replace hk := onw_some hk
          obtain ⟨h12, hk⟩ := hk
          replace hk := omn3_some hk
          obtain ⟨h13, hk⟩ := hk
          have h13 : S.1 + 1 ≤ Z.2.1.1 := h13
          refine x_new (pc := 29) (c2 := 22) C rfl (born_22) q1083 q1084 q130 h12 (ra1 hm h13) (ra2 hm h13 (by decide)) dX16_sum_29 ?_
          have h14 : sh.1 ≤ S.1 + 1 := Nat.le_succ_of_le hm
          refine j_wid (k' := (newS S 22 0).1 - sh.1) (n' := 200 * ((newS S 22 0).1 - sh.1)) (rw1 hm) (rw2 hm (by decide)) ?_
          refine j_dup (pc := 32) C dX16_sum_32 rfl ?_
          refine j_iload_n (pc := 33) C dX16_sum_33 rfl rfl ?_
          refine j_aload_n (pc := 34) C dX16_sum_34 rfl rfl ?_
          refine j_aload_n (pc := 35) C dX16_sum_35 rfl rfl ?_
          replace hk := ock_some hk
          obtain ⟨h15, hk⟩ := hk
          replace hk := bd3_some hk
          obtain ⟨u36, S36, I36, h16, hk⟩ := hk
          replace hk := og_some hk
          obtain ⟨h17, hk⟩ := hk
          replace hk := omn3_some hk
          obtain ⟨h18, hk⟩ := hk
          have h19 : sh.1 ≤ S36.1 := Nat.le_trans h14 h17
          cases u36 with
          | inr w36 =>
            replace hk := oex_r hk
            obtain rfl := Option.some.inj hk
            exact x_callVT (pc := 36) C (hc_X16_product h16) mv_X16_product h15 rfl rfl q953 dX16_sum_36 rfl rfl (Nat.le_of_ble_eq_true rfl) (rmOK.i hr_X16_product.1 hr_X16_product.2 (rm1 h14 h17 h18) (rm2 h14 h17 h18)) rfl (Nat.le_of_eq (rk1 h14 h17)) (Nat.le_of_eq (rk2 h14 h17))
          | inl a36 =>
            replace hk := oex_l hk
            refine x_callV (pc := 36) C (hc_X16_product h16) mv_X16_product h15 rfl rfl q953 dX16_sum_36 rfl rfl (Nat.le_of_ble_eq_true rfl) (rmOK.i hr_X16_product.1 hr_X16_product.2 (rm1 h14 h17 h18) (rm2 h14 h17 h18)) ?_
            refine j_kn (k' := S36.1 - sh.1) (n' := 200 * (S36.1 - sh.1)) (rk1 h14 h17) (rk2 h14 h17) ?_
            refine j_stk (st' := [.ref (wad G a36), .ref (wad G x1), .int r15, .ref (wad G (S).1), .ref (wad G (S).1)]) rfl ?_
            replace hk := bd2_some hk
            obtain ⟨S39, I39, h20, hk⟩ := hk
            replace hk := og_some hk
            obtain ⟨h21, hk⟩ := hk
            replace hk := omn3_some hk
            obtain ⟨h22, hk⟩ := hk
            have h23 : sh.1 ≤ S39.1 := Nat.le_trans h19 h21
            refine x_callI (pc := 39) C (ct_X22_init h20) mi_X22_init q1085 dX16_sum_39 rfl rfl (Nat.le_of_ble_eq_true rfl) (rmOK.i hr_X22_init.1 hr_X22_init.2 (rm1 h19 h21 h22) (rm2 h19 h21 h22)) ?_
            refine j_kn (k' := S39.1 - sh.1) (n' := 200 * (S39.1 - sh.1)) (rk1 h19 h21) (rk2 h19 h21) ?_
            refine j_astore_n (pc := 42) C dX16_sum_42 rfl (Nat.le_of_ble_eq_true rfl) rfl ?_
            refine j_goto (pc := 43) 5 C dX16_sum_43 (by decide) ?_
            exact j_mask [true, true, false] (ih5 _ _ _ h23 h22 hk)
    exact j_mask [true, true, false] (L5 _ _ _ _ _ h5 h4 hk)
def g_X16_both (F : Nat) : Nat → (SH → Nat → II → Option ((Nat ⊕ Nat) × SH × II)) × (SH → Nat → II → Option ((Nat ⊕ Nat) × SH × II)) × (SH → Nat → II → Option ((Nat ⊕ Nat) × SH × II)) × (SH → Nat → II → Option ((Nat ⊕ Nat) × SH × II)) × (SH → Nat → II → Option ((Nat ⊕ Nat) × SH × II)) × (SH → Nat → II → Option ((Nat ⊕ Nat) × SH × II))
  | 0 => (fun _ _ _ => none, fun _ _ _ => none, fun _ _ _ => none, fun _ _ _ => none, fun _ _ _ => none, fun _ _ _ => none)
  | d + 1 => (fb_X16_both F (g_X16_both F d).2.2.2.1, fb_X16_either F (g_X16_both F d).1, fb_X16_product F (g_X16_both F d).2.2.2.2.1, fb_X16_relation F (g_X16_both F d).2.2.2.2.2, fb_X16_single F (g_X16_both F d).2.1 (g_X16_both F d).2.2.2.2.1, fb_X16_sum F (g_X16_both F d).2.2.1)
def f_X16_both (F : Nat) (d : Nat) : SH → Nat → II → Option ((Nat ⊕ Nat) × SH × II) := (g_X16_both F d).1
def f_X16_either (F : Nat) (d : Nat) : SH → Nat → II → Option ((Nat ⊕ Nat) × SH × II) := (g_X16_both F d).2.1
def f_X16_product (F : Nat) (d : Nat) : SH → Nat → II → Option ((Nat ⊕ Nat) × SH × II) := (g_X16_both F d).2.2.1
def f_X16_relation (F : Nat) (d : Nat) : SH → Nat → II → Option ((Nat ⊕ Nat) × SH × II) := (g_X16_both F d).2.2.2.1
def f_X16_single (F : Nat) (d : Nat) : SH → Nat → II → Option ((Nat ⊕ Nat) × SH × II) := (g_X16_both F d).2.2.2.2.1
def f_X16_sum (F : Nat) (d : Nat) : SH → Nat → II → Option ((Nat ⊕ Nat) × SH × II) := (g_X16_both F d).2.2.2.2.2
theorem f_X16_both_s (F : Nat) (d : Nat) : f_X16_both F (d + 1) = fb_X16_both F (f_X16_relation F d) := rfl
theorem f_X16_both_0 (F : Nat) : f_X16_both F 0 = fun _ _ _ => none := rfl
theorem f_X16_either_s (F : Nat) (d : Nat) : f_X16_either F (d + 1) = fb_X16_either F (f_X16_both F d) := rfl
theorem f_X16_either_0 (F : Nat) : f_X16_either F 0 = fun _ _ _ => none := rfl
theorem f_X16_product_s (F : Nat) (d : Nat) : f_X16_product F (d + 1) = fb_X16_product F (f_X16_single F d) := rfl
theorem f_X16_product_0 (F : Nat) : f_X16_product F 0 = fun _ _ _ => none := rfl
theorem f_X16_relation_s (F : Nat) (d : Nat) : f_X16_relation F (d + 1) = fb_X16_relation F (f_X16_sum F d) := rfl
theorem f_X16_relation_0 (F : Nat) : f_X16_relation F 0 = fun _ _ _ => none := rfl
theorem f_X16_single_s (F : Nat) (d : Nat) : f_X16_single F (d + 1) = fb_X16_single F (f_X16_either F d) (f_X16_single F d) := rfl
theorem f_X16_single_0 (F : Nat) : f_X16_single F 0 = fun _ _ _ => none := rfl
theorem f_X16_sum_s (F : Nat) (d : Nat) : f_X16_sum F (d + 1) = fb_X16_sum F (f_X16_product F d) := rfl
theorem f_X16_sum_0 (F : Nat) : f_X16_sum F 0 = fun _ _ _ => none := rfl
set_option maxHeartbeats 4000000 in
theorem ctg_X16_both {G : WG} {l : Launch} (F : Nat) : ∀ d : Nat, (∀ (sh : SH) (x0 : Nat) (I : II) (Z : ((Nat ⊕ Nat) × SH × II)), f_X16_both F d sh x0 I = some Z → CT G l yX16_both (ws_ yX16_both cX16_both 2 (some (.object "NineDemands$Term"))) (rmA (d + 7) (22 * d + 164) (Z.2.1.1 - sh.1)) [.ref (wad G x0)] (sh, I) (ocr G Z.1) Z.2) ∧ (∀ (sh : SH) (x0 : Nat) (I : II) (Z : ((Nat ⊕ Nat) × SH × II)), f_X16_either F d sh x0 I = some Z → CT G l yX16_either (ws_ yX16_either cX16_either 2 (some (.object "NineDemands$Term"))) (rmA (d + 7) (22 * d + 164) (Z.2.1.1 - sh.1)) [.ref (wad G x0)] (sh, I) (ocr G Z.1) Z.2) ∧ (∀ (sh : SH) (x0 : Nat) (I : II) (Z : ((Nat ⊕ Nat) × SH × II)), f_X16_product F d sh x0 I = some Z → CT G l yX16_product (ws_ yX16_product cX16_product 3 (some (.object "NineDemands$Term"))) (rmA (d + 7) (22 * d + 164) (Z.2.1.1 - sh.1)) [.ref (wad G x0)] (sh, I) (ocr G Z.1) Z.2) ∧ (∀ (sh : SH) (x0 : Nat) (I : II) (Z : ((Nat ⊕ Nat) × SH × II)), f_X16_relation F d sh x0 I = some Z → CT G l yX16_relation (ws_ yX16_relation cX16_relation 3 (some (.object "NineDemands$Term"))) (rmA (d + 7) (22 * d + 164) (Z.2.1.1 - sh.1)) [.ref (wad G x0)] (sh, I) (ocr G Z.1) Z.2) ∧ (∀ (sh : SH) (x0 : Nat) (I : II) (Z : ((Nat ⊕ Nat) × SH × II)), f_X16_single F d sh x0 I = some Z → CT G l yX16_single (ws_ yX16_single cX16_single 3 (some (.object "NineDemands$Term"))) (rmA (d + 7) (22 * d + 164) (Z.2.1.1 - sh.1)) [.ref (wad G x0)] (sh, I) (ocr G Z.1) Z.2) ∧ (∀ (sh : SH) (x0 : Nat) (I : II) (Z : ((Nat ⊕ Nat) × SH × II)), f_X16_sum F d sh x0 I = some Z → CT G l yX16_sum (ws_ yX16_sum cX16_sum 3 (some (.object "NineDemands$Term"))) (rmA (d + 7) (22 * d + 164) (Z.2.1.1 - sh.1)) [.ref (wad G x0)] (sh, I) (ocr G Z.1) Z.2) := by
  intro d
  induction d with
  | zero =>
    refine ⟨?_, ?_, ?_, ?_, ?_, ?_⟩ <;> (intros; rename_i hk; cases hk)
  | succ d ih =>
    obtain ⟨ih_X16_both, ih_X16_either, ih_X16_product, ih_X16_relation, ih_X16_single, ih_X16_sum⟩ := ih
    refine ⟨?_, ?_, ?_, ?_, ?_, ?_⟩
    · intro v0 v1 v2 v3 hk
      exact ctb_X16_both (F := F) (fun {a0 a1 a2 a3} hk => ih_X16_relation a0 a1 a2 a3 hk) ⟨by omega, by omega⟩ ⟨by omega, by omega⟩ ⟨by omega, by omega⟩ hk
    · intro v0 v1 v2 v3 hk
      exact ctb_X16_either (F := F) (fun {a0 a1 a2 a3} hk => ih_X16_both a0 a1 a2 a3 hk) ⟨by omega, by omega⟩ ⟨by omega, by omega⟩ ⟨by omega, by omega⟩ hk
    · intro v0 v1 v2 v3 hk
      exact ctb_X16_product (F := F) (fun {a0 a1 a2 a3} hk => ih_X16_single a0 a1 a2 a3 hk) ⟨by omega, by omega⟩ ⟨by omega, by omega⟩ ⟨by omega, by omega⟩ ⟨by omega, by omega⟩ hk
    · intro v0 v1 v2 v3 hk
      exact ctb_X16_relation (F := F) (fun {a0 a1 a2 a3} hk => ih_X16_sum a0 a1 a2 a3 hk) ⟨by omega, by omega⟩ ⟨by omega, by omega⟩ ⟨by omega, by omega⟩ ⟨by omega, by omega⟩ hk
    · intro v0 v1 v2 v3 hk
      exact ctb_X16_single (F := F) (fun {a0 a1 a2 a3} hk => ih_X16_either a0 a1 a2 a3 hk) (fun {a0 a1 a2 a3} hk => ih_X16_single a0 a1 a2 a3 hk) ⟨by omega, by omega⟩ ⟨by omega, by omega⟩ ⟨by omega, by omega⟩ ⟨by omega, by omega⟩ ⟨by omega, by omega⟩ ⟨by omega, by omega⟩ ⟨by omega, by omega⟩ ⟨by omega, by omega⟩ ⟨by omega, by omega⟩ ⟨by omega, by omega⟩ hk
    · intro v0 v1 v2 v3 hk
      exact ctb_X16_sum (F := F) (fun {a0 a1 a2 a3} hk => ih_X16_product a0 a1 a2 a3 hk) ⟨by omega, by omega⟩ ⟨by omega, by omega⟩ ⟨by omega, by omega⟩ ⟨by omega, by omega⟩ hk
theorem ct_X16_both {G : WG} {l : Launch} {F : Nat} {d : Nat} {sh : SH} {x0 : Nat} {I : II} {Z : ((Nat ⊕ Nat) × SH × II)} (hk : f_X16_both F d sh x0 I = some Z) : CT G l yX16_both (ws_ yX16_both cX16_both 2 (some (.object "NineDemands$Term"))) (rmA (d + 7) (22 * d + 164) (Z.2.1.1 - sh.1)) [.ref (wad G x0)] (sh, I) (ocr G Z.1) Z.2 := (ctg_X16_both F d).1 _ _ _ _ hk
theorem ct_X16_either {G : WG} {l : Launch} {F : Nat} {d : Nat} {sh : SH} {x0 : Nat} {I : II} {Z : ((Nat ⊕ Nat) × SH × II)} (hk : f_X16_either F d sh x0 I = some Z) : CT G l yX16_either (ws_ yX16_either cX16_either 2 (some (.object "NineDemands$Term"))) (rmA (d + 7) (22 * d + 164) (Z.2.1.1 - sh.1)) [.ref (wad G x0)] (sh, I) (ocr G Z.1) Z.2 := (ctg_X16_both F d).2.1 _ _ _ _ hk
theorem ct_X16_product {G : WG} {l : Launch} {F : Nat} {d : Nat} {sh : SH} {x0 : Nat} {I : II} {Z : ((Nat ⊕ Nat) × SH × II)} (hk : f_X16_product F d sh x0 I = some Z) : CT G l yX16_product (ws_ yX16_product cX16_product 3 (some (.object "NineDemands$Term"))) (rmA (d + 7) (22 * d + 164) (Z.2.1.1 - sh.1)) [.ref (wad G x0)] (sh, I) (ocr G Z.1) Z.2 := (ctg_X16_both F d).2.2.1 _ _ _ _ hk
theorem ct_X16_relation {G : WG} {l : Launch} {F : Nat} {d : Nat} {sh : SH} {x0 : Nat} {I : II} {Z : ((Nat ⊕ Nat) × SH × II)} (hk : f_X16_relation F d sh x0 I = some Z) : CT G l yX16_relation (ws_ yX16_relation cX16_relation 3 (some (.object "NineDemands$Term"))) (rmA (d + 7) (22 * d + 164) (Z.2.1.1 - sh.1)) [.ref (wad G x0)] (sh, I) (ocr G Z.1) Z.2 := (ctg_X16_both F d).2.2.2.1 _ _ _ _ hk
theorem ct_X16_single {G : WG} {l : Launch} {F : Nat} {d : Nat} {sh : SH} {x0 : Nat} {I : II} {Z : ((Nat ⊕ Nat) × SH × II)} (hk : f_X16_single F d sh x0 I = some Z) : CT G l yX16_single (ws_ yX16_single cX16_single 3 (some (.object "NineDemands$Term"))) (rmA (d + 7) (22 * d + 164) (Z.2.1.1 - sh.1)) [.ref (wad G x0)] (sh, I) (ocr G Z.1) Z.2 := (ctg_X16_both F d).2.2.2.2.1 _ _ _ _ hk
theorem ct_X16_sum {G : WG} {l : Launch} {F : Nat} {d : Nat} {sh : SH} {x0 : Nat} {I : II} {Z : ((Nat ⊕ Nat) × SH × II)} (hk : f_X16_sum F d sh x0 I = some Z) : CT G l yX16_sum (ws_ yX16_sum cX16_sum 3 (some (.object "NineDemands$Term"))) (rmA (d + 7) (22 * d + 164) (Z.2.1.1 - sh.1)) [.ref (wad G x0)] (sh, I) (ocr G Z.1) Z.2 := (ctg_X16_both F d).2.2.2.2.2 _ _ _ _ hk
def f_X16_read_J22 (F : Nat) (x1 : Nat) (s0 : Nat) (s1 : Int32) (S : SH) (I : II) : Option ((Nat ⊕ Nat) × SH × II) := ock S s0 17 <| bd3 (f_X16_fault S s0 s1 I) fun u22 S22 I22 => og (S.1 ≤ S22.1) <| omn3 S22 <| oex u22 (fun _w22 => some ((.inl x1), S22, I22)) (fun w22 => some (.inr w22, S22, I22))
def f_X16_read (F : Nat) (sh : SH) (x0 : Nat) (I : II) : Option ((Nat ⊕ Nat) × SH × II) := omn3 sh <| ock sh x0 17 <| bd3 (f_X16_either F 40 sh x0 I) fun u1 S1 I1 => og (sh.1 ≤ S1.1) <| omn3 S1 <| oex u1 (fun a1 => ock S1 x0 17 <| if (I1 x0 3) = (I1 x0 2) then f_X16_read_J22 F a1 x0 (nI 1) S1 I1 else f_X16_read_J22 F a1 x0 (nI 0) S1 I1) (fun w1 => some (.inr w1, S1, I1))
abbrev rmf_X16_read : Nat := 48
abbrev rml_X16_read : Nat := 1065
theorem mv_X16_read_ok : callOK yX16_read 0 := by decide +kernel
theorem mv_X16_read : MV yX16_read cX16_read 2 (some (.object "NineDemands$Term")) 0 := ⟨q934, q935, q114, q936, mv_X16_read_ok⟩
set_option maxHeartbeats 4000000 in
theorem ct_X16_read {G : WG} {l : Launch} {sh : SH} {I : II} {F : Nat} {x0 : Nat} {Z : ((Nat ⊕ Nat) × SH × II)} (hk : f_X16_read F sh x0 I = some Z) : CT G l yX16_read (ws_ yX16_read cX16_read 2 (some (.object "NineDemands$Term"))) (rmA rmf_X16_read rml_X16_read (Z.2.1.1 - sh.1)) [.ref (wad G x0)] (sh, I) (ocr G Z.1) Z.2 := by
  refine CT.ofJ "NineDemands$Reader" rfl (by decide) (Nat.le_of_ble_eq_true rfl) ?_
  intro p e s m args below meth c C
  unfold f_X16_read at hk
  refine j_lv (lv' := [some (.ref (wad G x0)), none]) rfl ?_
  replace hk := omn3_some hk
  obtain ⟨hz0, hk⟩ := hk
  have hm0 : sh.1 ≤ sh.1 := Nat.le_refl _
  refine j_kn (k' := sh.1 - sh.1) (n' := 200 * (sh.1 - sh.1)) (Nat.sub_self _).symm (rb2 _) ?_
  refine j_aload_n (pc := 0) C dX16_read_0 rfl rfl ?_
  replace hk := ock_some hk
  obtain ⟨h1, hk⟩ := hk
  replace hk := bd3_some hk
  obtain ⟨u1, S1, I1, h2, hk⟩ := hk
  replace hk := og_some hk
  obtain ⟨h3, hk⟩ := hk
  replace hk := omn3_some hk
  obtain ⟨h4, hk⟩ := hk
  have h5 : sh.1 ≤ S1.1 := Nat.le_trans hm0 h3
  cases u1 with
  | inr w1 =>
    replace hk := oex_r hk
    obtain rfl := Option.some.inj hk
    exact x_callVT (pc := 1) C (ct_X16_either h2) mv_X16_either h1 rfl rfl q937 dX16_read_1 rfl rfl (Nat.le_of_ble_eq_true rfl) (rmOK.i (Nat.le_of_ble_eq_true rfl) (Nat.le_of_ble_eq_true rfl) (rm1 hm0 h3 h4) (rm2 hm0 h3 h4)) rfl (Nat.le_of_eq (rk1 hm0 h3)) (Nat.le_of_eq (rk2 hm0 h3))
  | inl a1 =>
    replace hk := oex_l hk
    refine x_callV (pc := 1) C (ct_X16_either h2) mv_X16_either h1 rfl rfl q937 dX16_read_1 rfl rfl (Nat.le_of_ble_eq_true rfl) (rmOK.i (Nat.le_of_ble_eq_true rfl) (Nat.le_of_ble_eq_true rfl) (rm1 hm0 h3 h4) (rm2 hm0 h3 h4)) ?_
    refine j_kn (k' := S1.1 - sh.1) (n' := 200 * (S1.1 - sh.1)) (rk1 hm0 h3) (rk2 hm0 h3) ?_
    refine j_astore_n (pc := 4) C dX16_read_4 rfl (Nat.le_of_ble_eq_true rfl) rfl ?_
    refine j_aload_n (pc := 5) C dX16_read_5 rfl rfl ?_
    refine j_aload_n (pc := 6) C dX16_read_6 rfl rfl ?_
    replace hk := ock_some hk
    obtain ⟨h6, hk⟩ := hk
    refine x_getI (pc := 7) C fd_17_3 (fl1 C q920) h6 dX16_read_7 ?_
    refine j_aload_n (pc := 10) C dX16_read_10 rfl rfl ?_
    refine x_getI (pc := 11) C fd_17_2 (fl1 C q919) h6 dX16_read_11 ?_
    have Jn22 : ∀ (x1 : Nat) (s0 : Nat) (s1 : Int32) (S : SH) (I : II), sh.1 ≤ S.1 → S.1 ≤ Z.2.1.1 → f_X16_read_J22 F x1 s0 s1 S I = some Z → J G p l e (rmA rmf_X16_read rml_X16_read (Z.2.1.1 - sh.1)) s m args below meth c 2 (ocr G Z.1) Z.2 ((rmA rmf_X16_read rml_X16_read (Z.2.1.1 - sh.1))).cells ((rmA rmf_X16_read rml_X16_read (Z.2.1.1 - sh.1))).slots (S, I) ((S).1 - sh.1) (200 * ((S).1 - sh.1)) 22 [none, some (.ref (wad G x1))] [.int s1, .ref (wad G s0)] := by
      intro x1 s0 s1 S I hm hz hk
      unfold f_X16_read_J22 at hk
      replace hk := ock_some hk
      obtain ⟨h7, hk⟩ := hk
      replace hk := bd3_some hk
      obtain ⟨u22, S22, I22, h8, hk⟩ := hk
      replace hk := og_some hk
      obtain ⟨h9, hk⟩ := hk
      replace hk := omn3_some hk
      obtain ⟨h10, hk⟩ := hk
      have h11 : sh.1 ≤ S22.1 := Nat.le_trans hm h9
      cases u22 with
      | inr w22 =>
        replace hk := oex_r hk
        obtain rfl := Option.some.inj hk
        exact x_callVT (pc := 22) C (ct_X16_fault h8) mv_X16_fault h7 rfl rfl q1037 dX16_read_22 rfl rfl (Nat.le_of_ble_eq_true rfl) (rmOK.i (Nat.le_of_ble_eq_true rfl) (Nat.le_of_ble_eq_true rfl) (rm1 hm h9 h10) (rm2 hm h9 h10)) rfl (Nat.le_of_eq (rk1 hm h9)) (Nat.le_of_eq (rk2 hm h9))
      | inl _w22 =>
        replace hk := oex_l hk
        refine x_callV (pc := 22) C (ct_X16_fault h8) mv_X16_fault h7 rfl rfl q1037 dX16_read_22 rfl rfl (Nat.le_of_ble_eq_true rfl) (rmOK.i (Nat.le_of_ble_eq_true rfl) (Nat.le_of_ble_eq_true rfl) (rm1 hm h9 h10) (rm2 hm h9 h10)) ?_
        refine j_kn (k' := S22.1 - sh.1) (n' := 200 * (S22.1 - sh.1)) (rk1 hm h9) (rk2 hm h9) ?_
        refine j_aload_n (pc := 25) C dX16_read_25 rfl rfl ?_
        obtain rfl := Option.some.inj hk
        exact x_aret (pc := 26) C dX16_read_26 (Nat.le_refl _) (Nat.le_refl _) rfl
    refine j_icmp_ne (pc := 14) 21 C dX16_read_14 (by decide) (fun h12 => ?_) (fun h12 => ?_)
    · replace hk := it_f h12 hk
      refine j_iconst (pc := 21) (v := nI 0) C dX16_read_21 (by decide) ?_
      exact j_mask [false, true] (Jn22 _ _ _ _ _ h5 h4 hk)
    · replace hk := it_t h12 hk
      refine j_iconst (pc := 17) (v := nI 1) C dX16_read_17 (by decide) ?_
      refine j_goto (pc := 18) 22 C dX16_read_18 (by decide) ?_
      exact j_mask [false, true] (Jn22 _ _ _ _ _ h5 h4 hk)
