/-! PLAIN SIDE: kinds, prices, telling, forms -/
set_option maxRecDepth 100000
/-- whether kind k is one of kind q -/
def isT (k q : Nat) : Bool := k == q || q == 0 || (q == 1 && prd k)
theorem isOf_ok {sh : SH} {I : II} {dm k q : Nat} (h : obw sh dm (11 + k)) (hk : k < 6) (hq : q < 6) : v_X10_isOf sh dm (nI q) I = some (bI (isT k q)) := by
  unfold v_X10_isOf f_X15_isOf f_X14_isOf f_X13_isOf f_X12_isOf f_X11_isOf f_X10_isOf
  have hD : ∀ {β : Type} {f : Option β}, ockD sh dm f = f := ockD_ok h.r hk
  rw [og_ok (Or.inl h.1), h.2]
  simp only [hD]
  revert hq
  revert q
  revert hk
  revert k
  intro k _ hk
  have hc : k = 0 ∨ k = 1 ∨ k = 2 ∨ k = 3 ∨ k = 4 ∨ k = 5 := by omega
  intro q hq
  have hd : q = 0 ∨ q = 1 ∨ q = 2 ∨ q = 3 ∨ q = 4 ∨ q = 5 := by omega
  rcases hc with rfl | rfl | rfl | rfl | rfl | rfl <;> rcases hd with rfl | rfl | rfl | rfl | rfl | rfl <;> rfl
theorem asM_ok {I : II} {x : Int32} {k q : Nat} (hk : k < 6) (hq : q < 6) : f_X9_as_L30 FU x (nI q) FU (nI k) I = f_X9_as_J47 FU x (if isT k q = true then nI q else -1) I := by
  have step : ∀ (n : Nat) (z : Int32), f_X9_as_L30 FU x (nI q) (n + 1) z I = if z < 0 then f_X9_as_J47 FU x z I else if z = nI q then f_X9_as_J47 FU x z I else (f_X9_above z).bind fun r40 => f_X9_as_L30 FU x (nI q) n r40 I := fun n z => by rw [f_X9_as_L30]
  rw [show FU = 4996 + 1 + 1 + 1 + 1 from rfl]
  have hc : k = 0 ∨ k = 1 ∨ k = 2 ∨ k = 3 ∨ k = 4 ∨ k = 5 := by omega
  have hd : q = 0 ∨ q = 1 ∨ q = 2 ∨ q = 3 ∨ q = 4 ∨ q = 5 := by omega
  rcases hc with rfl | rfl | rfl | rfl | rfl | rfl <;> rcases hd with rfl | rfl | rfl | rfl | rfl | rfl <;> rfl
theorem act_9 {n : Nat} {S : SH} {I : II} {a1 a2 : Int32} (h : Inv n S I) : Act n (f_arm_9 FU a1 a2 S I) := by
  obtain ⟨ow, a, v, hO⟩ := h.op
  have hA := hO.aok
  unfold f_arm_9
  have bad : ∀ (X : Option (Int32 × II)) (Y : II → Option (Int32 × II)), X = f_X0_as_J22 S a1 a2 I → Y (EN I 1) = f_X9_as_J17 FU (EN I 1) → Act n (bd2 X fun r1 I1 => bd2 (Y I1) fun r2 I2 => og (r1 = r2) <| some (S, I2)) := by
    intro X Y hX hY
    refine Act.of (arm2 (r := -1000001) (I1 := EN I 1) ?_ ?_) (hO.bad (e := 1))
    · rw [hX]
      unfold f_X0_as_J22 f_X0_as_J23 f_X0_as_J60
      exact nbad hO.1 (by decide) (by decide)
    · rw [hY]
      unfold f_X9_as_J17
      exact mbad2 (by decide) (by decide)
  rcases law_cases hO a1 with ⟨h1, h2⟩ | ⟨l, hl, rfl, h1, h2⟩
  · refine bad _ _ ?_ ?_
    · unfold f_X0_as; rw [h1]; rfl
    · unfold f_X9_as; rw [isLawEN, h2]; rfl
  · rcases in_cases a2 0 5 (by decide) (by decide) with ⟨g1, g2⟩ | ⟨q, -, q2, rfl, g1, g2⟩
    · refine bad _ _ ?_ ?_
      · unfold f_X0_as; rw [h1, g1]; rfl
      · unfold f_X9_as; rw [isLawEN, h2, g2]; rfl
    · have hk := (hA.2.2.2.2.1 l hl).1
      obtain ⟨hS, hM, -, hv, v1, -, -, -, -, ⟨al, b1, b2⟩, -⟩ := hO.vn
      obtain ⟨dm, d1, d2⟩ := lst_get b2 hA.1 hl
      obtain ⟨x1, x2, x3, x4, x5, cl, x6, hC⟩ := id d2
      have hN : f_X0_as S (nI l) (nI q) I = bd2 (f_X0_need S (bI (isT (aK a l) q)) (nI 5) I) fun u49 I49 => oex u49 (fun _w49 => orf (S.2.2 dm 4) fun t53 => ock S t53 23 <| some ((I49 t53 4), I49)) (fun w49 => ock S w49 1 <| f_X0_as_J60 S w49 I49) := by
        unfold f_X0_as f_X0_as_J23
        rw [h1, Option.bind_some, if_neg (by decide), g1, Option.bind_some, if_neg (by decide), ngood, orf_ok hv, ock_ok v1.r, orf_ok b1, ock_ok b2.1.r, d1, Option.bind_some, ockD_ok x1.r hk, isOf_ok x1 hk (by omega), Option.bind_some]
      have hMM : ∀ I', I' 28 = I 28 → f_X9_as FU (nI l) (nI q) I' = f_X9_as_J47 FU (nI l) (if isT (aK a l) q = true then nI q else -1) I' := by
        intro I' e
        have hR' : RowIs (I' 28) a := by rw [e]; exact hO.row
        unfold f_X9_as
        rw [isLaw_congr e, h2, Option.bind_some, if_neg (by decide), g2, Option.bind_some, if_neg (by decide), kindOf_ok hR' hA.1 hl, Option.bind_some, asM_ok hk (by omega)]
      cases hi : isT (aK a l) q with
      | true =>
        refine Act.of (arm2 (r := nI (cN (aK a l))) (I1 := I) ?_ ?_) hO.same
        · rw [hN, hi, bI_t, ngood, orf_ok x6, ock_ok hC.1.r, hC.2.2.1]
        · rw [hMM I rfl, hi, if_pos rfl]
          unfold f_X9_as_J47
          rw [if_pos (nI_pos' (by omega)), casesOf_ok hO.row hA hO.tab hl]
          rfl
      | false =>
        refine Act.of (arm2 (r := -1000005) (I1 := EN I 5) ?_ ?_) (hO.bad (e := 5))
        · rw [hN, hi, bI_f]
          unfold f_X0_as_J60
          exact nbad hO.1 (by decide) (by decide)
        · rw [hMM _ (EN_x (by decide) (by decide)), hi, if_neg (by decide)]
          unfold f_X9_as_J47
          rw [if_neg m1_neg]
          exact mbad2 (by decide) (by decide)
theorem act_8 {n : Nat} {S : SH} {I : II} {a1 a2 : Int32} (h : Inv n S I) : Act n (f_arm_8 FU a1 a2 S I) := by
  obtain ⟨ow, a, v, hO⟩ := h.op
  have hA := hO.aok
  unfold f_arm_8
  have bad : ∀ (X : Option (Int32 × II)) (Y : II → Option (Int32 × II)), X = f_X0_price_J23 S a1 a2 I → Y (EN I 1) = f_X9_price_J18 (EN I 1) → Act n (bd2 X fun r1 I1 => bd2 (Y I1) fun r2 I2 => og (r1 = r2) <| some (S, I2)) := by
    intro X Y hX hY
    refine Act.of (arm2 (r := -1000001) (I1 := EN I 1) ?_ ?_) (hO.bad (e := 1))
    · rw [hX]
      unfold f_X0_price_J23 f_X0_price_J24 f_X0_price_J57
      exact nbad hO.1 (by decide) (by decide)
    · rw [hY]
      unfold f_X9_price_J18
      exact mbad2 (by decide) (by decide)
  rcases law_cases hO a1 with ⟨h1, h2⟩ | ⟨l, hl, rfl, h1, h2⟩
  · refine bad _ _ ?_ ?_
    · unfold f_X0_price; rw [h1]; rfl
    · unfold f_X9_price; rw [isLawEN, h2]; rfl
  · rcases in_cases a2 0 99 (by decide) (by decide) with ⟨g1, g2⟩ | ⟨p, -, p2, rfl, g1, g2⟩
    · refine bad _ _ ?_ ?_
      · unfold f_X0_price; rw [h1, g1]; rfl
      · unfold f_X9_price; rw [isLawEN, h2, g2]; rfl
    · have hk := (hA.2.2.2.2.1 l hl).1
      have h8 := hA.1
      obtain ⟨hS, hM, -, hv, w1, w2, w3, w4, w5, ⟨al, b1, b2⟩, w7⟩ := hO.vn
      obtain ⟨l1, l2, l3, ea, l4, l5, l6⟩ := id b2
      obtain ⟨dm, m1, m2⟩ := l6 l hl
      have d1 : f_J5_get S al (nI l) I = some dm := by
        obtain ⟨dm', d1, d2⟩ := lst_get b2 h8 hl
        have hea : arw S ea 200 10 := by
          rcases l5 with ⟨h, -⟩ | ⟨h, -⟩
          · omega
          · exact h
        unfold f_J5_get f_J16_checkIndex f_J13_checkIndex f_J5_elementData
        rw [ock_ok l1.r, l3, if_neg (nI_pos (by omega)), if_pos (nI_lt hl (by omega)), Option.bind_some, Option.bind_some, ock_ok l1.r, orf_ok l4, oar_ok hea.r, oix_ok (j := l) rfl (by omega) (by decide), orf_ok m1]
        rfl
      obtain ⟨x1, x2, x3, x4, x5, cl, x6, hC⟩ := id m2
      have d9 : ow dm ≠ 9 := by rw [x2]; decide
      have n28 : dm ≠ 28 := hM.ne d9 (by decide) (by decide)
      refine Act.of (arm2 (r := nI (aP a l)) (I1 := up2 I dm 2 (nI p)) (I2 := up2 (up2 I dm 2 (nI p)) 28 (30 + l) (nI p)) ?_ ?_) (hO.gen (a' := (aN a, aT a, aW a, aR a, aK a, upN (aP a) l p, aB a, aX a, aV a)) (by omega) (fun x _ _ _ _ _ _ x1' x2' => by rw [up2_n x1', up2_n (fun e => x2' (by rw [e]; exact x2))]) ?_ ?_ ?_ ?_ ?_ ?_)
      · unfold f_X0_price f_X0_price_J24
        rw [h1, Option.bind_some, if_neg (by decide), g1, Option.bind_some, if_neg (by decide), ngood, orf_ok hv, ock_ok w1.r, orf_ok b1, ock_ok l1.r, d1, Option.bind_some, ockD_ok x1.r hk, ockwD_ok x1 hk, x5]
      · unfold f_X9_price
        rw [isLaw_congr (up2_n n28.symm), h2, Option.bind_some, if_neg (by decide), g2, Option.bind_some, if_neg (by decide), oix_ok (j := 30 + l) (by rw [nI_add]) (by omega) (by decide), oix_ok (j := 30 + l) (by rw [nI_add]) (by omega) (by decide), up2_n n28.symm, (hO.row.2.2.2.2.1 l hl).2.1]
      · rw [up2_n (by decide), up2_n (hM.ne d9 (by decide) (by decide)).symm]
      · intro k hk
        rw [up2_n (by decide), up2_n (hM.ne d9 (by decide) (by decide)).symm, up2_n (by decide), up2_n (hM.ne d9 (by decide) (by decide)).symm]
        exact hO.2.2.2.2.2.1 k hk
      · rw [up2_n (by decide), up2_n (hM.ne d9 (by decide) (by decide)).symm, up2_n (by decide), up2_n (hM.ne d9 (by decide) (by decide)).symm, up2_n (by decide), up2_n (hM.ne d9 (by decide) (by decide)).symm, up2_n (by decide), up2_n (hM.ne d9 (by decide) (by decide)).symm]
        exact hO.2.2.2.2.2.2.1
      · obtain ⟨q1, q2, q3, q4, q5, q6⟩ := hA
        refine ⟨q1, q2, q3, q4, fun j hj => ⟨(q5 j hj).1, ?_, (q5 j hj).2.2⟩, q6⟩
        show upN _ _ _ _ ≤ 99
        rw [upN_r]; split
        · omega
        · exact (q5 j hj).2.1
      · obtain ⟨q1, q2, q3, q4, q5, q6, q7⟩ := hO.row
        have e28 : ∀ k, k ≠ 30 + l → up2 (up2 I dm 2 (nI p)) 28 (30 + l) (nI p) 28 k = I 28 k := fun k hk => by rw [up2_ne hk, up2_n n28.symm]
        refine ⟨by rw [e28 _ (by omega)]; exact q1, by rw [e28 _ (by omega)]; exact q2, by rw [e28 _ (by omega)]; exact q3, fun h hh => by rw [e28 _ (by omega)]; exact q4 h hh, fun j hj => ?_, fun k hk => by rw [e28 _ (by omega)]; exact q6 k hk, fun k hk => by rw [e28 _ (by omega)]; exact q7 k hk⟩
        have hj : j < aN a := hj
        obtain ⟨z1, z2, z3⟩ := q5 j hj
        refine ⟨by rw [e28 _ (by omega)]; exact z1, ?_, fun i hi => by rw [e28 _ (by omega)]; exact z3 i hi⟩
        show _ = nI (upN _ _ _ _)
        by_cases e : j = l
        · subst e; rw [up2_eq, upN_s]
        · rw [e28 _ (by omega), upN_n e]; exact z2
      · have key : ∀ x, (ow x = 1 ∨ ow x = 0) → x ≠ dm → up2 (up2 I dm 2 (nI p)) 28 (30 + l) (nI p) x = I x := by
          intro x hx hxd
          have hx9 : ow x ≠ 9 := by rcases hx with hx | hx <;> rw [hx] <;> decide
          rw [up2_n (hM.ne hx9 (by decide) (by decide)), up2_n hxd]
        have kc : ∀ x, (ow x = 1 ∨ ow x = 0) → (sh_ne : (S.2.1 x).1 ≠ 11 + aK a l) → up2 (up2 I dm 2 (nI p)) 28 (30 + l) (nI p) x = I x := fun x hx hne => key x hx (fun e => hne (by rw [e]; exact x1.2))
        obtain ⟨tl, t1, t2, t3, t4⟩ := w5
        obtain ⟨⟨tp, c1, c2, c3, c4⟩, wl, y1, y2, y3, y4⟩ := w7
        refine ⟨w1, w2, by rw [kc v (Or.inl w2) (by rw [w1.2]; omega)]; exact w3, by rw [kc v (Or.inl w2) (by rw [w1.2]; omega)]; exact w4, ⟨tl, t1, t2, t3, by rw [kc tl (Or.inl t3) (by rw [t2.2]; show (100 : Nat) ≠ _; omega)]; exact t4⟩, ⟨al, b1, l1, l2, by rw [kc al (Or.inl l2) (by rw [l1.2]; omega)]; exact l3, ea, l4, l5, fun j hj => ?_⟩, ⟨tp, c1, c2, c3, by rw [kc tp (Or.inl c3) (by rw [c2.2]; show (101 : Nat) ≠ _; omega)]; exact c4⟩, wl, y1, y2, y3, by rw [kc wl (Or.inl y3) (by rw [y2.2]; show (100 : Nat) ≠ _; omega)]; exact y4⟩
        have hj : j < aN a := hj
        have cask : ∀ {cl' kd : Nat} {T : Nat → Nat}, Cas S I ow cl' kd T → Cas S (up2 (up2 I dm 2 (nI p)) 28 (30 + l) (nI p)) ow cl' kd T := fun hC' => hC'.kept (fun x hx => key x (Or.inr hx) (fun e => by rw [e, x2] at hx; cases hx))
        by_cases e : j = l
        · subst e
          refine ⟨dm, m1, x1, x2, x3, ?_, ?_, cl, x6, cask hC⟩
          · rw [up2_n n28, up2_ne (by decide)]; exact x4
          · show _ = nI (upN _ _ _ _)
            rw [up2_n n28, up2_eq, upN_s]
        · obtain ⟨d', z1, z2⟩ := l6 j hj
          obtain ⟨u1, u2, u3, u4, u5, cl', u6, hC'⟩ := z2
          have hdd : d' ≠ dm := by
            intro hd
            rw [hd, x4] at u4
            exact e ((nI_eq (by omega) (by omega)).mp u4).symm
          refine ⟨d', z1, u1, u2, u3, by rw [key d' (Or.inl u2) hdd]; exact u4, ?_, cl', u6, cask hC'⟩
          show _ = nI (upN _ _ _ _)
          rw [key d' (Or.inl u2) hdd, upN_n e]; exact u5
