/-! PLAIN SIDE: a village's copy -/
set_option maxRecDepth 100000
theorem lst_get2 {sh : SH} {I : II} {al l n ea d : Nat} (h1 : obw sh al 3) (h3 : I al 2 = nI n) (h8 : n ≤ 8) (hl : l < n) (he : sh.2.2 al 1 = some ea) (ha : arw sh ea 200 10) (hd : sh.2.2 ea l = some d) : f_J5_get sh al (nI l) I = some d := by
  unfold f_J5_get f_J16_checkIndex f_J13_checkIndex f_J5_elementData
  rw [ock_ok h1.r, h3, if_neg (nI_pos (by omega)), if_pos (nI_lt hl (by omega)), Option.bind_some, Option.bind_some, ock_ok h1.r, orf_ok he, oar_ok ha.r, oix_ok (j := l) rfl (by omega) (by decide), orf_ok hd]
  rfl
/-- one law of the list that is made -/
def CPd (s S : SH) (I J : II) (ow : Nat → Nat) (a : AS) (ea j : Nat) : Prop := ∃ d cl : Nat, S.2.2 ea j = some d ∧ s.1 + 5 ≤ d ∧ obw S d (11 + aK a j) ∧ S.2.2 d 0 = some 7 ∧ J d 1 = nI j ∧ J d 2 = nI (aP a j) ∧ S.2.2 d 4 = some cl ∧ Cas s I ow cl (aK a j) (aX a j)
/-- l laws are copied -/
def CP (s S : SH) (I J : II) (ow : Nat → Nat) (a : AS) (l : Nat) : Prop := (s.1 + 5 ≤ S.1 ∧ S.1 ≤ s.1 + 5 + 2 * l) ∧ (∀ x, (x < s.1 ∨ exA ≤ x) → S.2.1 x = s.2.1 x ∧ S.2.2 x = s.2.2 x ∧ J x = I x) ∧
  (S.2.1 s.1 = (2, 0) ∧ S.2.1 (s.1 + 1) = (100, 12) ∧ S.2.1 (s.1 + 2) = (3, 0) ∧ S.2.1 (s.1 + 3) = (101, 50) ∧ S.2.1 (s.1 + 4) = (100, 20)) ∧
  (S.2.2 s.1 0 = some (s.1 + 1) ∧ S.2.2 s.1 1 = some (s.1 + 2) ∧ S.2.2 s.1 2 = some (s.1 + 3) ∧ S.2.2 s.1 4 = some (s.1 + 4)) ∧
  (∀ h, h < 12 → J (s.1 + 1) h = nI (aR a h)) ∧ J (s.1 + 2) 2 = nI l ∧
  ∃ ea, S.2.2 (s.1 + 2) 1 = some ea ∧ ((l = 0 ∧ ea = exA + 30) ∨ (arw S ea 200 10 ∧ s.1 + 5 ≤ ea)) ∧ ∀ j, j < l → CPd s S I J ow a ea j
theorem CPd.st {s S S' : SH} {I J J' : II} {ow : Nat → Nat} {a : AS} {ea ea' j : Nat} (h : CPd s S I J ow a ea j) (hk : aK a j < 6) (hl : S.1 ≤ S'.1) (he : ∀ d, S.2.2 ea j = some d → S'.2.2 ea' j = some d) (e : ∀ x, x < S.1 → s.1 + 5 ≤ x → (S.2.1 x).1 < 100 → S'.2.1 x = S.2.1 x ∧ S'.2.2 x = S.2.2 x ∧ J' x = J x) : CPd s S' I J' ow a ea' j := by
  obtain ⟨d, cl, h1, h2, h3, h4, h5, h6, h7, h8⟩ := h
  obtain ⟨e1, e2, e3⟩ := e d h3.1 h2 (by rw [h3.2]; omega)
  exact ⟨d, cl, he d h1, h2, ⟨Nat.lt_of_lt_of_le h3.1 hl, by rw [e1]; exact h3.2⟩, by rw [e2]; exact h4, by rw [e3]; exact h5, by rw [e3]; exact h6, by rw [e2]; exact h7, h8⟩
theorem i8id (y : Int8) : Int8.toInt32 (Int32.toInt8 (Int8.toInt32 y)) = Int8.toInt32 y := by simp
/-- one law more -/
theorem cp_step {s S : SH} {I J : II} {ow : Nat → Nat} {a : AS} {l dm cl : Nat} (hA : AOK a) (hO : Out s I) (hl : s.1 + 30 < exA) (h : CP s S I J ow a l) (hla : l < aN a) (hd : obw s dm (11 + aK a l)) (hd7 : s.2.2 dm 0 = some 7) (hi1 : I dm 1 = nI l) (hi2 : I dm 2 = nI (aP a l)) (hcl : s.2.2 dm 4 = some cl) (hC : Cas s I ow cl (aK a l) (aX a l)) : ∃ S' J', v_X10_again S dm J = some (S.1, agS S (aK a l) dm, deI S J (J dm 1) (J dm 2)) ∧ f_J5_add (agS S (aK a l) dm) (s.1 + 2) S.1 (deI S J (J dm 1) (J dm 2)) = some (nI 1, S', J') ∧ obw (agS S (aK a l) dm) (s.1 + 2) 3 ∧ (agS S (aK a l) dm).1 ≤ S'.1 ∧ CP s S' I J' ow a (l + 1) := by
  have h8 := hA.1
  have hk := (hA.2.2.2.2.1 l hla).1
  obtain ⟨⟨c1, c2⟩, c3, ⟨k0, k1, k2, k3, k4⟩, ⟨r0, r1, r2, r4⟩, c5, c6, ea, c7, c8, c9⟩ := h
  have xA : exA = 1000000000 := rfl
  have xS : exS = 1000000063 := rfl
  have dlt : dm < s.1 := hd.1
  obtain ⟨d1, d2, d3⟩ := c3 dm (Or.inl dlt)
  have hdS : obw S dm (11 + aK a l) := ⟨by omega, by rw [d1]; exact hd.2⟩
  have hag := again_ok (J := J) hdS hk (by rw [d2]; exact hd7) (show S.1 < exA by omega)
  -- what is laid upon
  have g1 : ∀ x, x ≠ S.1 → (agS S (aK a l) dm).2.1 x = S.2.1 x := fun x hx => by
    show (newS S (11 + aK a l) 0).2.1 x = _
    rw [nS_k hx]
  have g2 : ∀ x, x ≠ S.1 → (agS S (aK a l) dm).2.2 x = S.2.2 x := fun x hx => by rw [sR_n hx, sR_n hx, sR_n hx, nS_f hx]
  have g3 : ∀ x, x ≠ S.1 → deI S J (J dm 1) (J dm 2) x = J x := fun x hx => by
    show up2 (up2 (newI S J) S.1 1 (J dm 1)) S.1 2 (J dm 2) x = _
    rw [up2_n hx, up2_n hx, nI_x hx]
  have q1 : (agS S (aK a l) dm).2.1 S.1 = (11 + aK a l, 0) := by
    show (newS S (11 + aK a l) 0).2.1 S.1 = _
    rw [nS_kn]
  have q2 : (agS S (aK a l) dm).2.2 S.1 0 = some 7 := by rw [sR_j (by decide), sR_j (by decide), sR_s]
  have q3 : (agS S (aK a l) dm).2.2 S.1 4 = some cl := by rw [sR_s, d2]; exact hcl
  have q4 : deI S J (J dm 1) (J dm 2) S.1 1 = nI l := by
    show up2 (up2 (newI S J) S.1 1 (J dm 1)) S.1 2 (J dm 2) S.1 1 = _
    rw [up2_ne (by decide), up2_eq, d3]; exact hi1
  have q5 : deI S J (J dm 1) (J dm 2) S.1 2 = nI (aP a l) := by
    show up2 (up2 (newI S J) S.1 1 (J dm 1)) S.1 2 (J dm 2) S.1 2 = _
    rw [up2_eq, d3]; exact hi2
  have q0 : (agS S (aK a l) dm).1 = S.1 + 1 := rfl
  generalize agS S (aK a l) dm = A at hag g1 g2 q0 q1 q2 q3 ⊢
  generalize deI S J (J dm 1) (J dm 2) = K at hag g3 q4 q5 ⊢
  have hal : obw A (s.1 + 2) 3 := ⟨by omega, by rw [g1 _ (by omega), k2]⟩
  have hnd : obw A S.1 (11 + aK a l) := ⟨by omega, by rw [q1]⟩
  have hJ2 : K (s.1 + 2) 2 = nI l := by rw [g3 _ (by omega)]; exact c6
  have hea : A.2.2 (s.1 + 2) 1 = some ea := by rw [g2 _ (by omega)]; exact c7
  rcases c8 with ⟨rfl, rfl⟩ | ⟨c8, c8'⟩
  · -- the first one
    have hx : A.2.1 (exA + 30) = (200, 0) := by
      rw [g1 _ (by omega), (c3 _ (Or.inr (by omega))).1, (hO.2.1 _ (by omega)).1]
      decide
    have hS : A.2.2 exS 0 = some (exA + 30) := by rw [g2 _ (by omega), (c3 _ (Or.inr (by omega))).2.1]; exact hO.1
    have had := add0_ok hal hnd hk hea hJ2 hx hS (show A.1 < exA by omega)
    refine ⟨_, _, hag, had, hal, Nat.le_succ _, ⟨?_, ?_⟩, fun x hx => ?_, ⟨?_, ?_, ?_, ?_, ?_⟩, ⟨?_, ?_, ?_, ?_⟩, fun h hh => ?_, ?_, A.1, ?_, Or.inr ⟨⟨Nat.lt_succ_self _, nS_kn⟩, by omega⟩, fun j hj => ?_⟩
    · show s.1 + 5 ≤ A.1 + 1; omega
    · show A.1 + 1 ≤ s.1 + 5 + 2 * (0 + 1); omega
    · obtain ⟨u1, u2, u3⟩ := c3 x hx
      refine ⟨?_, ?_, ?_⟩
      · show (newS A 200 10).2.1 x = _
        rw [nS_k (by omega), g1 x (by omega), u1]
      · rw [sR_n (by omega), sR_n (by omega), nS_f (by omega), g2 x (by omega), u2]
      · rw [up2_n (by omega), nI_x (by omega), up2_n (by omega), g3 x (by omega), u3]
    · show (newS A 200 10).2.1 _ = _
      rw [nS_k (by omega), g1 _ (by omega), k0]
    · show (newS A 200 10).2.1 _ = _
      rw [nS_k (by omega), g1 _ (by omega), k1]
    · show (newS A 200 10).2.1 _ = _
      rw [nS_k (by omega), g1 _ (by omega), k2]
    · show (newS A 200 10).2.1 _ = _
      rw [nS_k (by omega), g1 _ (by omega), k3]
    · show (newS A 200 10).2.1 _ = _
      rw [nS_k (by omega), g1 _ (by omega), k4]
    · rw [sR_n (by omega), sR_n (by omega), nS_f (by omega), g2 _ (by omega), r0]
    · rw [sR_n (by omega), sR_n (by omega), nS_f (by omega), g2 _ (by omega), r1]
    · rw [sR_n (by omega), sR_n (by omega), nS_f (by omega), g2 _ (by omega), r2]
    · rw [sR_n (by omega), sR_n (by omega), nS_f (by omega), g2 _ (by omega), r4]
    · rw [up2_n (by omega), nI_x (by omega), up2_n (by omega), g3 _ (by omega)]; exact c5 h hh
    · rw [up2_eq]
    · rw [sR_n (by omega), sR_s]
    · obtain rfl : j = 0 := by omega
      refine ⟨S.1, cl, sR_s, by omega, ⟨?_, ?_⟩, ?_, ?_, ?_, ?_, hC⟩
      · show S.1 < A.1 + 1; omega
      · show ((newS A 200 10).2.1 S.1).1 = _
        rw [nS_k (by omega), q1]
      · rw [sR_n (by omega), sR_n (by omega), nS_f (by omega), q2]
      · rw [up2_n (by omega), nI_x (by omega), up2_n (by omega), q4]
      · rw [up2_n (by omega), nI_x (by omega), up2_n (by omega), q5]
      · rw [sR_n (by omega), sR_n (by omega), nS_f (by omega), q3]
  · have hne : ea ≠ S.1 := Nat.ne_of_lt c8.1
    have haA : arw A ea 200 10 := ⟨by have := c8.1; omega, by rw [g1 _ hne]; exact c8.2⟩
    have had := add_ok hal hnd hk hea hJ2 (show l < 10 by omega) haA
    refine ⟨_, _, hag, had, hal, Nat.le_refl _, ⟨?_, ?_⟩, fun x hx => ?_, ⟨?_, ?_, ?_, ?_, ?_⟩, ⟨?_, ?_, ?_, ?_⟩, fun h hh => ?_, ?_, ea, ?_, Or.inr ⟨haA, c8'⟩, fun j hj => ?_⟩
    · show s.1 + 5 ≤ A.1; omega
    · show A.1 ≤ s.1 + 5 + 2 * (l + 1); omega
    · obtain ⟨u1, u2, u3⟩ := c3 x hx
      have hxe : x ≠ ea := fun e => by rw [e] at hx; have := c8.1; omega
      refine ⟨?_, ?_, ?_⟩
      · show A.2.1 x = _
        rw [g1 x (by omega), u1]
      · rw [sR_n hxe, g2 x (by omega), u2]
      · rw [up2_n (by omega), up2_n (by omega), g3 x (by omega), u3]
    · show A.2.1 _ = _
      rw [g1 _ (by omega), k0]
    · show A.2.1 _ = _
      rw [g1 _ (by omega), k1]
    · show A.2.1 _ = _
      rw [g1 _ (by omega), k2]
    · show A.2.1 _ = _
      rw [g1 _ (by omega), k3]
    · show A.2.1 _ = _
      rw [g1 _ (by omega), k4]
    · rw [sR_n (by omega), g2 _ (by omega), r0]
    · rw [sR_n (by omega), g2 _ (by omega), r1]
    · rw [sR_n (by omega), g2 _ (by omega), r2]
    · rw [sR_n (by omega), g2 _ (by omega), r4]
    · rw [up2_n (by omega), up2_n (by omega), g3 _ (by omega)]; exact c5 h hh
    · rw [up2_eq]
    · rw [sR_n (by omega), hea]
    · have hSe : S.1 ≠ ea := fun e => hne e.symm
      by_cases ej : j = l
      · subst ej
        refine ⟨S.1, cl, sR_s, by omega, ⟨?_, ?_⟩, ?_, ?_, ?_, ?_, hC⟩
        · show S.1 < A.1; omega
        · show (A.2.1 S.1).1 = _
          rw [q1]
        · rw [sR_n hSe, q2]
        · rw [up2_n (by omega), up2_n (by omega), q4]
        · rw [up2_n (by omega), up2_n (by omega), q5]
        · rw [sR_n hSe, q3]
      · refine (c9 j (by omega)).st (hA.2.2.2.2.1 j (by omega)).1 (show S.1 ≤ A.1 by omega) (fun d hdd => ?_) (fun x hx x5 x100 => ?_)
        · rw [sR_j ej, g2 _ hne]; exact hdd
        · have hxe : x ≠ ea := fun e => by rw [e, c8.2] at x100; exact absurd x100 (by decide)
          refine ⟨?_, ?_, ?_⟩
          · show A.2.1 x = _
            rw [g1 x (by omega)]
          · rw [sR_n hxe, g2 x (by omega)]
          · rw [up2_n (by omega), up2_n (by omega), g3 x (by omega)]
abbrev cK1 (n tp : Nat) (J : II) : II := upr J (n + 3) (va_cpy (J tp) (J (n + 3)) (Int32.toNatClampNeg (nI 0)) (Int32.toNatClampNeg (nI 0)) (Int32.toNatClampNeg (nI 50)))
abbrev cK2 (n v tp : Nat) (J : II) : II := up2 (cK1 n tp J) n 3 (cK1 n tp J v 3)
abbrev cK3 (n v tp wl : Nat) (J : II) : II := upr (cK2 n v tp J) (n + 4) (va_cpy (cK2 n v tp J wl) (cK2 n v tp J (n + 4)) (Int32.toNatClampNeg (nI 0)) (Int32.toNatClampNeg (nI 0)) (Int32.toNatClampNeg (nI 20)))
abbrev cK4 (n v tp wl : Nat) (J : II) : II := up2 (cK3 n v tp wl J) n 5 (cK3 n v tp wl J v 5)
theorem cK2_x {n v tp x : Nat} {J : II} (h1 : x ≠ n) (h2 : x ≠ n + 3) : cK2 n v tp J x = J x := (up2_n h1).trans (upr_n h2)
theorem cK4_x {n v tp wl x : Nat} {J : II} (h1 : x ≠ n) (h2 : x ≠ n + 3) (h3 : x ≠ n + 4) : cK4 n v tp wl J x = J x := (up2_n h1).trans ((upr_n h3).trans (cK2_x h1 h2))
theorem cK4_3 {n v tp wl : Nat} {J : II} (h2 : v ≠ n + 3) : cK4 n v tp wl J n 3 = J v 3 := by
  refine (up2_ne (by decide)).trans ?_
  have e1 : cK3 n v tp wl J n = cK2 n v tp J n := upr_n (by omega)
  rw [e1]
  refine up2_eq.trans ?_
  have e2 : cK1 n tp J v = J v := upr_n h2
  rw [e2]
theorem cK4_5 {n v tp wl : Nat} {J : II} (h1 : v ≠ n) (h2 : v ≠ n + 3) (h3 : v ≠ n + 4) : cK4 n v tp wl J n 5 = J v 5 := by
  refine up2_eq.trans ?_
  have e1 : cK3 n v tp wl J v = cK2 n v tp J v := upr_n h3
  rw [e1, cK2_x h1 h2]
theorem cK4_t {n v tp wl k : Nat} {J : II} (hk : k < 50) : cK4 n v tp wl J (n + 3) k = J tp k := by
  have e1 : cK4 n v tp wl J (n + 3) = cK1 n tp J (n + 3) := (up2_n (by omega)).trans ((upr_n (by omega)).trans (up2_n (by omega)))
  have e2 : cK1 n tp J (n + 3) = va_cpy (J tp) (J (n + 3)) (Int32.toNatClampNeg (nI 0)) (Int32.toNatClampNeg (nI 0)) (Int32.toNatClampNeg (nI 50)) := upr_s
  rw [e1, e2, show Int32.toNatClampNeg (nI 0) = 0 by decide, show Int32.toNatClampNeg (nI 50) = 50 by decide, pk_cpy_in (by omega) (by omega), Nat.sub_zero, Nat.zero_add]
theorem cK4_w {n v tp wl k : Nat} {J : II} (h1 : wl ≠ n) (h2 : wl ≠ n + 3) (hk : k < 20) : cK4 n v tp wl J (n + 4) k = J wl k := by
  have e1 : cK4 n v tp wl J (n + 4) = cK3 n v tp wl J (n + 4) := up2_n (by omega)
  have e2 : cK3 n v tp wl J (n + 4) = va_cpy (cK2 n v tp J wl) (cK2 n v tp J (n + 4)) (Int32.toNatClampNeg (nI 0)) (Int32.toNatClampNeg (nI 0)) (Int32.toNatClampNeg (nI 20)) := upr_s
  rw [e1, e2, show Int32.toNatClampNeg (nI 0) = 0 by decide, show Int32.toNatClampNeg (nI 20) = 20 by decide, pk_cpy_in (by omega) (by omega), Nat.sub_zero, Nat.zero_add, cK2_x h1 h2]
/-- what a copy is -/
theorem copy_ok {s : SH} {I : II} {ow : Nat → Nat} {t : Nat} {a : AS} {v : Nat} (hA : AOK a) (hO : Out s I) (hl : s.1 + 30 < exA) (hV : Vil s I ow t a v) : ∃ S J, f_X2_copy FU s v I = some (s.1, S, J) ∧ (s.1 + 5 ≤ S.1 ∧ S.1 ≤ s.1 + 21) ∧ (∀ x, (x < s.1 ∨ exA ≤ x) → S.2.1 x = s.2.1 x ∧ S.2.2 x = s.2.2 x ∧ J x = I x) ∧ ∀ (ow' : Nat → Nat) (t' : Nat), (∀ x, s.1 ≤ x → x < exA → ow' x = t') → (∀ x, x < s.1 → ow x = 0 → ow' x = 0) → Vil S J ow' t' a s.1 := by
  have F5 := FU5
  have h8 := hA.1
  have xA : exA = 1000000000 := rfl
  obtain ⟨v1, v2, v3, v4, ⟨tl, t1, t2, t3, t4⟩, ⟨al, b1, b2⟩, ⟨tp, d1, d2, d3, d4⟩, wl, e1, e2, e3, e4⟩ := id hV
  obtain ⟨l1, l2, l3, ea0, l4, l5, l6⟩ := b2
  obtain ⟨S0, J0, hi, n1, n2, ⟨n3, n4, n5, n6, n7⟩, ⟨n8, n9, n10, n11, n12⟩, n13, n14, n15, n16, n17, n18⟩ := vinit_ok (s := s) (I := I) (by omega)
  have z0 : Int32.toNatClampNeg (nI 0) = 0 := by decide
  have z50 : Int32.toNatClampNeg (nI 50) = 50 := by decide
  have z20 : Int32.toNatClampNeg (nI 20) = 20 := by decide
  have z12 : Int32.toNatClampNeg (nI 12) = 12 := by decide
  have vlt : v < s.1 := v1.1
  have tlt : tl < s.1 := t2.1
  have plt : tp < s.1 := d2.1
  have wlt : wl < s.1 := e2.1
  have alt : al < s.1 := l1.1
  -- the loop over the laws
  have loop : ∀ (d l q : Nat) (S : SH) (J : II), l + d = aN a → d + 1 ≤ q → CP s S I J ow a l → ∃ S' J', f_X2_copy_L25 FU v s.1 q (nI l) S J = some (s.1, S', J') ∧ S.1 ≤ S'.1 ∧ (s.1 + 5 ≤ S'.1 ∧ S'.1 ≤ s.1 + 21) ∧ (∀ x, (x < s.1 ∨ exA ≤ x) → S'.2.1 x = s.2.1 x ∧ S'.2.2 x = s.2.2 x ∧ J' x = I x) ∧ ∀ (ow' : Nat → Nat) (t' : Nat), (∀ x, s.1 ≤ x → x < exA → ow' x = t') → (∀ x, x < s.1 → ow x = 0 → ow' x = 0) → Vil S' J' ow' t' a s.1 := by
    intro d
    induction d with
    | zero =>
      intro l q S J hld hq h
      obtain ⟨q, rfl⟩ := pred1 hq
      obtain rfl : l = aN a := by omega
      obtain ⟨⟨c1, c2⟩, c3, ⟨k0, k1, k2, k3, k4⟩, ⟨r0, r1, r2, r4⟩, c5, c6, ea, c7, c8, c9⟩ := h
      have hvS : obw S v 2 := ⟨by omega, by rw [(c3 v (Or.inl vlt)).1]; exact v1.2⟩
      have halS : obw S al 3 := ⟨by omega, by rw [(c3 al (Or.inl alt)).1]; exact l1.2⟩
      have htS : arw S tp 101 50 := ⟨by omega, by rw [(c3 tp (Or.inl plt)).1]; exact d2.2⟩
      have hwS : arw S wl 100 20 := ⟨by omega, by rw [(c3 wl (Or.inl wlt)).1]; exact e2.2⟩
      have rv : ∀ k, S.2.2 v k = s.2.2 v k := fun k => by rw [(c3 v (Or.inl vlt)).2.1]
      have hnS : obw S s.1 2 := ⟨by omega, by rw [k0]⟩
      have hsz : f_J5_size S al J = some (nI (aN a)) := by
        unfold f_J5_size
        rw [ock_ok halS.r, (c3 al (Or.inl alt)).2.2, l3]
      have hnar : ∀ i, i < Int32.toNatClampNeg (nI 50) → Int8.toInt32 (Int32.toInt8 (J tp (Int32.toNatClampNeg (nI 0) + i))) = J tp (Int32.toNatClampNeg (nI 0) + i) := by
        intro i hi
        rw [z50] at hi
        rw [z0, Nat.zero_add, (c3 tp (Or.inl plt)).2.2, d4 i hi]
        exact i8id _
      refine ⟨S, cK4 s.1 v tp wl J, ?_, Nat.le_refl _, ⟨c1, by omega⟩, ?_, ?_⟩
      · rw [f_X2_copy_L25, ock_ok hvS.r, orf_ok (by rw [rv]; exact b1), ock_ok halS.r, hsz, Option.bind_some, if_pos (nI_le (by omega) (by omega)), orf_ok (by rw [rv]; exact d1), ock_ok hnS.r, orf_ok r2, oar_ok htS.r, oarw_ok (show arw S (s.1 + 3) 101 50 from ⟨by omega, k3⟩), og_ok (by decide), og_ok hnar, ockw_ok hnS, orf_ok (by rw [rv]; exact e1), orf_ok r4, oar_ok hwS.r, oarw_ok (show arw S (s.1 + 4) 100 20 from ⟨by omega, k4⟩), og_ok (by decide)]
      · intro x hx
        obtain ⟨u1, u2, u3⟩ := c3 x hx
        refine ⟨u1, u2, ?_⟩
        rw [cK4_x (by omega) (by omega) (by omega), u3]
      · intro ow' t' o1 o2
        have oN : ∀ j, j < 10 → ow' (s.1 + j) = t' := fun j hj => o1 _ (by omega) (by omega)
        have o0 := oN 0 (by omega)
        rw [Nat.add_zero] at o0
        refine ⟨⟨by omega, by rw [k0]⟩, o0, ?_, ?_, ⟨s.1 + 1, r0, ⟨by omega, k1⟩, oN 1 (by omega), fun h hh => ?_⟩, ⟨s.1 + 2, r1, ⟨by omega, by rw [k2]⟩, oN 2 (by omega), ?_, ea, c7, ?_, fun l hl => ?_⟩, ⟨s.1 + 3, r2, ⟨by omega, k3⟩, oN 3 (by omega), fun k hk => ?_⟩, s.1 + 4, r4, ⟨by omega, k4⟩, oN 4 (by omega), fun k hk => ?_⟩
        · rw [cK4_3 (by omega), (c3 v (Or.inl vlt)).2.2]; exact v3
        · rw [cK4_5 (by omega) (by omega) (by omega), (c3 v (Or.inl vlt)).2.2]; exact v4
        · rw [cK4_x (by omega) (by omega) (by omega)]; exact c5 h hh
        · rw [cK4_x (by omega) (by omega) (by omega)]; exact c6
        · rcases c8 with c8 | ⟨c8, c8'⟩
          · exact Or.inl c8
          · exact Or.inr ⟨c8, o1 _ (by omega) (by have := c8.1; omega)⟩
        · obtain ⟨d, cl, m1, m2, m3, m4, m5, m6, m7, m8⟩ := c9 l hl
          refine ⟨d, m1, m3, o1 _ (by omega) (by have := m3.1; omega), m4, ?_, ?_, cl, m7, m8.grow (by omega) (fun x x1 x2 => ?_)⟩
          · rw [cK4_x (by omega) (by omega) (by omega)]; exact m5
          · rw [cK4_x (by omega) (by omega) (by omega)]; exact m6
          · obtain ⟨u1, u2, u3⟩ := c3 x (Or.inl x1)
            refine ⟨u1, u2, ?_, by rw [o2 x x1 x2, x2]⟩
            rw [cK4_x (by omega) (by omega) (by omega), u3]
        · rw [cK4_t hk, (c3 tp (Or.inl plt)).2.2]; exact d4 k hk
        · rw [cK4_w (by omega) (by omega) hk, (c3 wl (Or.inl wlt)).2.2]; exact e4 k hk
    | succ d ih =>
      intro l q S J hld hq h
      obtain ⟨q, rfl⟩ := pred1 hq
      replace hq := Nat.le_of_succ_le_succ hq
      have hla : l < aN a := by omega
      have hk := (hA.2.2.2.2.1 l hla).1
      obtain ⟨dm, p1, p2⟩ := l6 l hla
      have har0 : arw s ea0 200 10 := by
        rcases l5 with ⟨h, -⟩ | ⟨h, -⟩
        · omega
        · exact h
      obtain ⟨x1, x2, x3, x4, x5, cl, x6, hC⟩ := p2
      obtain ⟨S', J', g1, g2, g3, g4, g5⟩ := cp_step hA hO hl h hla x1 x3 x4 x5 x6 hC
      obtain ⟨⟨c1, c2⟩, c3, ⟨k0, k1, k2, k3, k4⟩, ⟨r0, r1, r2, r4⟩, c5, c6, ea, c7, c8, c9⟩ := h
      have hvS : obw S v 2 := ⟨by omega, by rw [(c3 v (Or.inl vlt)).1]; exact v1.2⟩
      have halS : obw S al 3 := ⟨by omega, by rw [(c3 al (Or.inl alt)).1]; exact l1.2⟩
      have rv : ∀ k, S.2.2 v k = s.2.2 v k := fun k => by rw [(c3 v (Or.inl vlt)).2.1]
      have hnS : obw S s.1 2 := ⟨by omega, by rw [k0]⟩
      have hsz : f_J5_size S al J = some (nI (aN a)) := by
        unfold f_J5_size
        rw [ock_ok halS.r, (c3 al (Or.inl alt)).2.2, l3]
      have hget : f_J5_get S al (nI l) J = some dm := lst_get2 halS (by rw [(c3 al (Or.inl alt)).2.2]; exact l3) h8 hla (by rw [(c3 al (Or.inl alt)).2.1]; exact l4) (show arw S ea0 200 10 from ⟨by have := har0.1; omega, by rw [(c3 ea0 (Or.inl har0.1)).1]; exact har0.2⟩) (by rw [(c3 ea0 (Or.inl har0.1)).2.1]; exact p1)
      have hdS : obw S dm (11 + aK a l) := ⟨by have := x1.1; omega, by rw [(c3 dm (Or.inl x1.1)).1]; exact x1.2⟩
      obtain ⟨S2, J2, y1, y2, y3, y4, y5⟩ := ih (l + 1) q S' J' (by omega) hq g5
      have hag1 : S.1 ≤ (agS S (aK a l) dm).1 := Nat.le_succ _
      refine ⟨S2, J2, ?_, Nat.le_trans hag1 (Nat.le_trans g4 y2), y3, y4, y5⟩
      rw [f_X2_copy_L25, ock_ok hvS.r, orf_ok (by rw [rv]; exact b1), ock_ok halS.r, hsz, Option.bind_some, if_neg (nI_ge hla (by omega)), ock_ok hnS.r, orf_ok r1, orf_ok (by rw [rv]; exact b1), ock_ok halS.r, hget, Option.bind_some, ockD_ok hdS.r hk, bd3_ok g1, og_ok hag1, ock_ok g3.r, bd3_ok g2, og_ok g4, nI_add]
      exact omn3_ok (omn3_ok y1 y2) (Nat.le_trans g4 y2)
  -- the told rule
  have hv0 : obw S0 v 2 := ⟨by omega, by rw [(n2 v (Or.inl vlt)).1]; exact v1.2⟩
  have ht0 : arw S0 tl 100 12 := ⟨by omega, by rw [(n2 tl (Or.inl tlt)).1]; exact t2.2⟩
  have hn0 : obw S0 s.1 2 := ⟨by omega, by rw [n3]⟩
  have hcp : CP s S0 I (upr J0 (s.1 + 1) (va_cpy (J0 tl) (J0 (s.1 + 1)) (Int32.toNatClampNeg (nI 0)) (Int32.toNatClampNeg (nI 0)) (Int32.toNatClampNeg (nI 12)))) ow a 0 := by
    refine ⟨⟨by omega, by omega⟩, fun x hx => ?_, ⟨n3, n4, n5, n6, n7⟩, ⟨n8, n9, n10, n11⟩, fun h hh => ?_, ?_, exA + 30, ?_, Or.inl ⟨rfl, rfl⟩, fun j hj => by omega⟩
    · obtain ⟨u1, u2, u3⟩ := n2 x hx
      exact ⟨u1, u2, by rw [upr_n (by omega), u3]⟩
    · rw [upr_s, z0, z12, pk_cpy_in (by omega) (by omega), Nat.sub_zero, Nat.zero_add, (n2 tl (Or.inl tlt)).2.2]; exact t4 h hh
    · rw [upr_n (by omega)]; exact n13
    · rw [n12]; exact hO.1
  obtain ⟨S', J', y1, y2, y3, y4, y5⟩ := loop (aN a) 0 FU S0 _ (by omega) (by omega) hcp
  refine ⟨S', J', ?_, y3, y4, y5⟩
  unfold f_X2_copy
  rw [onw_ok (by omega), bd2_ok hi, og_ok (by omega), ock_ok hv0.r, orf_ok (by rw [(n2 v (Or.inl vlt)).2.1]; exact t1), ock_ok hn0.r, orf_ok n8, oar_ok ht0.r, oarw_ok (show arw S0 (s.1 + 1) 100 12 from ⟨by omega, n4⟩), og_ok (by decide)]
  exact omn3_ok (omn3_ok (omn3_ok y1 y2) (show s.1 + 1 ≤ S'.1 by omega)) (show s.1 ≤ S'.1 by omega)
