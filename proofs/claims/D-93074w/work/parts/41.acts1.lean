/-! PLAIN SIDE: acts -/
set_option maxRecDepth 100000
theorem hall_cases (x : Int32) : (f_X0_isHall x = some (nI 0) ∧ f_X9_isHall x = some (nI 0)) ∨ ∃ h : Nat, h < 12 ∧ x = nI h ∧ f_X0_isHall x = some (nI 1) ∧ f_X9_isHall x = some (nI 1) := by
  unfold f_X0_isHall f_X9_isHall
  rcases in_cases x 0 11 (by decide) (by decide) with ⟨h1, h2⟩ | ⟨j, -, h2, rfl, h3, h4⟩
  · left; rw [h1, h2]; exact ⟨rfl, rfl⟩
  · right; refine ⟨j, by omega, rfl, ?_⟩; rw [h3, h4]; exact ⟨rfl, rfl⟩
theorem choice_cases (x : Int32) : (f_X0_isChoice x = some (nI 0) ∧ f_X9_isChoice x = some (nI 0)) ∨ ∃ c : Nat, 1 ≤ c ∧ c ≤ 3 ∧ x = nI c ∧ f_X0_isChoice x = some (nI 1) ∧ f_X9_isChoice x = some (nI 1) := by
  unfold f_X0_isChoice f_X9_isChoice
  rcases in_cases x 1 3 (by decide) (by decide) with ⟨h1, h2⟩ | ⟨j, h1, h2, rfl, h3, h4⟩
  · left; rw [h1, h2]; exact ⟨rfl, rfl⟩
  · right; refine ⟨j, h1, h2, rfl, ?_⟩; rw [h3, h4]; exact ⟨rfl, rfl⟩
theorem sheet_cases (x : Int32) : (f_X0_isSheet x = some (nI 0) ∧ f_X9_isSheet x = some (nI 0)) ∨ ∃ s : Nat, s < 4 ∧ x = nI s ∧ f_X0_isSheet x = some (nI 1) ∧ f_X9_isSheet x = some (nI 1) := by
  unfold f_X0_isSheet f_X9_isSheet
  rcases in_cases x 0 3 (by decide) (by decide) with ⟨h1, h2⟩ | ⟨j, -, h2, rfl, h3, h4⟩
  · left; rw [h1, h2]; exact ⟨rfl, rfl⟩
  · right; refine ⟨j, by omega, rfl, ?_⟩; rw [h3, h4]; exact ⟨rfl, rfl⟩
/-- a number below another one -/
theorem sub_cases (x : Int32) (n : Nat) (hn : n < 2 ^ 31) : (f_X0_in x (nI 0) (nI n - nI 1) = some (nI 0) ∧ f_X9_within x (nI 0) (nI n - nI 1) = some (nI 0)) ∨ ∃ j : Nat, j < n ∧ x = nI j ∧ f_X0_in x (nI 0) (nI n - nI 1) = some (nI 1) ∧ f_X9_within x (nI 0) (nI n - nI 1) = some (nI 1) := by
  by_cases h0 : n = 0
  · subst h0
    left
    unfold f_X0_in f_X9_within
    by_cases h1 : x < nI 0
    · simp [h1]
    · have h2 : nI 0 - nI 1 < x := by
        have e1 : (nI 0 - nI 1).toInt = -1 := by decide
        have e0 : (nI 0).toInt = 0 := by decide
        rw [Int32.lt_iff_toInt_lt] at h1 ⊢
        omega
      simp [h1, h2]
  · rw [pk_sub (by omega)]
    rcases in_cases x 0 (n - 1) (by omega) (by omega) with h | ⟨j, -, h2, h3, h4⟩
    · exact Or.inl h
    · exact Or.inr ⟨j, by omega, h3, h4⟩
theorem set_cases {n : Nat} {sh : SH} {I : II} {ow : Nat → Nat} {a : AS} {v : Nat} (h : InvO n sh I ow a v) (x : Int32) : (f_X0_isSet sh x I = some (nI 0) ∧ f_X9_isSet x I = some (nI 0)) ∨ ∃ s : Nat, s < 2 ^ aN a ∧ s < 256 ∧ x = nI s ∧ f_X0_isSet sh x I = some (nI 1) ∧ f_X9_isSet x I = some (nI 1) := by
  have h8 := h.aok.1
  have hp : 2 ^ aN a ≤ 2 ^ 8 := Nat.pow_le_pow_right (by decide) h8
  have hp1 : 1 ≤ 2 ^ aN a := Nat.one_le_two_pow
  obtain ⟨hS, hM, hA, hv, v1, -, -, -, -, ⟨al, b1, b2⟩, -⟩ := h.vn
  have e : (nI 1 <<< (nI (aN a) &&& 31)) - nI 1 = nI (2 ^ aN a - 1) := by
    rw [shl_ok (by omega) (by omega), Nat.one_mul, pk_sub hp1]
  unfold f_X0_isSet f_X9_isSet
  rw [orf_ok hv, ock_ok v1.r, orf_ok b1, ock_ok b2.1.r, lst_size b2, Option.bind_some, oix_ok (j := 0) rfl (by decide) (by decide), h.row.1, e]
  rcases in_cases x 0 (2 ^ aN a - 1) (by omega) (by omega) with ⟨h1, h2⟩ | ⟨j, -, h2, rfl, h3, h4⟩
  · left; rw [h1, h2]; exact ⟨rfl, rfl⟩
  · right; refine ⟨j, by omega, by omega, rfl, ?_⟩; rw [h3, h4]; exact ⟨rfl, rfl⟩
theorem law_cases {n : Nat} {sh : SH} {I : II} {ow : Nat → Nat} {a : AS} {v : Nat} (h : InvO n sh I ow a v) (x : Int32) : (f_X0_isLaw sh x I = some (nI 0) ∧ f_X9_isLaw x I = some (nI 0)) ∨ ∃ l : Nat, l < aN a ∧ x = nI l ∧ f_X0_isLaw sh x I = some (nI 1) ∧ f_X9_isLaw x I = some (nI 1) := by
  have h8 := h.aok.1
  obtain ⟨hS, hM, hA, hv, v1, -, -, -, -, ⟨al, b1, b2⟩, -⟩ := h.vn
  unfold f_X0_isLaw f_X9_isLaw
  rw [orf_ok hv, ock_ok v1.r, orf_ok b1, ock_ok b2.1.r, lst_size b2, Option.bind_some, oix_ok (j := 0) rfl (by decide) (by decide), h.row.1]
  rcases sub_cases x (aN a) (by omega) with ⟨h1, h2⟩ | ⟨j, h2, rfl, h3, h4⟩
  · left; rw [h1, h2]; exact ⟨rfl, rfl⟩
  · right; refine ⟨j, h2, rfl, ?_⟩; rw [h3, h4]; exact ⟨rfl, rfl⟩
theorem InvO.same {n : Nat} {sh : SH} {I : II} {ow : Nat → Nat} {a : AS} {v : Nat} (h : InvO n sh I ow a v) : InvO (n + 1) sh I ow a v := h.sc (by omega) (fun _ _ => rfl) rfl rfl
theorem act_38 {n : Nat} {S : SH} {I : II} {a1 : Int32} (h : Inv n S I) : Act n (f_arm_38 FU a1 S I) := by
  obtain ⟨ow, a, v, hO⟩ := h.op
  unfold f_arm_38
  rcases in_cases a1 1 5 (by decide) (by decide) with ⟨h1, h2⟩ | ⟨j, j1, j2, rfl, h1, h2⟩
  · refine Act.of (arm2 (r := -1000001) (I1 := EN I 1) ?_ ?_) (hO.bad (e := 1))
    · unfold f_X0_told f_X0_told_J18
      rw [h1, Option.bind_some]
      exact nbad hO.1 (by decide) (by decide)
    · unfold f_X9_told
      rw [h2, Option.bind_some, if_pos (by decide)]
      exact mbad2 (by decide) (by decide)
  · refine Act.of (arm2 (r := I 21 j) (I1 := I) ?_ ?_) hO.same
    · unfold f_X0_told
      rw [h1, Option.bind_some, ngood, oix_ok (j := j) rfl (by omega) (by decide)]
    · unfold f_X9_told
      rw [h2, Option.bind_some, if_neg (by decide), oix_ok (j := j) rfl (by omega) (by decide), hO.2.2.2.2.2.1 j (by omega)]
theorem act_3 {n : Nat} {S : SH} {I : II} {a1 : Int32} (h : Inv n S I) : Act n (f_arm_3 FU a1 S I) := by
  obtain ⟨ow, a, v, hO⟩ := h.op
  unfold f_arm_3
  rcases hall_cases a1 with ⟨h1, h2⟩ | ⟨j, j1, rfl, h1, h2⟩
  · refine Act.of (arm2 (r := -1000001) (I1 := EN I 1) ?_ ?_) (hO.bad (e := 1))
    · unfold f_X0_chosen f_X0_chosen_J19
      rw [h1, Option.bind_some]
      exact nbad hO.1 (by decide) (by decide)
    · unfold f_X9_chosen
      rw [h2, Option.bind_some, if_pos (by decide)]
      exact mbad2 (by decide) (by decide)
  · obtain ⟨hS, hM, hA, hv, v1, -, -, -, ⟨tl, t1, t2, t3, t4⟩, -⟩ := hO.vn
    refine Act.of (arm2 (r := nI (aR a j)) (I1 := I) ?_ ?_) hO.same
    · unfold f_X0_chosen
      rw [h1, Option.bind_some, ngood, orf_ok hv, ock_ok v1.r, orf_ok t1, oarw_ok t2, oix_ok (j := j) rfl j1 (by decide), t4 j j1]
    · unfold f_X9_chosen
      rw [h2, Option.bind_some, if_neg (by decide), oix_ok (j := 10 + j) (by rw [nI_add]) (by omega) (by decide), hO.row.2.2.2.1 j j1]
theorem upN_r {r : Nat → Nat} {h c x : Nat} : upN r h c x = if x = h then c else r x := rfl
/-- the told rule is changed in both -/
theorem InvO.told {n n' : Nat} {sh : SH} {I I' : II} {ow : Nat → Nat} {a : AS} {v : Nat} {R : Nat → Nat} (h : InvO n sh I ow a v) (hn : n ≤ n') (hR : ∀ h, h < 12 → 1 ≤ R h ∧ R h ≤ 3) {tl : Nat} (ht : sh.2.2 v 0 = some tl) (hm : ow tl = 1) (e : ∀ x, ¬ scr x → x ≠ 28 → x ≠ tl → I' x = I x) (e2 : I' 27 2 = I 27 2) (e3 : I' 27 27 = I 27 27) (e28 : ∀ k, ¬ (10 ≤ k ∧ k < 22) → I' 28 k = I 28 k) (f1 : ∀ h, h < 12 → I' 28 (10 + h) = nI (R h)) (f2 : ∀ h, h < 12 → I' tl h = nI (R h)) : InvO n' sh I' ow (aN a, aT a, aW a, R, aK a, aP a, aB a, aX a, aV a) v := by
  have hM := h.mrk
  have nt : ∀ x, ow x ≠ 1 → x ≠ tl := fun x hx e => hx (by rw [e]; exact hm)
  have t9 : ow tl ≠ 9 := by rw [hm]; decide
  have lo : ∀ x, x < 48 → ¬ (2 ≤ x ∧ x ≤ 6) → x ≠ tl := fun x a1 a2 e => hM.ne t9 a1 a2 e.symm
  have ky : ∀ x, ¬ scr x → x < 48 → ¬ (2 ≤ x ∧ x ≤ 6) → x ≠ 28 → I' x = I x := fun x a1 a2 a3 a4 => e x a1 a4 (lo x a2 a3)
  refine h.gen hn (fun x a1 _ _ _ _ _ a2 a3 => e x a1 a2 (nt x a3)) e2 (fun k hk => ?_) ?_ ?_ ?_ ?_
  · rw [ky 21 (by unfold scr; decide) (by decide) (by decide) (by decide), ky 30 (by unfold scr; decide) (by decide) (by decide) (by decide)]
    exact h.2.2.2.2.2.1 k hk
  · rw [ky 7 (by unfold scr; decide) (by decide) (by decide) (by decide), ky 8 (by unfold scr; decide) (by decide) (by decide) (by decide), ky 43 (by unfold scr; decide) (by decide) (by decide) (by decide), e3]
    exact h.2.2.2.2.2.2.1
  · obtain ⟨h1, h2, h3, h4, h5, h6⟩ := h.aok
    exact ⟨h1, h2, h3, hR, h5, h6⟩
  · obtain ⟨h1, h2, h3, h4, h5, h6, h7⟩ := h.row
    refine ⟨by rw [e28 0 (by omega)]; exact h1, by rw [e28 1 (by omega)]; exact h2, by rw [e28 2 (by omega)]; exact h3, f1, fun l hl => ?_, fun k hk => by rw [e28 _ (by omega)]; exact h6 k hk, fun k hk => by rw [e28 _ (by omega)]; exact h7 k hk⟩
    obtain ⟨g1, g2, g3⟩ := h5 l hl
    exact ⟨by rw [e28 _ (by omega)]; exact g1, by rw [e28 _ (by omega)]; exact g2, fun i hi => by rw [e28 _ (by omega)]; exact g3 i hi⟩
  · obtain ⟨v1, v2, v3, v4, ⟨tl', t1, t2, t3, t4⟩, ⟨al, b1, b2⟩, ⟨tp, c1, c2, c3, c4⟩, wl, d1, d2, d3, d4⟩ := h.2.2.2.2.2.2.2.2.2.2.2.1
    have ett : tl' = tl := by rw [ht] at t1; exact (Option.some.inj t1).symm
    subst ett
    have key : ∀ x, (ow x = 1 ∨ ow x = 0) → x ≠ tl' → I' x = I x := by
      intro x hx hxt
      have hx9 : ow x ≠ 9 := by rcases hx with hx | hx <;> rw [hx] <;> decide
      refine e x (fun hs => ?_) (hM.ne hx9 (by decide) (by decide)) hxt
      unfold scr at hs
      exact hM.ne hx9 (b := x) (by omega) (by omega) rfl
    have kne : ∀ x (p : Nat × Nat), sh.2.1 x = p → p ≠ (100, 12) → x ≠ tl' := fun x p hp hq e => hq (by rw [← hp, e]; exact t2.2)
    have cne : ∀ x c, (sh.2.1 x).1 = c → c ≠ 100 → x ≠ tl' := fun x c hc hq e => hq (by rw [← hc, e, t2.2])
    refine ⟨v1, v2, by rw [key v (Or.inl v2) (cne v 2 v1.2 (by decide))]; exact v3, by rw [key v (Or.inl v2) (cne v 2 v1.2 (by decide))]; exact v4, ⟨tl', t1, t2, t3, f2⟩, ⟨al, b1, ?_⟩, ⟨tp, c1, c2, c3, by rw [key tp (Or.inl c3) (kne tp _ c2.2 (by decide))]; exact c4⟩, wl, d1, d2, d3, by rw [key wl (Or.inl d3) (kne wl _ d2.2 (by decide))]; exact d4⟩
    obtain ⟨l1, l2, l3, ea, l4, l5, l6⟩ := b2
    refine ⟨l1, l2, by rw [key al (Or.inl l2) (cne al 3 l1.2 (by decide))]; exact l3, ea, l4, l5, fun l hl => ?_⟩
    obtain ⟨d, w1, x1, x2, x3, x4, x5, cl, x6, y1, y2, y3, ff, ss, gg, y4, y5, y6, y7, y8, y9, o1, o2, o3, y10⟩ := l6 l hl
    have hk6 := (h.aok.2.2.2.2.1 l hl).1
    have hd : d ≠ tl' := cne d _ x1.2 (by omega)
    refine ⟨d, w1, x1, x2, x3, by rw [key d (Or.inl x2) hd]; exact x4, by rw [key d (Or.inl x2) hd]; exact x5, cl, x6, y1, y2, by rw [key cl (Or.inr y2) (cne cl 23 y1.2 (by decide))]; exact y3, ff, ss, gg, y4, y5, y6, y7, y8, y9, o1, o2, o3, fun i hi => ?_⟩
    rw [key ff (Or.inr o1) (kne ff _ y7.2 (by decide)), key ss (Or.inr o2) (kne ss _ y8.2 (by decide)), key gg (Or.inr o3) (kne gg _ y9.2 (by decide))]
    exact y10 i hi
theorem act_2 {n : Nat} {S : SH} {I : II} {a1 a2 : Int32} (h : Inv n S I) : Act n (f_arm_2 FU a1 a2 S I) := by
  obtain ⟨ow, a, v, hO⟩ := h.op
  unfold f_arm_2
  have bad : ∀ (X : Option (Int32 × II)) (Y : II → Option (Int32 × II)), X = f_X0_choose_J19 S a1 a2 I → Y (EN I 1) = f_X9_choose_J14 (EN I 1) → Act n (bd2 X fun r1 I1 => bd2 (Y I1) fun r2 I2 => og (r1 = r2) <| some (S, I2)) := by
    intro X Y hX hY
    refine Act.of (arm2 (r := -1000001) (I1 := EN I 1) ?_ ?_) (hO.bad (e := 1))
    · rw [hX]
      unfold f_X0_choose_J19 f_X0_choose_J20 f_X0_choose_J46
      exact nbad hO.1 (by decide) (by decide)
    · rw [hY]
      unfold f_X9_choose_J14
      exact mbad2 (by decide) (by decide)
  rcases hall_cases a1 with ⟨h1, h2⟩ | ⟨j, j1, rfl, h1, h2⟩
  · refine bad _ _ ?_ ?_
    · unfold f_X0_choose; rw [h1]; rfl
    · unfold f_X9_choose; rw [h2]; rfl
  · rcases choice_cases a2 with ⟨g1, g2⟩ | ⟨c, c1, c3, rfl, g1, g2⟩
    · refine bad _ _ ?_ ?_
      · unfold f_X0_choose; rw [h1, g1]; rfl
      · unfold f_X9_choose; rw [h2, g2]; rfl
    · obtain ⟨hS, hM, hA, hv, v1, -, -, -, ⟨tl, t1, t2, t3, t4⟩, -⟩ := hO.vn
      have t9 : ow tl ≠ 9 := by rw [t3]; decide
      have n28 : tl ≠ 28 := hM.ne t9 (by decide) (by decide)
      refine Act.of (arm2 (r := nI (aR a j)) (I1 := up2 I tl j (nI c)) (I2 := up2 (up2 I tl j (nI c)) 28 (10 + j) (nI c)) ?_ ?_) (hO.told (R := upN (aR a) j c) (by omega) (fun q hq => ?_) t1 t3 (fun x x1 x2 x3 => by rw [up2_n x2, up2_n x3]) ?_ ?_ (fun k hk => ?_) (fun q hq => ?_) (fun q hq => ?_))
      · unfold f_X0_choose f_X0_choose_J20
        rw [h1, Option.bind_some, if_neg (by decide), g1, Option.bind_some, if_neg (by decide), ngood, orf_ok hv, ock_ok v1.r, orf_ok t1, oarw_ok t2, oix_ok (j := j) rfl j1 (by decide), orf_ok hv, ock_ok v1.r, orf_ok t1, oarw_ok t2, oix_ok (j := j) rfl j1 (by decide), t4 j j1]
      · unfold f_X9_choose
        rw [h2, Option.bind_some, if_neg (by decide), g2, Option.bind_some, if_neg (by decide), oix_ok (j := 10 + j) (by rw [nI_add]) (by omega) (by decide), oix_ok (j := 10 + j) (by rw [nI_add]) (by omega) (by decide), up2_n n28.symm, hO.row.2.2.2.1 j j1]
      · rw [upN_r]; split
        · exact ⟨c1, c3⟩
        · exact hA.2.2.2.1 q hq
      · rw [up2_n (by decide), up2_n (hM.ne t9 (by decide) (by decide)).symm]
      · rw [up2_n (by decide), up2_n (hM.ne t9 (by decide) (by decide)).symm]
      · rw [up2_ne (by omega), up2_n n28.symm]
      · by_cases e : q = j
        · subst e; rw [up2_eq, upN_s]
        · rw [up2_ne (by omega), up2_n n28.symm, upN_n e]; exact hO.row.2.2.2.1 q hq
      · rw [up2_n n28]
        by_cases e : q = j
        · subst e; rw [up2_eq, upN_s]
        · rw [up2_ne e, upN_n e]; exact t4 q hq
