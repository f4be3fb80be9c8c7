/-! PLAIN SIDE: halls that hang together -/
set_option maxRecDepth 100000
/-- what the class has woven -/
def WN (I : II) (P M : Nat → Nat) : Prop := (∀ h, h < 12 → I 13 h = nI (2 * M h)) ∧ ∀ h k, h < k → k < 12 → I 14 (12 * h + k) = nI (P (12 * h + k)) ∧ I 14 (12 * k + h) = nI (flp (P (12 * h + k)))
theorem WN.of {I I' : II} {P M : Nat → Nat} (h : WN I P M) (e1 : I' 13 = I 13) (e2 : I' 14 = I 14) : WN I' P M := by unfold WN; rw [e1, e2]; exact h
def ed (P : Nat → Nat) (i k : Nat) : Bool := if i < k then decide (P (12 * i + k) ≠ 511) else if k < i then decide (P (12 * k + i) ≠ 511) else false
theorem ed_comm {P : Nat → Nat} {i k : Nat} : ed P i k = ed P k i := by
  unfold ed
  by_cases h1 : i < k
  · rw [if_pos h1, if_neg (by omega), if_pos h1]
  · by_cases h2 : k < i
    · rw [if_neg h1, if_pos h2, if_pos h2]
    · rw [if_neg h1, if_neg h2, if_neg h2, if_neg h1]
def Clo (P : Nat → Nat) (D : Nat) : Prop := ∀ i k, i < 12 → k < 12 → ed P i k = true → D.testBit i = true → D.testBit k = true
theorem flp511 : ∀ x, x < 512 → (flp x = 511 ↔ x = 511) := by decide +kernel
theorem p2_12 {k : Nat} (h : k < 12) : 2 ^ k < 4096 := Nat.pow_lt_pow_right (by decide) h
theorem shl12 {k : Nat} (h : k < 12) : nI 1 <<< (nI k &&& 31) = nI (2 ^ k) := by
  have := p2_12 h
  rw [shl_ok (by omega) (by omega), Nat.one_mul]
theorem sup_le {x y : Nat} (h : ∀ b, x.testBit b = true → y.testBit b = true) : x ≤ y := by
  have e : x &&& y = x := by
    apply Nat.eq_of_testBit_eq
    intro b
    rw [Nat.testBit_and]
    cases hx : x.testBit b with
    | false => rfl
    | true => rw [h b hx]; rfl
  rw [← e]
  exact Nat.and_le_right
/-- halls besides D -/
def Avo (D x : Nat) : Prop := ∀ b, x.testBit b = true → D.testBit b = false
theorem tied_ok {sh : SH} {I : II} {P M : Nat → Nat} {h D : Nat} (hW : WN I P M) (hP : ∀ q, P q < 512) (hh : h < 12) (hD : Clo P D) (hhD : D.testBit h = false) : ∃ y, f_X6_tied FU sh (nI h) I = some (nI y) ∧ y < 4096 ∧ y.testBit h = true ∧ Clo P y ∧ Avo D y := by
  have F5 := FU5
  have l26 : ∀ (i : Nat) (k6 k16 : Int32 → Int32 → Option Int32) (x3 : Int32), i < 12 → ∀ (d k q x : Nat), k + d = 12 → d + 1 ≤ q → x < 4096 → x.testBit i = true → Avo D x → ∃ y, f_X6_tied_L26 FU sh I k6 k16 x3 (nI i) q (nI x) (nI k) = k16 (nI y) (nI (i + 1)) ∧ y < 4096 ∧ (∀ b, x.testBit b = true → y.testBit b = true) ∧ (∀ j, k ≤ j → j < 12 → ed P i j = true → y.testBit j = true) ∧ Avo D y := by
    intro i k6 k16 x3 hi d
    induction d with
    | zero =>
      intro k q x hk hq hx hb hv
      obtain ⟨q, rfl⟩ := pred1 hq
      obtain rfl : k = 12 := by omega
      exact ⟨x, by rw [f_X6_tied_L26, if_pos (by decide), nI_add], hx, fun _ h => h, fun j h1 h2 => by omega, hv⟩
    | succ d ih =>
      intro k q x hk hq hx hb hv
      obtain ⟨q, rfl⟩ := pred1 hq
      replace hq := Nat.le_of_succ_le_succ hq
      have hk12 : k < 12 := by omega
      have hx2 : x ||| 2 ^ k < 4096 := Nat.or_lt_two_pow (n := 12) hx (p2_12 hk12)
      rw [f_X6_tied_L26, if_neg (nI_ge hk12 (by omega)), has_if (by omega) (by omega), if_pos hb, oix_ok (j := 12 * i + k) (by rw [pk_mul, nI_add]) (by omega) (by decide), shl12 hk12, nx_or9, nx_or9, Nat.or_zero, nI_add]
      -- whether it is added
      have add : ed P i k = true ∨ k = i → ∃ y, f_X6_tied_L26 FU sh I k6 k16 x3 (nI i) q (nI (x ||| 2 ^ k)) (nI (k + 1)) = k16 (nI y) (nI (i + 1)) ∧ y < 4096 ∧ (∀ b, x.testBit b = true → y.testBit b = true) ∧ (∀ j, k ≤ j → j < 12 → ed P i j = true → y.testBit j = true) ∧ Avo D y := by
        intro hc
        have hv2 : Avo D (x ||| 2 ^ k) := by
          intro b hbb
          rw [Nat.testBit_or, Bool.or_eq_true, Nat.testBit_two_pow, decide_eq_true_iff] at hbb
          rcases hbb with hbb | rfl
          · exact hv b hbb
          · rcases hc with hc | rfl
            · cases hDk : D.testBit k with
              | false => rfl
              | true =>
                have := hD k i hk12 hi (by rw [ed_comm]; exact hc) hDk
                rw [hv i hb] at this
                cases this
            · exact hv k hb
        obtain ⟨y, e1, e2, e3, e4, e5⟩ := ih (k + 1) q (x ||| 2 ^ k) (by omega) hq hx2 (by rw [Nat.testBit_or, hb]; rfl) hv2
        refine ⟨y, e1, e2, fun b hb => e3 b (by rw [Nat.testBit_or, hb]; rfl), fun j j1 j2 j3 => ?_, e5⟩
        by_cases ej : j = k
        · subst ej
          exact e3 j (by rw [Nat.testBit_or, Nat.testBit_two_pow, decide_eq_true rfl, Bool.or_true])
        · exact e4 j (by omega) j2 j3
      have skip : ed P i k = false → ∃ y, f_X6_tied_L26 FU sh I k6 k16 x3 (nI i) q (nI x) (nI (k + 1)) = k16 (nI y) (nI (i + 1)) ∧ y < 4096 ∧ (∀ b, x.testBit b = true → y.testBit b = true) ∧ (∀ j, k ≤ j → j < 12 → ed P i j = true → y.testBit j = true) ∧ Avo D y := by
        intro hc
        obtain ⟨y, e1, e2, e3, e4, e5⟩ := ih (k + 1) q x (by omega) hq hx hb hv
        refine ⟨y, e1, e2, e3, fun j j1 j2 j3 => ?_, e5⟩
        by_cases ej : j = k
        · subst ej; rw [hc] at j3; cases j3
        · exact e4 j (by omega) j2 j3
      by_cases h1 : i < k
      · have hp := hP (12 * i + k)
        rw [(hW.2 i k h1 hk12).1]
        have hed : ed P i k = decide (P (12 * i + k) ≠ 511) := by unfold ed; rw [if_pos h1]
        by_cases h5 : P (12 * i + k) = 511
        · rw [if_pos (by rw [h5])]
          exact skip (by rw [hed]; simp [h5])
        · rw [if_neg (by rw [nI_eq (by omega) (by omega)]; exact h5)]
          exact add (Or.inl (by rw [hed]; simp [h5]))
      · by_cases h2 : k < i
        · have hp := hP (12 * k + i)
          have hf := flp_lt _ hp
          rw [(hW.2 k i h2 hi).2]
          have hed : ed P i k = decide (P (12 * k + i) ≠ 511) := by unfold ed; rw [if_neg h1, if_pos h2]
          by_cases h5 : P (12 * k + i) = 511
          · rw [if_pos (by rw [(flp511 _ hp).mpr h5])]
            exact skip (by rw [hed]; simp [h5])
          · rw [if_neg (by rw [nI_eq (by omega) (by omega), flp511 _ hp]; exact h5)]
            exact add (Or.inl (by rw [hed]; simp [h5]))
        · have hki : k = i := by omega
          by_cases h5 : I 14 (12 * i + k) = nI 511
          · rw [if_pos h5]
            exact skip (by unfold ed; rw [if_neg h1, if_neg h2])
          · rw [if_neg h5]
            exact add (Or.inr hki)
  have l16 : ∀ (k6 : Int32 → Int32 → Option Int32) (x3 : Int32) (d i q x : Nat), i + d = 12 → d + 1 ≤ q → x < 4096 → Avo D x → ∃ y, f_X6_tied_L16 FU sh I k6 x3 q (nI x) (nI i) = k6 (nI y) x3 ∧ y < 4096 ∧ (∀ b, x.testBit b = true → y.testBit b = true) ∧ (∀ i', i ≤ i' → i' < 12 → x.testBit i' = true → ∀ j, j < 12 → ed P i' j = true → y.testBit j = true) ∧ Avo D y := by
    intro k6 x3 d
    induction d with
    | zero =>
      intro i q x hi hq hx hv
      obtain ⟨q, rfl⟩ := pred1 hq
      obtain rfl : i = 12 := by omega
      exact ⟨x, by rw [f_X6_tied_L16, if_pos (by decide)], hx, fun _ h => h, fun j h1 h2 => by omega, hv⟩
    | succ d ih =>
      intro i q x hi hq hx hv
      obtain ⟨q, rfl⟩ := pred1 hq
      replace hq := Nat.le_of_succ_le_succ hq
      rw [f_X6_tied_L16, if_neg (nI_ge (by omega) (by omega))]
      by_cases hb : x.testBit i = true
      · obtain ⟨y, e1, e2, e3, e4, e5⟩ := l26 i k6 (f_X6_tied_L16 FU sh I k6 x3 q) x3 (by omega) 12 0 FU x rfl (by omega) hx hb hv
        rw [e1]
        obtain ⟨z, f1, f2, f3, f4, f5⟩ := ih (i + 1) q y (by omega) hq e2 e5
        refine ⟨z, f1, f2, fun b hb => f3 b (e3 b hb), fun i' a1 a2 a3 j a4 a5 => ?_, f5⟩
        by_cases ei : i' = i
        · subst ei; exact f3 j (e4 j (by omega) a4 a5)
        · exact f4 i' (by omega) a2 (e3 i' a3) j a4 a5
      · have e2 : f_X6_tied_L26 FU sh I k6 (f_X6_tied_L16 FU sh I k6 x3 q) x3 (nI i) FU (nI x) (nI 0) = f_X6_tied_L16 FU sh I k6 x3 q (nI x) (nI (i + 1)) := by
          rw [show FU = 4999 + 1 from rfl, f_X6_tied_L26, if_neg (by decide), has_if (by omega) (by omega), if_neg hb, nI_add]
        rw [e2]
        obtain ⟨z, f1, f2, f3, f4, f5⟩ := ih (i + 1) q x (by omega) hq hx hv
        refine ⟨z, f1, f2, f3, fun i' a1 a2 a3 j a4 a5 => ?_, f5⟩
        by_cases ei : i' = i
        · subst ei; exact absurd a3 hb
        · exact f4 i' (by omega) a2 a3 j a4 a5
  have l6 : ∀ (m x was q : Nat), 4096 - x ≤ m → m + 1 ≤ q → x < 4096 → was < 4096 → (was = x → Clo P x) → x.testBit h = true → Avo D x → ∃ y, f_X6_tied_L6 FU sh I q (nI x) (nI was) = some (nI y) ∧ y < 4096 ∧ y.testBit h = true ∧ Clo P y ∧ Avo D y := by
    intro m
    induction m with
    | zero => intro x was q hm hq hx; omega
    | succ m ih =>
      intro x was q hm hq hx hw hc hb hv
      obtain ⟨q, rfl⟩ := pred1 hq
      replace hq := Nat.le_of_succ_le_succ hq
      rw [f_X6_tied_L6]
      by_cases e : was = x
      · rw [if_pos (by rw [e])]
        exact ⟨x, rfl, hx, hb, hc e, hv⟩
      · rw [if_neg (by rw [nI_eq (by omega) (by omega)]; exact e)]
        obtain ⟨y, e1, e2, e3, e4, e5⟩ := l16 (f_X6_tied_L6 FU sh I q) (nI x) 12 0 FU x rfl (by omega) hx hv
        rw [e1]
        have hle := sup_le e3
        by_cases ey : x = y
        · subst ey
          obtain ⟨q, rfl⟩ := pred1 (k := 0) (n := q) (by omega)
          exact ⟨x, by rw [f_X6_tied_L6, if_pos rfl], hx, hb, fun i k i1 k1 hik hxi => e4 i (by omega) i1 hxi k k1 hik, hv⟩
        · exact ih y x q (by omega) hq e2 hx (fun e => absurd e ey) (e3 h hb) e5
  have hv0 : Avo D (2 ^ h) := by
    intro b hb
    rw [Nat.testBit_two_pow, decide_eq_true_iff] at hb
    rw [← hb]; exact hhD
  unfold f_X6_tied
  rw [shl12 hh]
  have h2 := p2_12 hh
  have h3 : 0 < 2 ^ h := Nat.two_pow_pos h
  exact l6 4096 (2 ^ h) 0 FU (by omega) (by omega) h2 (by omega) (fun e => by omega) (by rw [Nat.testBit_two_pow]; exact decide_eq_true rfl) hv0
