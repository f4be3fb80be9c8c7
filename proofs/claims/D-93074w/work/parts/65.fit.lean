/-! PLAIN SIDE: that some rule fits, told by rules; a law's own rules keep it -/
set_option maxRecDepth 100000
def Fit (P M : Nat → Nat) (r : Nat → Nat) : Prop := (∀ h, h < 12 → 1 ≤ r h ∧ r h ≤ 3 ∧ okm M h (r h) = true) ∧ ∀ h k, h < k → k < 12 → okp P h (r h) k (r k) = true
theorem skR_fit {P M : Nat → Nat} : ∀ (n h : Nat) (r : Nat → Nat), h + n = 12 → ((skR P M 4095 n h r).isSome = true ↔ ∃ r' : Nat → Nat, (∀ i, i < h → r' i = r i) ∧ ∀ k, h ≤ k → k < 12 → 1 ≤ r' k ∧ r' k ≤ 3 ∧ can P M 4095 r' k k (r' k) = true) := by
  intro n
  induction n with
  | zero => intro h r hn; exact ⟨fun _ => ⟨r, fun _ _ => rfl, fun k k1 k2 => by omega⟩, fun _ => rfl⟩
  | succ n ih =>
    intro h r hn
    have key : ∀ c, 1 ≤ c → c ≤ 3 → ((if can P M 4095 r h h c = true then skR P M 4095 n (h + 1) (upN r h c) else none).isSome = true ↔ ∃ r' : Nat → Nat, r' h = c ∧ (∀ i, i < h → r' i = r i) ∧ ∀ k, h ≤ k → k < 12 → 1 ≤ r' k ∧ r' k ≤ 3 ∧ can P M 4095 r' k k (r' k) = true) := by
      intro c c1 c3
      constructor
      · intro hs
        split at hs
        · rename_i hc
          obtain ⟨r', q1, q2⟩ := (ih (h + 1) (upN r h c) (by omega)).mp hs
          have e1 : r' h = c := by rw [q1 h (by omega), upN_s]
          have e2 : ∀ i, i < h → r' i = r i := fun i hi => by rw [q1 i (by omega), upN_n (by omega)]
          refine ⟨r', e1, e2, fun k k1 k2 => ?_⟩
          by_cases e : k = h
          · subst e
            rw [e1]
            refine ⟨c1, c3, ?_⟩
            rw [can_congr (r := r) (fun i hi _ => e2 i hi)]
            exact hc
          · exact q2 k (by omega) k2
        · cases hs
      · rintro ⟨r', e1, e2, e3⟩
        have hc : can P M 4095 r h h c = true := by
          rw [← can_congr (r' := r') (fun i hi _ => e2 i hi), ← e1]
          exact (e3 h (by omega) (by omega)).2.2
        rw [if_pos hc]
        refine (ih (h + 1) (upN r h c) (by omega)).mpr ⟨r', fun i hi => ?_, fun k k1 k2 => e3 k (by omega) k2⟩
        by_cases e : i = h
        · subst e; rw [upN_s, e1]
        · rw [upN_n e, e2 i (by omega)]
    have o3 : ∀ (x y z : Option (Nat → Nat)), (x.or (y.or z)).isSome = true ↔ x.isSome = true ∨ y.isSome = true ∨ z.isSome = true := by
      intro x y z; cases x <;> cases y <;> cases z <;> simp
    rw [skR, if_pos (all_bit h (by omega)), o3, key 1 (by omega) (by omega), key 2 (by omega) (by omega), key 3 (by omega) (by omega)]
    constructor
    · rintro (⟨r', -, q⟩ | ⟨r', -, q⟩ | ⟨r', -, q⟩) <;> exact ⟨r', q⟩
    · rintro ⟨r', q1, q2⟩
      obtain ⟨b1, b2, -⟩ := q2 h (by omega) (by omega)
      have hc : r' h = 1 ∨ r' h = 2 ∨ r' h = 3 := by omega
      rcases hc with hc | hc | hc
      · exact Or.inl ⟨r', hc, q1, q2⟩
      · exact Or.inr (Or.inl ⟨r', hc, q1, q2⟩)
      · exact Or.inr (Or.inr ⟨r', hc, q1, q2⟩)
theorem skR_iff {P M : Nat → Nat} {r0 : Nat → Nat} : (skR P M 4095 12 0 r0).isSome = true ↔ ∃ r, Fit P M r := by
  rw [skR_fit 12 0 r0 (by omega)]
  constructor
  · rintro ⟨r, -, h⟩
    refine ⟨r, fun k hk => ?_, fun i k hi hk => ?_⟩
    · obtain ⟨h1, h2, h3⟩ := h k (by omega) hk
      exact ⟨h1, h2, (can_iff.mp h3).1⟩
    · obtain ⟨h1, h2, h3⟩ := h k (by omega) hk
      exact (can_iff.mp h3).2 i hi (all_bit i (by omega))
  · rintro ⟨r, h1, h2⟩
    refine ⟨r, fun i hi => by omega, fun k _ hk => ?_⟩
    obtain ⟨a1, a2, a3⟩ := h1 k hk
    exact ⟨a1, a2, can_iff.mpr ⟨a3, fun i hi _ => h2 i k hi hk⟩⟩
/-- less in one hall -/
theorem fit_cutM {P M r : Nat → Nat} {h z : Nat} (hh : h < 12) : Fit P (upN M h (M h &&& z)) r ↔ Fit P M r ∧ z.testBit (r h - 1) = true := by
  constructor
  · rintro ⟨h1, h2⟩
    refine ⟨⟨fun k hk => ?_, h2⟩, ?_⟩
    · obtain ⟨a1, a2, a3⟩ := h1 k hk
      refine ⟨a1, a2, ?_⟩
      unfold okm at a3 ⊢
      by_cases e : k = h
      · subst e
        rw [upN_s, Nat.testBit_and, Bool.and_eq_true] at a3
        exact a3.1
      · rwa [upN_n e] at a3
    · have a3 := (h1 h hh).2.2
      unfold okm at a3
      rw [upN_s, Nat.testBit_and, Bool.and_eq_true] at a3
      exact a3.2
  · rintro ⟨⟨h1, h2⟩, h3⟩
    refine ⟨fun k hk => ?_, h2⟩
    obtain ⟨a1, a2, a3⟩ := h1 k hk
    refine ⟨a1, a2, ?_⟩
    unfold okm at a3 ⊢
    by_cases e : k = h
    · subst e
      rw [upN_s, Nat.testBit_and, Bool.and_eq_true]
      exact ⟨a3, h3⟩
    · rwa [upN_n e]
theorem fit_keep {P M r : Nat → Nat} {h c : Nat} (hh : h < 12) (c1 : 1 ≤ c) : Fit P (upN M h (M h &&& 2 ^ (c - 1))) r ↔ Fit P M r ∧ r h = c := by
  rw [fit_cutM hh]
  constructor
  · rintro ⟨h1, h2⟩
    have a1 := (h1.1 h hh).1
    rw [Nat.testBit_two_pow, decide_eq_true_iff] at h2
    exact ⟨h1, by omega⟩
  · rintro ⟨h1, h2⟩
    rw [Nat.testBit_two_pow, decide_eq_true_iff]
    exact ⟨h1, by omega⟩
/-- less in a pair of halls -/
theorem fit_cutP {P M r : Nat → Nat} {h k z : Nat} (hh : h < k) (hk : k < 12) : Fit (upN P (12 * h + k) (P (12 * h + k) &&& z)) M r ↔ Fit P M r ∧ z.testBit (3 * (r h - 1) + (r k - 1)) = true := by
  constructor
  · rintro ⟨h1, h2⟩
    refine ⟨⟨h1, fun x y x1 x2 => ?_⟩, ?_⟩
    · have a3 := h2 x y x1 x2
      unfold okp at a3 ⊢
      by_cases e : 12 * x + y = 12 * h + k
      · rw [e] at a3 ⊢
        rw [upN_s, Nat.testBit_and, Bool.and_eq_true] at a3
        exact a3.1
      · rwa [upN_n e] at a3
    · have a3 := h2 h k hh hk
      unfold okp at a3
      rw [upN_s, Nat.testBit_and, Bool.and_eq_true] at a3
      exact a3.2
  · rintro ⟨⟨h1, h2⟩, h3⟩
    refine ⟨h1, fun x y x1 x2 => ?_⟩
    have a3 := h2 x y x1 x2
    unfold okp at a3 ⊢
    by_cases e : 12 * x + y = 12 * h + k
    · have ex : x = h := by omega
      have ey : y = k := by omega
      subst ex ey
      rw [upN_s, Nat.testBit_and, Bool.and_eq_true]
      exact ⟨a3, h3⟩
    · rwa [upN_n e]
/-- all rules keep law l -/
def Keeps (a : AS) (l : Nat) (P M : Nat → Nat) : Prop := ∀ j, j < cN (aK a l) → ∀ r, Fit P M r → gob a l j (r (cH (cF (aK a l) + j))) (r (cK (cF (aK a l) + j))) = true
noncomputable def keepB (a : AS) (l s : Nat) : Bool := @decide (Keeps a l (web a s).1 (web a s).2) (Classical.propDecidable _)
theorem keepB_iff {a : AS} {l s : Nat} : keepB a l s = true ↔ Keeps a l (web a s).1 (web a s).2 := @decide_eq_true_iff _ (Classical.propDecidable _)
/-! what is in a set is kept by its rules -/
abbrev W2 : Type := (Nat → Nat) × (Nat → Nat)
def LeW (w w' : W2) : Prop := (∀ q b, (w.1 q).testBit b = true → (w'.1 q).testBit b = true) ∧ ∀ q b, (w.2 q).testBit b = true → (w'.2 q).testBit b = true
theorem LeW.refl {w : W2} : LeW w w := ⟨fun _ _ h => h, fun _ _ h => h⟩
theorem LeW.trans {w x y : W2} (h : LeW w x) (g : LeW x y) : LeW w y := ⟨fun q b e => g.1 q b (h.1 q b e), fun q b e => g.2 q b (h.2 q b e)⟩
theorem upN_le {f : Nat → Nat} {k z q b : Nat} (h : (upN f k (f k &&& z) q).testBit b = true) : (f q).testBit b = true := by
  by_cases e : q = k
  · subst e
    rw [upN_s, Nat.testBit_and, Bool.and_eq_true] at h
    exact h.1
  · rwa [upN_n e] at h
theorem gst_le {kd i x : Nat} {w : W2} : LeW (gst kd i x w) w := by
  unfold gst
  split
  · split
    · exact ⟨fun q b h => upN_le h, fun _ _ h => h⟩
    · exact ⟨fun q b h => upN_le h, fun _ _ h => h⟩
  · exact ⟨fun _ _ h => h, fun q b h => upN_le h⟩
theorem glw_le {kd : Nat} {T : Nat → Nat} : ∀ (d i : Nat) (w : W2), LeW (glw kd T d i w) w := by
  intro d
  induction d with
  | zero => intro i w; exact LeW.refl
  | succ d ih => intro i w; exact (ih _ _).trans gst_le
theorem gal_le {a : AS} {s : Nat} : ∀ (d l : Nat) (w : W2), LeW (gal a s d l w) w := by
  intro d
  induction d with
  | zero => intro i w; exact LeW.refl
  | succ d ih =>
    intro l w
    refine (ih _ _).trans ?_
    split
    · exact glw_le _ _ _
    · exact LeW.refl
def InW (kd j x : Nat) (w : W2) : Prop := (prd kd = true → (cH (cF kd + j) < cK (cF kd + j) → ∀ b, (w.1 (12 * cH (cF kd + j) + cK (cF kd + j))).testBit b = true → x.testBit b = true) ∧ (¬ cH (cF kd + j) < cK (cF kd + j) → ∀ b, (w.1 (12 * cK (cF kd + j) + cH (cF kd + j))).testBit b = true → (flp x).testBit b = true)) ∧ (prd kd = false → ∀ b, (w.2 (cH (cF kd + j))).testBit b = true → x.testBit b = true)
theorem InW.le {kd j x : Nat} {w w' : W2} (h : InW kd j x w') (g : LeW w w') : InW kd j x w := ⟨fun p => ⟨fun e b hb => (h.1 p).1 e b (g.1 _ b hb), fun e b hb => (h.1 p).2 e b (g.1 _ b hb)⟩, fun p b hb => h.2 p b (g.2 _ b hb)⟩
theorem upN_in {f : Nat → Nat} {k z b : Nat} (h : (upN f k (f k &&& z) k).testBit b = true) : z.testBit b = true := by
  rw [upN_s, Nat.testBit_and, Bool.and_eq_true] at h
  exact h.2
theorem gst_in {kd j x : Nat} {w : W2} : InW kd j x (gst kd j x w) := by
  unfold gst
  refine ⟨fun p => ⟨fun e b hb => ?_, fun e b hb => ?_⟩, fun p b hb => ?_⟩
  · rw [if_pos p, if_pos e] at hb
    exact upN_in hb
  · rw [if_pos p, if_neg e] at hb
    exact upN_in hb
  · rw [if_neg (by rw [p]; decide)] at hb
    exact upN_in hb
theorem glw_in {kd : Nat} {T : Nat → Nat} {j : Nat} : ∀ (d i : Nat) (w : W2), i ≤ j → j < i + d → InW kd j (T j) (glw kd T d i w) := by
  intro d
  induction d with
  | zero => intro i w h1 h2; omega
  | succ d ih =>
    intro i w h1 h2
    by_cases e : i = j
    · subst e
      rw [glw]
      exact gst_in.le (glw_le _ _ _)
    · rw [glw]
      exact ih (i + 1) _ (by omega) (by omega)
theorem gal_in {a : AS} {s l j : Nat} (hb : s.testBit l = true) (hj : j < cN (aK a l)) : ∀ (d m : Nat) (w : W2), m ≤ l → l < m + d → InW (aK a l) j (aX a l j) (gal a s d m w) := by
  intro d
  induction d with
  | zero => intro i w h1 h2; omega
  | succ d ih =>
    intro m w h1 h2
    by_cases e : m = l
    · subst e
      rw [gal, if_pos hb]
      exact (glw_in _ _ _ (by omega) (by omega)).le (gal_le _ _ _)
    · rw [gal]
      exact ih (m + 1) _ (by omega) (by omega)
theorem keep_own {a : AS} {s l : Nat} (hA : AOK a) (hl : l < aN a) (hb : s.testBit l = true) : keepB a l s = true := by
  rw [keepB_iff]
  intro j hj r hr
  have hk := (hA.2.2.2.2.1 l hl).1
  have hx := (hA.2.2.2.2.1 l hl).2.2 j hj
  obtain ⟨c1, c2, c3, c4⟩ := cs_ok _ hk j hj
  have hin : InW (aK a l) j (aX a l j) (web a s) := gal_in hb hj _ _ _ (by omega) (by omega)
  unfold gob
  generalize hH : cH (cF (aK a l) + j) = h at c2 c3 hin ⊢
  have e1 := hr.1 h c2
  cases hp : prd (aK a l) with
  | true =>
    obtain ⟨k1, k2, -⟩ := c3 hp
    obtain ⟨i1, i2⟩ := hin.1 hp
    rw [hH] at i1 i2
    generalize hK : cK (cF (aK a l) + j) = k at k1 k2 i1 i2 ⊢
    have e2 := hr.1 k k1
    rw [if_pos rfl]
    by_cases hlt : h < k
    · exact i1 hlt _ (hr.2 h k hlt k1)
    · have hb2 := i2 hlt _ (hr.2 k h (by omega) c2)
      rwa [flp_bit _ (tmax_le hx) (r k - 1) (by omega) (r h - 1) (by omega)] at hb2
  | false =>
    rw [if_neg (by decide)]
    have i3 := hin.2 hp
    rw [hH] at i3
    exact i3 _ e1.2.2
