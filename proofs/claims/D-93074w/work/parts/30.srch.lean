/-! PLAIN SIDE: rules sought hall by hall, in plain numbers -/
set_option maxRecDepth 100000
/-- choices c, d are 1 .. 3; P: by two halls h < k, nine bits; M: by halls, three bits; H: the halls -/
def okp (P : Nat → Nat) (h c k d : Nat) : Bool := (P (12 * h + k)).testBit (3 * (c - 1) + (d - 1))
def okm (M : Nat → Nat) (h c : Nat) : Bool := (M h).testBit (c - 1)
/-- c may stand in hall k beside what r has in halls of H below j -/
def can (P M : Nat → Nat) (H : Nat) (r : Nat → Nat) (j k c : Nat) : Bool := okm M k c && (List.range j).all (fun i => !H.testBit i || okp P i (r i) k c)
def upN (r : Nat → Nat) (h c : Nat) : Nat → Nat := fun x => if x = h then c else r x
theorem upN_s {r : Nat → Nat} {h c : Nat} : upN r h c h = c := if_pos rfl
theorem upN_n {r : Nat → Nat} {h c x : Nat} (hx : x ≠ h) : upN r h c x = r x := if_neg hx
theorem can_iff {P M : Nat → Nat} {H : Nat} {r : Nat → Nat} {j k c : Nat} : can P M H r j k c = true ↔ okm M k c = true ∧ ∀ i, i < j → H.testBit i = true → okp P i (r i) k c = true := by
  simp only [can, Bool.and_eq_true, List.all_eq_true, List.mem_range, Bool.or_eq_true, Bool.not_eq_true']
  constructor
  · rintro ⟨h1, h2⟩
    refine ⟨h1, fun i hi hH => ?_⟩
    rcases h2 i hi with h | h
    · rw [hH] at h; cases h
    · exact h
  · rintro ⟨h1, h2⟩
    refine ⟨h1, fun i hi => ?_⟩
    cases hH : H.testBit i
    · exact Or.inl rfl
    · exact Or.inr (h2 i hi hH)
theorem can_congr {P M : Nat → Nat} {H : Nat} {r r' : Nat → Nat} {j k c : Nat} (h : ∀ i, i < j → H.testBit i = true → r' i = r i) : can P M H r' j k c = can P M H r j k c := by
  rw [Bool.eq_iff_iff, can_iff, can_iff]
  constructor
  · rintro ⟨h1, h2⟩
    exact ⟨h1, fun i hi hH => by rw [← h i hi hH]; exact h2 i hi hH⟩
  · rintro ⟨h1, h2⟩
    exact ⟨h1, fun i hi hH => by rw [h i hi hH]; exact h2 i hi hH⟩
/-- one hall more is chosen -/
theorem can_step {P M : Nat → Nat} {H : Nat} {r : Nat → Nat} {h c k d : Nat} : can P M H (upN r h c) (h + 1) k d = (can P M H r h k d && (!H.testBit h || okp P h c k d)) := by
  rw [Bool.eq_iff_iff, can_iff, Bool.and_eq_true, can_iff]
  constructor
  · rintro ⟨h1, h2⟩
    refine ⟨⟨h1, fun i hi hH => ?_⟩, ?_⟩
    · have := h2 i (by omega) hH
      rwa [upN_n (by omega)] at this
    · cases hH : H.testBit h
      · rfl
      · have := h2 h (by omega) hH
        rw [upN_s] at this
        simp [this]
  · rintro ⟨⟨h1, h2⟩, h3⟩
    refine ⟨h1, fun i hi hH => ?_⟩
    by_cases e : i = h
    · subst e
      rw [upN_s]
      simpa [hH] using h3
    · rw [upN_n e]
      exact h2 i (by omega) hH
/-- the first rule that goes on, from hall h, n halls -/
def skR (P M : Nat → Nat) (H : Nat) : Nat → Nat → (Nat → Nat) → Option (Nat → Nat)
  | 0, _, r => some r
  | n + 1, h, r => if H.testBit h = true then ((if can P M H r h h 1 = true then skR P M H n (h + 1) (upN r h 1) else none).or ((if can P M H r h h 2 = true then skR P M H n (h + 1) (upN r h 2) else none).or (if can P M H r h h 3 = true then skR P M H n (h + 1) (upN r h 3) else none))) else skR P M H n (h + 1) r
/-- it keeps what is below -/
theorem skR_low {P M : Nat → Nat} {H : Nat} : ∀ (n h : Nat) (r r' : Nat → Nat), skR P M H n h r = some r' → ∀ i, i < h → r' i = r i := by
  intro n
  induction n with
  | zero => intro h r r' hs i hi; cases hs; rfl
  | succ n ih =>
    intro h r r' hs i hi
    have key : ∀ c, (if can P M H r h h c = true then skR P M H n (h + 1) (upN r h c) else none) = some r' → r' i = r i := by
      intro c hc
      split at hc
      · rw [ih _ _ _ hc i (by omega), upN_n (by omega)]
      · cases hc
    unfold skR at hs
    split at hs
    · rcases Option.or_eq_some_iff.mp hs with h1 | ⟨-, h1⟩
      · exact key 1 h1
      · rcases Option.or_eq_some_iff.mp h1 with h2 | ⟨-, h2⟩
        · exact key 2 h2
        · exact key 3 h2
    · exact ih _ _ _ hs i (by omega)
/-- a hall ahead in which nothing is left -/
theorem skR_dead {P M : Nat → Nat} {H : Nat} : ∀ (n h k : Nat) (r : Nat → Nat), h ≤ k → k < h + n → H.testBit k = true → (∀ c, 1 ≤ c → c ≤ 3 → can P M H r h k c = false) → skR P M H n h r = none := by
  intro n
  induction n with
  | zero => intro h k r h1 h2; omega
  | succ n ih =>
    intro h k r h1 h2 hH hd
    unfold skR
    by_cases e : h = k
    · subst e
      rw [if_pos hH, hd 1 (by omega) (by omega), hd 2 (by omega) (by omega), hd 3 (by omega) (by omega)]
      rfl
    · have hn : ∀ c, skR P M H n (h + 1) (upN r h c) = none := by
        intro c
        refine ih (h + 1) k _ (by omega) (by omega) hH (fun d d1 d3 => ?_)
        rw [can_step, hd d d1 d3]
        rfl
      split
      · simp [hn]
      · refine ih (h + 1) k _ (by omega) (by omega) hH (fun d d1 d3 => ?_)
        have : can P M H r (h + 1) k d = can P M H (upN r h (r h)) (h + 1) k d := can_congr (fun i _ _ => by unfold upN; split <;> simp_all)
        rw [this, can_step, hd d d1 d3]
        rfl
theorem skR_congr {P M : Nat → Nat} {H : Nat} : ∀ (n h : Nat) (r r' : Nat → Nat), (∀ i, i < h → H.testBit i = true → r' i = r i) → (skR P M H n h r' = none ↔ skR P M H n h r = none) ∧ ∀ z z', skR P M H n h r = some z → skR P M H n h r' = some z' → ∀ i, h ≤ i → i < h + n → H.testBit i = true → z' i = z i := by
  intro n
  induction n with
  | zero => intro h r r' hr; exact ⟨by simp [skR], fun z z' _ _ i h1 h2 => by omega⟩
  | succ n ih =>
    intro h r r' hr
    have hc : ∀ c, can P M H r' h h c = can P M H r h h c := fun c => can_congr hr
    have hu : ∀ c i, i < h + 1 → H.testBit i = true → upN r' h c i = upN r h c i := by
      intro c i hi hH
      unfold upN
      split
      · rfl
      · exact hr i (by omega) hH
    have hlow : ∀ (c : Nat) (z : Nat → Nat) (s : Nat → Nat), skR P M H n (h + 1) (upN s h c) = some z → z h = c := fun c z s hz => by rw [skR_low _ _ _ _ hz h (by omega), upN_s]
    by_cases hH : H.testBit h = true
    · have key : ∀ c, ((if can P M H r' h h c = true then skR P M H n (h + 1) (upN r' h c) else none) = none ↔ (if can P M H r h h c = true then skR P M H n (h + 1) (upN r h c) else none) = none) ∧ ∀ z z', (if can P M H r h h c = true then skR P M H n (h + 1) (upN r h c) else none) = some z → (if can P M H r' h h c = true then skR P M H n (h + 1) (upN r' h c) else none) = some z' → ∀ i, h ≤ i → i < h + (n + 1) → H.testBit i = true → z' i = z i := by
        intro c
        rw [hc c]
        by_cases hcc : can P M H r h h c = true
        · rw [if_pos hcc, if_pos hcc]
          obtain ⟨i1, i2⟩ := ih (h + 1) (upN r h c) (upN r' h c) (hu c)
          refine ⟨i1, fun z z' hz hz' i h1 h2 hHi => ?_⟩
          by_cases e : i = h
          · subst e
            rw [hlow c z' r' hz', hlow c z r hz]
          · exact i2 z z' hz hz' i (by omega) (by omega) hHi
        · rw [if_neg hcc, if_neg hcc]
          exact ⟨Iff.rfl, fun z z' hz => by cases hz⟩
      have k1 := key 1
      have k2 := key 2
      have k3 := key 3
      unfold skR
      rw [if_pos hH, if_pos hH]
      generalize (if can P M H r h h 1 = true then skR P M H n (h + 1) (upN r h 1) else none) = t1 at k1 ⊢
      generalize (if can P M H r h h 2 = true then skR P M H n (h + 1) (upN r h 2) else none) = t2 at k2 ⊢
      generalize (if can P M H r h h 3 = true then skR P M H n (h + 1) (upN r h 3) else none) = t3 at k3 ⊢
      generalize (if can P M H r' h h 1 = true then skR P M H n (h + 1) (upN r' h 1) else none) = u1 at k1 ⊢
      generalize (if can P M H r' h h 2 = true then skR P M H n (h + 1) (upN r' h 2) else none) = u2 at k2 ⊢
      generalize (if can P M H r' h h 3 = true then skR P M H n (h + 1) (upN r' h 3) else none) = u3 at k3 ⊢
      cases t1 <;> cases u1 <;> simp_all
      cases t2 <;> cases u2 <;> simp_all
    · unfold skR
      rw [if_neg hH, if_neg hH]
      have hu2 : ∀ i, i < h + 1 → H.testBit i = true → r' i = r i := by
        intro i hi hHi
        by_cases e : i = h
        · subst e; exact absurd hHi hH
        · exact hr i (by omega) hHi
      obtain ⟨i1, i2⟩ := ih (h + 1) r r' hu2
      refine ⟨i1, fun z z' hz hz' i h1 h2 hHi => ?_⟩
      by_cases e : i = h
      · subst e; exact absurd hHi hH
      · exact i2 z z' hz hz' i (by omega) (by omega) hHi
/-- the last m of the three choices -/
def skT (P M : Nat → Nat) (H n h : Nat) (r : Nat → Nat) : Nat → Option (Nat → Nat)
  | 0 => none
  | m + 1 => (if can P M H r h h (3 - m) = true then skR P M H n (h + 1) (upN r h (3 - m)) else none).or (skT P M H n h r m)
theorem skR_T {P M : Nat → Nat} {H n h : Nat} {r : Nat → Nat} (hb : H.testBit h = true) : skR P M H (n + 1) h r = skT P M H n h r 3 := by
  rw [skR, if_pos hb]
  simp [skT]
