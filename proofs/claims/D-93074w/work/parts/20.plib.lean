/-! PLAIN SIDE: small words -/
set_option maxRecDepth 100000
abbrev FU : Nat := 5000
theorem ock_ok {β : Type} {sh : SH} {a c : Nat} {f : Option β} (h : ob sh a c) : ock sh a c f = f := if_pos h
theorem ockw_ok {β : Type} {sh : SH} {a c : Nat} {f : Option β} (h : obw sh a c) : ockw sh a c f = f := if_pos h
theorem oar_ok {β : Type} {sh : SH} {a t n : Nat} {f : Nat → Option β} (h : ar sh a t n) : oar sh a t f = f n := by
  unfold oar
  rw [if_pos ⟨h.1, by rw [h.2]⟩, h.2]
theorem oarw_ok {β : Type} {sh : SH} {a t n : Nat} {f : Nat → Option β} (h : arw sh a t n) : oarw sh a t f = f n := by
  unfold oarw
  rw [if_pos ⟨h.1, by rw [h.2]⟩, h.2]
theorem orf_ok {β : Type} {o : Option Nat} {t : Nat} {f : Nat → Option β} (h : o = some t) : orf o f = f t := by rw [h]; rfl
theorem og_ok {β : Type} {q : Prop} [Decidable q] {f : Option β} (h : q) : og q f = f := if_pos h
theorem ost_ok {β : Type} {sh : SH} {f : Option β} (h : stN sh) : ost sh f = f := if_pos (stNb_iff.mpr h)
theorem onw_ok {β : Type} {sh : SH} {f : Option β} (h : sh.1 < exA) : onw sh f = f := if_pos h
theorem ockD_ok {β : Type} {sh : SH} {a k : Nat} {f : Option β} (h : ob sh a (11 + k)) (hk : k < 6) : ockD sh a f = f := by
  refine if_pos ⟨h.1, ?_⟩
  rw [h.2]
  omega
theorem ockwD_ok {β : Type} {sh : SH} {a k : Nat} {f : Option β} (h : obw sh a (11 + k)) (hk : k < 6) : ockwD sh a f = f := by
  refine if_pos ⟨h.1, ?_⟩
  rw [h.2]
  omega
theorem bind_ok {α β : Type} {x : Option α} {a : α} {f : α → Option β} (h : x = some a) : x.bind f = f a := by rw [h]; rfl
theorem bd2_ok {α β γ : Type} {x : Option (α × β)} {a : α} {b : β} {f : α → β → Option γ} (h : x = some (a, b)) : bd2 x f = f a b := by rw [h]; rfl
theorem bd3_ok {α γ : Type} {x : Option (α × SH × II)} {a : α} {S : SH} {I : II} {f : α → SH → II → Option γ} (h : x = some (a, S, I)) : bd3 x f = f a S I := by rw [h]; rfl
theorem omn3_ok {α : Type} {S : SH} {x : Option (α × SH × II)} {z : α × SH × II} (h : x = some z) (hz : S.1 ≤ z.2.1.1) : omn3 S x = some z := by
  rw [h]
  exact if_pos hz
theorem omn2_ok {S : SH} {x : Option (SH × II)} {z : SH × II} (h : x = some z) (hz : S.1 ≤ z.1.1) : omn2 S x = some z := by
  rw [h]
  exact if_pos hz
theorem oix_ok {α : Type} {i : Int32} {j q : Nat} {f : Nat → Option α} (hi : i = nI j) (h : j < q) (hq : q < 2 ^ 31) : oix i q f = f j := by rw [hi]; exact oix_in h hq
/-! rows of ints -/
theorem up2_eq {I : II} {a k : Nat} {v : Int32} : up2 I a k v a k = v := by rw [up2_s]; simp [upd]
theorem up2_ne {I : II} {a k j : Nat} {v : Int32} (h : j ≠ k) : up2 I a k v a j = I a j := by rw [up2_s]; simp [upd, h]
theorem up2_at {I : II} {a k b j : Nat} {v : Int32} : up2 I a k v b j = if b = a ∧ j = k then v else I b j := by
  by_cases h : b = a
  · subst h
    by_cases h2 : j = k
    · subst h2; simp [up2_eq]
    · simp [up2_ne h2, h2]
  · simp [up2_n h, h]
/-! numbers in a range -/
theorem in_cases (x : Int32) (lo hi : Nat) (hh : hi < 2 ^ 31) (hl : lo ≤ hi) : (f_X0_in x (nI lo) (nI hi) = some (nI 0) ∧ f_X9_within x (nI lo) (nI hi) = some (nI 0)) ∨ ∃ j : Nat, lo ≤ j ∧ j ≤ hi ∧ x = nI j ∧ f_X0_in x (nI lo) (nI hi) = some (nI 1) ∧ f_X9_within x (nI lo) (nI hi) = some (nI 1) := by
  unfold f_X0_in f_X9_within
  by_cases h1 : x < nI lo
  · left; simp [h1]
  · by_cases h2 : nI hi < x
    · left; simp [h1, h2]
    · right
      have h3 : ¬ x < 0 := by
        intro h
        apply h1
        rw [Int32.lt_iff_toInt_lt] at h ⊢
        rw [nI_toInt (by omega)]
        have : (0 : Int32).toInt = 0 := rfl
        omega
      obtain ⟨j, hj, rfl⟩ := nI_of h3
      refine ⟨j, ?_, ?_, rfl, by simp [h1, h2], by simp [h1, h2]⟩
      · exact Nat.not_lt.mp fun h => h1 (nI_lt h (by omega))
      · exact Nat.not_lt.mp fun h => h2 (nI_lt h hj)
theorem nI0_ne : nI 1 ≠ 0 := by decide
