/-! PLAIN SIDE: small functions of both, over their ranges -/
set_option maxRecDepth 100000
theorem s_l9 : ∀ n, n < 32 → ((nI n &&& 31).toBitVec.smod 32).toNat = n := by decide +kernel
theorem nx_and9 (a b : Nat) : nI a &&& nI b = nI (a &&& b) := by
  apply Int32.toBitVec_inj.1
  show BitVec.ofNat 32 a &&& BitVec.ofNat 32 b = BitVec.ofNat 32 (a &&& b)
  apply BitVec.eq_of_getLsbD_eq
  intro i hi
  simp [hi]
theorem nx_or9 (a b : Nat) : nI a ||| nI b = nI (a ||| b) := by
  apply Int32.toBitVec_inj.1
  show BitVec.ofNat 32 a ||| BitVec.ofNat 32 b = BitVec.ofNat 32 (a ||| b)
  apply BitVec.eq_of_getLsbD_eq
  intro i hi
  simp [hi]
theorem shl_ok {x k : Nat} (hk : k < 32) (h : x * 2 ^ k < 2 ^ 32) : nI x <<< (nI k &&& 31) = nI (x * 2 ^ k) := pk_shlN _ k (s_l9 k hk) h
theorem shr_ok {x k : Nat} (hx : x < 2 ^ 31) (hk : k < 32) : nI x >>> (nI k &&& 31) = nI (x / 2 ^ k) := pk_shrN hx _ k (s_l9 k hk)
theorem has_ok {x k : Nat} (hx : x < 2 ^ 31) (hk : k < 32) : f_X0_has (nI x) (nI k) = some (nI (if x.testBit k = true then 1 else 0)) := by
  unfold f_X0_has
  rw [shr_ok hx hk, nx_and9, Nat.and_one_is_mod, Nat.testBit_eq_decide_div_mod_eq]
  rcases Nat.mod_two_eq_zero_or_one (x / 2 ^ k) with h | h <;> rw [h] <;> decide
theorem has_okM {x k : Nat} (hx : x < 2 ^ 31) (hk : k < 32) : f_X9_has (nI x) (nI k) = some (nI (if x.testBit k = true then 1 else 0)) := has_ok hx hk
theorem has_if {α : Type} {x k : Nat} (hx : x < 2 ^ 31) (hk : k < 32) {A B : Option α} : (f_X0_has (nI x) (nI k)).bind (fun r => if r = 0 then A else B) = if x.testBit k = true then B else A := by
  rw [has_ok hx hk]
  by_cases h : x.testBit k = true
  · rw [if_pos h, if_pos h]; rfl
  · rw [if_neg h, if_neg h]; rfl
theorem has_ifM {α : Type} {x k : Nat} (hx : x < 2 ^ 31) (hk : k < 32) {A B : Option α} : (f_X9_has (nI x) (nI k)).bind (fun r => if r = 0 then A else B) = if x.testBit k = true then B else A := has_if hx hk
/-! halls -/
def hsz (h : Nat) : Nat := if h < 4 then 2 else 3
def hwn (h p : Nat) : Nat := if hsz h ≤ p then 2 else (if h < 4 then h else h - 4) / 2 ^ p % 2
def hwg (h t : Nat) : Nat := (List.range (hsz h)).countP (fun p => hwn h p == t)
def htn (h s : Nat) : Nat := if h < 4 then h ^^^ s else ((h - 4) ^^^ s) + 4
def hfo (f h : Nat) : Nat := match f with
  | 0 => 1
  | 1 => 2
  | 2 => 3
  | 3 => 1 + hwn h 0
  | 4 => 1 + hwn h 1
  | 5 => if hwg h 1 < hwg h 0 then 1 else if hwg h 0 < hwg h 1 then 2 else 3
  | 6 => if hwg h 1 < hwg h 0 then 1 else if hwg h 0 < hwg h 1 then 2 else 1
  | 7 => if hwg h 1 < hwg h 0 then 1 else if hwg h 0 < hwg h 1 then 2 else 2
  | 8 => if hwg h 1 < hwg h 0 then 1 else if hwg h 0 < hwg h 1 then 2 else 1 + hwn h 0
  | 9 => if hwg h 0 = 0 then 2 else if hwg h 1 = 0 then 1 else 3
  | 10 => if 0 < hwg h 1 then 2 else 1
  | _ => if 0 < hwg h 0 then 1 else 2
theorem sz_ok : ∀ h, h < 12 → f_X9_size (nI h) = some (nI (hsz h)) ∧ f_X0_peopleOf (nI h) = some (nI (hsz h)) := by decide +kernel
theorem wn_ok : ∀ h, h < 12 → ∀ p, p < 3 → f_X9_wants (nI h) (nI p) = some (nI (hwn h p)) ∧ f_X0_wants (nI h) (nI p) = some (nI (hwn h p)) := by decide +kernel
theorem wg_ok : ∀ h, h < 12 → ∀ t, t < 2 → f_X9_wanting FU (nI h) (nI t) = some (nI (hwg h t)) ∧ f_X0_wanting FU (nI h) (nI t) = some (nI (hwg h t)) := by decide +kernel
theorem tn_ok : ∀ h, h < 12 → ∀ s, s < 8 → f_X9_turned (nI h) (nI s) = some (nI (htn h s)) ∧ f_X0_changed (nI h) (nI s) = some (nI (htn h s)) := by decide +kernel
theorem fo_ok : ∀ f, f < 12 → ∀ h, h < 12 → f_X9_formed FU (nI f) (nI h) = some (nI (hfo f h)) ∧ f_X0_formed FU (nI f) (nI h) = some (nI (hfo f h)) := by decide +kernel
theorem fo_in : ∀ f, f < 12 → ∀ h, h < 12 → 1 ≤ hfo f h ∧ hfo f h ≤ 3 := by decide +kernel
/-! bits of nine and of three -/
def flp (x : Nat) : Nat := (List.range 9).foldl (fun s j => s + if x.testBit (3 * (j % 3) + j / 3) = true then 2 ^ j else 0) 0
theorem flp_ok : ∀ x, x < 512 → f_X6_other FU (nI x) = some (nI (flp x)) ∧ f_X9_flipped FU (nI x) = some (nI (flp x)) := by decide +kernel
theorem flp_lt : ∀ x, x < 512 → flp x < 512 := by decide +kernel
theorem flp_bit : ∀ x, x < 512 → ∀ c, c < 3 → ∀ d, d < 3 → (flp x).testBit (3 * c + d) = x.testBit (3 * d + c) := by decide +kernel
theorem spr_ok : ∀ x, x < 8 → f_X6_firsts FU (nI (spr x)) = some (nI (2 * x)) ∧ spr x < 512 := by decide +kernel
theorem spr_bit : ∀ x, x < 8 → ∀ c, c < 3 → ∀ d, d < 3 → (spr x).testBit (3 * c + d) = x.testBit c := by decide +kernel
theorem par_ok : ∀ x, x < 512 → ∀ c, c < 3 → f_X6_partners (nI x) (nI (c + 1)) = some (nI (2 * (x / 2 ^ (3 * c) % 8))) := by decide +kernel
theorem bitOf_ok : ∀ c, c < 3 → ∀ d, d < 3 → f_X0_bitOf (nI (c + 1)) (nI (d + 1)) = some (nI (2 ^ (3 * c + d))) := by decide +kernel
theorem and_bit {x k : Nat} (hk : k < 9) (hx : x < 512) : (nI x &&& nI (2 ^ k) = 0) ↔ x.testBit k = false := by
  revert x
  revert k
  decide +kernel
