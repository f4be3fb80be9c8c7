/-! PLAIN SIDE: sets, their sizes and prices -/
set_option maxRecDepth 100000
theorem tot_le {f : Nat → Nat} {x s : Nat} (h : ∀ k, x.testBit k = true → s.testBit k = true) : ∀ d l, tot f x d l ≤ tot f s d l := by
  intro d
  induction d with
  | zero => intro l; exact Nat.le_refl _
  | succ d ih =>
    intro l
    have := ih (l + 1)
    unfold tot
    by_cases hx : x.testBit l = true
    · rw [if_pos hx, if_pos (h l hx)]; omega
    · rw [if_neg hx]; omega
theorem tot_lt {x s : Nat} (h : ∀ k, x.testBit k = true → s.testBit k = true) {i : Nat} (h1 : s.testBit i = true) (h2 : ¬ x.testBit i = true) : ∀ d l, l ≤ i → i < l + d → tot (fun _ => 1) x d l < tot (fun _ => 1) s d l := by
  intro d
  induction d with
  | zero => intro l h3 h4; omega
  | succ d ih =>
    intro l h3 h4
    unfold tot
    by_cases e : i = l
    · subst e
      rw [if_pos h1, if_neg h2]
      have := tot_le (f := fun _ => 1) h d (i + 1)
      omega
    · have := ih (l + 1) (by omega) (by omega)
      by_cases hx : x.testBit l = true
      · rw [if_pos hx, if_pos (h l hx)]; omega
      · rw [if_neg hx]; omega
theorem tot_bd {f : Nat → Nat} {s m : Nat} (h : ∀ k, f k ≤ m) : ∀ d l, tot f s d l ≤ m * d := by
  intro d
  induction d with
  | zero => intro l; exact Nat.zero_le _
  | succ d ih =>
    intro l
    unfold tot
    have := ih (l + 1)
    have h1 := h l
    rw [Nat.mul_succ]
    split <;> omega
theorem prc_tot {a : AS} {s : Nat} : ∀ d l z, prc a s d l (nI z) = nI (z + tot (aP a) s d l) := by
  intro d
  induction d with
  | zero => intro l z; rfl
  | succ d ih =>
    intro l z
    unfold prc tot
    by_cases h : s.testBit l = true
    · rw [if_pos h, if_pos h, nI_add, ih, Nat.add_assoc]
    · rw [if_neg h, if_neg h, nI_add, ih, Nat.zero_add, Nat.add_zero]
def prN (a : AS) (s : Nat) : Nat := tot (aP a) s (aN a) 0
theorem prc_N {a : AS} {s : Nat} : prc a s (aN a) 0 (nI 0) = nI (prN a s) := by rw [prc_tot, Nat.zero_add]; rfl
theorem tot_cl {f : Nat → Nat} {s : Nat} {n : Nat} : ∀ d l, l + d ≤ n → tot f s d l = tot (fun k => if k < n then f k else 0) s d l := by
  intro d
  induction d with
  | zero => intro l _; rfl
  | succ d ih =>
    intro l h
    unfold tot
    rw [ih (l + 1) (by omega), if_pos (show l < n by omega)]
theorem prN_bd {a : AS} {s : Nat} (hA : AOK a) : prN a s ≤ 800 := by
  unfold prN
  rw [tot_cl (n := aN a) _ _ (by omega)]
  have h := tot_bd (f := fun k => if k < aN a then aP a k else 0) (s := s) (m := 99) (fun k => by
    show (if k < aN a then aP a k else 0) ≤ 99
    split
    · rename_i h; exact (hA.2.2.2.2.1 k h).2.1
    · omega) (aN a) 0
  have h8 := hA.1
  have : 99 * aN a ≤ 99 * 8 := Nat.mul_le_mul_left _ h8
  omega
/-- whether x is a part of s, as both ask -/
def subI (s x : Nat) : Bool := decide (nI x &&& (nI s ^^^ (-1)) = 0)
theorem bvb (x k : Nat) (hk : k < 32) : (nI x).toBitVec.getLsbD k = x.testBit k := by
  show (BitVec.ofNat 32 x).getLsbD k = x.testBit k
  rw [BitVec.getLsbD_ofNat]
  simp [hk]
theorem m1b (k : Nat) (hk : k < 32) : (-1 : Int32).toBitVec.getLsbD k = true := by
  have h : ∀ k, k < 32 → (-1 : Int32).toBitVec.getLsbD k = true := by decide
  exact h k hk
theorem lo32 {x k : Nat} (hx : x < 256) (hk : ¬ k < 32) : x.testBit k = false := Nat.testBit_lt_two_pow (Nat.lt_of_lt_of_le hx (Nat.le_trans (show 256 ≤ 2 ^ 32 by decide) (Nat.pow_le_pow_right (by decide) (by omega))))
theorem subI_iff {s x : Nat} (hx : x < 256) : subI s x = true ↔ ∀ k, x.testBit k = true → s.testBit k = true := by
  unfold subI
  rw [decide_eq_true_eq]
  constructor
  · intro h k hk
    by_cases h32 : k < 32
    · have h1 := congrArg (fun z : Int32 => z.toBitVec.getLsbD k) h
      have h1 : (x.testBit k && (s.testBit k ^^ true)) = false := by
        have e : (nI x &&& (nI s ^^^ (-1))).toBitVec.getLsbD k = ((nI x).toBitVec.getLsbD k && ((nI s).toBitVec.getLsbD k ^^ (-1 : Int32).toBitVec.getLsbD k)) := by
          rw [Int32.toBitVec_and, Int32.toBitVec_xor, BitVec.getLsbD_and, BitVec.getLsbD_xor]
        rw [← bvb x k h32, ← bvb s k h32, ← m1b k h32, ← e]
        exact h1.trans (by simp)
      rw [hk] at h1
      simpa using h1
    · rw [lo32 hx h32] at hk; cases hk
  · intro h
    apply Int32.toBitVec_inj.1
    apply BitVec.eq_of_getLsbD_eq
    intro k hk
    rw [Int32.toBitVec_and, Int32.toBitVec_xor, BitVec.getLsbD_and, BitVec.getLsbD_xor, bvb x k hk, bvb s k hk, m1b k hk]
    cases hx : x.testBit k with
    | false => simp
    | true => rw [h k hx]; simp
theorem sub_xor {s x : Nat} (hx : x < 256) (h : subI s x = true) : nI s ^^^ nI x = nI (s ^^^ x) ∧ nI s &&& (nI x ^^^ (-1)) = nI (s ^^^ x) := by
  rw [subI_iff hx] at h
  constructor
  · apply Int32.toBitVec_inj.1
    apply BitVec.eq_of_getLsbD_eq
    intro k hk
    rw [Int32.toBitVec_xor, BitVec.getLsbD_xor, bvb x k hk, bvb s k hk, bvb _ k hk, Nat.testBit_xor]
  · apply Int32.toBitVec_inj.1
    apply BitVec.eq_of_getLsbD_eq
    intro k hk
    rw [Int32.toBitVec_and, Int32.toBitVec_xor, BitVec.getLsbD_and, BitVec.getLsbD_xor, bvb x k hk, bvb s k hk, bvb _ k hk, m1b k hk, Nat.testBit_xor]
    cases hx : x.testBit k with
    | false => simp
    | true => rw [h k hx]; simp
theorem xor_lt {s x : Nat} (hs : s < 256) (hx : x < 256) : s ^^^ x < 256 := Nat.xor_lt_two_pow (n := 8) hs hx
theorem subI_self {s : Nat} (hs : s < 256) : subI s s = true := (subI_iff hs).mpr (fun _ h => h)
theorem sub_lt {s x : Nat} (hs : s < 256) (hx : x < 256) (h : subI s x = true) (hne : x ≠ s) : bc x < bc s := by
  rw [subI_iff hx] at h
  have hex : ∃ i, i < 12 ∧ s.testBit i = true ∧ ¬ x.testBit i = true := by
    apply Classical.byContradiction
    intro hno
    apply hne
    apply Nat.eq_of_testBit_eq
    intro i
    by_cases hi : i < 12
    · cases hxi : x.testBit i with
      | true => rw [h i hxi]
      | false =>
        cases hsi : s.testBit i with
        | false => rfl
        | true => exact absurd ⟨i, hi, hsi, by rw [hxi]; decide⟩ hno
    · have p : 256 ≤ 2 ^ i := Nat.le_trans (show 256 ≤ 2 ^ 12 by decide) (Nat.pow_le_pow_right (by decide) (by omega))
      rw [Nat.testBit_lt_two_pow (Nat.lt_of_lt_of_le hx p), Nat.testBit_lt_two_pow (Nat.lt_of_lt_of_le hs p)]
  obtain ⟨i, i1, i2, i3⟩ := hex
  exact tot_lt h i2 i3 12 0 (by omega) (by omega)
theorem sub_pr {a : AS} {s x : Nat} (hx : x < 256) (h : subI s x = true) : prN a x ≤ prN a s := tot_le ((subI_iff hx).mp h) _ _
/-- cheaper, or as cheap and smaller -/
def ltp (a : AS) (x y : Nat) : Bool := decide (prN a x < prN a y ∨ (prN a x = prN a y ∧ bc x < bc y))
theorem sb_toInt {p q : Nat} (hp : p ≤ 1000) (hq : q ≤ 1000) : (nI p - nI q).toInt = (p : Int) - q := by
  rw [Int32.toInt_sub, nI_toInt (by omega), nI_toInt (by omega)]
  exact Int.bmod_eq_of_le (by omega) (by omega)
theorem bc_le (x : Nat) : bc x ≤ 12 := Nat.le_trans (tot_bd (m := 1) (fun _ => Nat.le_refl _) 12 0) (by decide)
theorem isLess_ok {n : Nat} {S : SH} {I : II} {ow : Nat → Nat} {a : AS} {v x y : Nat} (h : VN S I ow a v) (hx : x < 256) (hy : y < 256) : f_X0_isLess FU S (nI x) (nI y) I = some (bI (ltp a x y)) := by
  obtain ⟨hS, hM, hA, hv, hV⟩ := h
  have p1 := prN_bd (s := x) hA
  have p2 := prN_bd (s := y) hA
  have b1 := bc_le x
  have b2 := bc_le y
  unfold f_X0_isLess
  rw [orf_ok hv, ock_ok hV.1.r, prices_ok hV hA hx, Option.bind_some, orf_ok hv, ock_ok hV.1.r, prices_ok hV hA hy, Option.bind_some, prc_N, prc_N, bc_okN x (by omega), bc_okN y (by omega), Option.bind_some, Option.bind_some]
  have ti := sb_toInt (p := prN a x) (q := prN a y) (by omega) (by omega)
  unfold ltp
  by_cases e : prN a x = prN a y
  · rw [if_pos (by rw [e]; exact Int32.sub_self _)]
    by_cases e2 : bc x < bc y
    · rw [if_neg (nI_ge e2 (by omega)), decide_eq_true (by omega)]; rfl
    · rw [if_pos (nI_le (by omega) (by omega)), decide_eq_false (by omega)]; rfl
  · have ne : ¬ nI (prN a x) - nI (prN a y) = 0 := fun h => by
      rw [h] at ti
      have : (0 : Int32).toInt = 0 := rfl
      omega
    rw [if_neg ne]
    have z0 : (0 : Int32).toInt = 0 := rfl
    by_cases e2 : prN a x < prN a y
    · rw [if_neg (fun h => by rw [Int32.le_iff_toInt_le] at h; omega), decide_eq_true (by omega)]; rfl
    · rw [if_pos (by rw [Int32.le_iff_toInt_le]; omega), decide_eq_false (by omega)]; rfl
theorem gal0 {a : AS} : ∀ d l w, gal a 0 d l w = w := by
  intro d
  induction d with
  | zero => intro l w; rfl
  | succ d ih => intro l w; unfold gal; rw [if_neg (by simp), ih]
theorem b511 : ∀ c, c < 3 → ∀ d, d < 3 → (511).testBit (3 * c + d) = true := by decide
theorem skR_all : ∀ n h r, (∀ i, i < h → 1 ≤ r i ∧ r i ≤ 3) → (skR (fun _ => 511) (fun _ => 7) 4095 n h r).isSome = true := by
  intro n
  induction n with
  | zero => intro h r _; rfl
  | succ n ih =>
    intro h r hr
    unfold skR
    split
    · have hc : can (fun _ => 511) (fun _ => 7) 4095 r h h 1 = true := by
        rw [can_iff]
        refine ⟨show (7).testBit (1 - 1) = true by decide, fun i hi _ => ?_⟩
        obtain ⟨r1, r2⟩ := hr i hi
        exact b511 (r i - 1) (by omega) (1 - 1) (by omega)
      rw [if_pos hc]
      have := ih (h + 1) (upN r h 1) (fun i hi => by
        by_cases e : i = h
        · subst e; rw [upN_s]; omega
        · rw [upN_n e]; exact hr i (by omega))
      obtain ⟨z, hz⟩ := Option.isSome_iff_exists.mp this
      rw [hz]
      rfl
    · rename_i hb
      by_cases h12 : h < 12
      · exact absurd (all_bit h h12) hb
      · have : ∀ n h r, 12 ≤ h → (skR (fun _ => 511) (fun _ => 7) 4095 n h r).isSome = true := by
          intro n
          induction n with
          | zero => intro h r _; rfl
          | succ n ih2 =>
            intro h r hh
            unfold skR
            rw [if_neg (by rw [Nat.testBit_lt_two_pow (Nat.lt_of_lt_of_le (show 4095 < 2 ^ 12 by decide) (Nat.pow_le_pow_right (by decide) hh))]; decide)]
            exact ih2 (h + 1) r (by omega)
        exact this n (h + 1) r (by omega)
theorem rul0 {a : AS} : (rul a 0).isSome = true := by
  unfold rul web
  rw [gal0]
  exact skR_all 12 0 _ (fun i hi => by omega)
