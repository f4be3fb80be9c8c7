/-! PLAIN SIDE: how many rules there are, the reference -/
set_option maxRecDepth 100000
/-- sums of numbers below n -/
def sN (g : Nat → Nat) : Nat → Nat → Nat
  | 0, _ => 0
  | d + 1, k => g k + sN g d (k + 1)
theorem sN_3 {g : Nat → Nat} : ∀ d k, sN g (3 * d) (3 * k) = sN (fun j => g (3 * j) + g (3 * j + 1) + g (3 * j + 2)) d k := by
  intro d
  induction d with
  | zero => intro k; rfl
  | succ d ih =>
    intro k
    rw [show 3 * (d + 1) = 3 * d + 1 + 1 + 1 by omega, sN, sN, sN, sN, show 3 * k + 1 + 1 + 1 = 3 * (k + 1) by omega, show 3 * k + 1 + 1 = 3 * k + 2 by omega, ih]
    omega
theorem sN_congr {f g : Nat → Nat} : ∀ d k, (∀ j, k ≤ j → j < k + d → f j = g j) → sN f d k = sN g d k := by
  intro d
  induction d with
  | zero => intro k _; rfl
  | succ d ih =>
    intro k h
    rw [sN, sN, h k (by omega) (by omega), ih (k + 1) (fun j j1 j2 => h j (by omega) (by omega))]
theorem sN_81 {G : Nat → Nat → Nat → Nat → Nat} : sN (fun k => G (k % 3 + 1) (k / 3 % 3 + 1) (k / 9 % 3 + 1) (k / 27 % 3 + 1)) 81 0 = (fun T => T 1 + T 2 + T 3) (fun d => (fun T => T 1 + T 2 + T 3) (fun c => (fun T => T 1 + T 2 + T 3) (fun b => (fun T => T 1 + T 2 + T 3) (fun a => G a b c d)))) := by
  have e1 : sN (fun k => G (k % 3 + 1) (k / 3 % 3 + 1) (k / 9 % 3 + 1) (k / 27 % 3 + 1)) (3 * 27) (3 * 0) = sN (fun j => G 1 (j % 3 + 1) (j / 3 % 3 + 1) (j / 9 % 3 + 1) + G 2 (j % 3 + 1) (j / 3 % 3 + 1) (j / 9 % 3 + 1) + G 3 (j % 3 + 1) (j / 3 % 3 + 1) (j / 9 % 3 + 1)) 27 0 := by
    rw [sN_3]
    refine sN_congr _ _ (fun j _ _ => ?_)
    show G ((3 * j) % 3 + 1) ((3 * j) / 3 % 3 + 1) ((3 * j) / 9 % 3 + 1) ((3 * j) / 27 % 3 + 1) + G ((3 * j + 1) % 3 + 1) ((3 * j + 1) / 3 % 3 + 1) ((3 * j + 1) / 9 % 3 + 1) ((3 * j + 1) / 27 % 3 + 1) + G ((3 * j + 2) % 3 + 1) ((3 * j + 2) / 3 % 3 + 1) ((3 * j + 2) / 9 % 3 + 1) ((3 * j + 2) / 27 % 3 + 1) = _
    rw [show (3 * j) % 3 = 0 by omega, show (3 * j) / 3 = j by omega, show (3 * j) / 9 = j / 3 by omega, show (3 * j) / 27 = j / 9 by omega, show (3 * j + 1) % 3 = 1 by omega, show (3 * j + 1) / 3 = j by omega, show (3 * j + 1) / 9 = j / 3 by omega, show (3 * j + 1) / 27 = j / 9 by omega, show (3 * j + 2) % 3 = 2 by omega, show (3 * j + 2) / 3 = j by omega, show (3 * j + 2) / 9 = j / 3 by omega, show (3 * j + 2) / 27 = j / 9 by omega]
  have e2 : ∀ (Q : Nat → Nat → Nat → Nat), sN (fun j => Q (j % 3 + 1) (j / 3 % 3 + 1) (j / 9 % 3 + 1)) (3 * 9) (3 * 0) = sN (fun j => Q 1 (j % 3 + 1) (j / 3 % 3 + 1) + Q 2 (j % 3 + 1) (j / 3 % 3 + 1) + Q 3 (j % 3 + 1) (j / 3 % 3 + 1)) 9 0 := by
    intro Q
    rw [sN_3]
    refine sN_congr _ _ (fun j _ _ => ?_)
    show Q ((3 * j) % 3 + 1) ((3 * j) / 3 % 3 + 1) ((3 * j) / 9 % 3 + 1) + Q ((3 * j + 1) % 3 + 1) ((3 * j + 1) / 3 % 3 + 1) ((3 * j + 1) / 9 % 3 + 1) + Q ((3 * j + 2) % 3 + 1) ((3 * j + 2) / 3 % 3 + 1) ((3 * j + 2) / 9 % 3 + 1) = _
    rw [show (3 * j) % 3 = 0 by omega, show (3 * j) / 3 = j by omega, show (3 * j) / 9 = j / 3 by omega, show (3 * j + 1) % 3 = 1 by omega, show (3 * j + 1) / 3 = j by omega, show (3 * j + 1) / 9 = j / 3 by omega, show (3 * j + 2) % 3 = 2 by omega, show (3 * j + 2) / 3 = j by omega, show (3 * j + 2) / 9 = j / 3 by omega]
  refine e1.trans ?_
  have e3 := e2 (fun b c d => G 1 b c d + G 2 b c d + G 3 b c d)
  have e4 : ∀ (Q : Nat → Nat → Nat), sN (fun j => Q (j % 3 + 1) (j / 3 % 3 + 1)) (3 * 3) (3 * 0) = sN (fun j => Q 1 (j % 3 + 1) + Q 2 (j % 3 + 1) + Q 3 (j % 3 + 1)) 3 0 := by
    intro Q
    rw [sN_3]
    refine sN_congr _ _ (fun j _ _ => ?_)
    show Q ((3 * j) % 3 + 1) ((3 * j) / 3 % 3 + 1) + Q ((3 * j + 1) % 3 + 1) ((3 * j + 1) / 3 % 3 + 1) + Q ((3 * j + 2) % 3 + 1) ((3 * j + 2) / 3 % 3 + 1) = _
    rw [show (3 * j) % 3 = 0 by omega, show (3 * j) / 3 = j by omega, show (3 * j + 1) % 3 = 1 by omega, show (3 * j + 1) / 3 = j by omega, show (3 * j + 2) % 3 = 2 by omega, show (3 * j + 2) / 3 = j by omega]
  have e5 : ∀ (Q : Nat → Nat), sN (fun j => Q (j % 3 + 1)) 3 0 = Q 1 + Q 2 + Q 3 := by
    intro Q
    show Q 1 + (Q 2 + (Q 3 + 0)) = _
    omega
  have e6 := e4 (fun c d => (G 1 1 c d + G 2 1 c d + G 3 1 c d) + (G 1 2 c d + G 2 2 c d + G 3 2 c d) + (G 1 3 c d + G 2 3 c d + G 3 3 c d))
  rw [e3, e6]
  exact e5 (fun d => ((G 1 1 1 d + G 2 1 1 d + G 3 1 1 d) + (G 1 2 1 d + G 2 2 1 d + G 3 2 1 d) + (G 1 3 1 d + G 2 3 1 d + G 3 3 1 d)) + ((G 1 1 2 d + G 2 1 2 d + G 3 1 2 d) + (G 1 2 2 d + G 2 2 2 d + G 3 2 2 d) + (G 1 3 2 d + G 2 3 2 d + G 3 3 2 d)) + ((G 1 1 3 d + G 2 1 3 d + G 3 1 3 d) + (G 1 2 3 d + G 2 2 3 d + G 3 2 3 d) + (G 1 3 3 d + G 2 3 3 d + G 3 3 3 d)))
/-- digits of a number as choices of the first four halls -/
def dig (r : Nat → Nat) (k : Nat) : Nat → Nat := upN (upN (upN (upN r 3 (k / 27 % 3 + 1)) 2 (k / 9 % 3 + 1)) 1 (k / 3 % 3 + 1)) 0 (k % 3 + 1)
theorem sA_81 {f : (Nat → Nat) → Nat} {r : Nat → Nat} : sN (fun k => f (dig r k)) 81 0 = sA [3, 2, 1, 0] f r := sN_81 (G := fun a b c d => f (upN (upN (upN (upN r 3 d) 2 c) 1 b) 0 a))
/-- whether choices of the first four fit by masks -/
def w4 (P M : Nat → Nat) (m : Nat) (r : Nat → Nat) : Bool := alF (fun h => m.testBit (3 * h + (r h - 1)) && can P M 15 r h h (r h)) 0 4
def Wm (P M : Nat → Nat) (m : Nat) : Nat := sN (fun k => (w4 P M m (dig (fun _ => 0) k)).toNat) 81 0
theorem Wm_def {P M : Nat → Nat} {m : Nat} : sN (fun k => (w4 P M m (dig (fun _ => 0) k)).toNat) 81 0 = Wm P M m := by unfold Wm; exact Eq.refl _
theorem w4_le {P M : Nat → Nat} {m : Nat} : ∀ d k, sN (fun k => (w4 P M m (dig (fun _ => 0) k)).toNat) d k ≤ d := by
  intro d
  induction d with
  | zero => intro k; exact Nat.le_refl 0
  | succ d ih =>
    intro k
    rw [sN]
    have h1 := ih (k + 1)
    have h2 : (w4 P M m (dig (fun _ => 0) k)).toNat ≤ 1 := by cases w4 P M m (dig (fun _ => 0) k) <;> decide
    omega
/-- the row of counted ways -/
def Memo (I : II) (P M : Nat → Nat) : Prop := ∀ m, m < 4096 → I 40 m = -1 ∨ I 40 m = nI (Wm P M m)
theorem b15 : ∀ k, k < 4 → (15).testBit k = true := by decide
theorem waysBy_ok {I : II} {P M : Nat → Nat} {m : Nat} (hW : MW3 I P M) (hm : m < 4096) (hQ : Memo I P M) : ∃ I', f_X9_waysBy FU (nI m) I = some (nI (Wm P M m), I') ∧ (∀ x, x ≠ 39 → x ≠ 40 → I' x = I x) ∧ (∀ k, 4 ≤ k → I' 39 k = I 39 k) ∧ Memo I' P M := by
  have F5 := FU5
  have hle : Wm P M m ≤ 81 := by rw [← Wm_def]; exact w4_le 81 0
  have hWd := Wm_def (P := P) (M := M) (m := m)
  obtain ⟨W, hW0⟩ : ∃ W, Wm P M m = W := ⟨_, rfl⟩
  have hQm := hQ m hm
  rw [hW0] at hle hWd hQm ⊢
  unfold f_X9_waysBy
  rw [oix_ok (j := m) rfl hm (by decide)]
  rcases hQm with h | h
  · rw [h, if_neg m1_neg]
    -- the four halls of one number
    have l28 : ∀ (k : Nat) (k13 : Int32 → Int32 → II → Option (Int32 × II)) (x2 : Int32), k < 81 → ∀ (d h q : Nat) (b : Bool) (I1 : II), h + d = 4 → d + 1 ≤ q → (∀ x, x ≠ 39 → I1 x = I x) → (∀ j, 4 ≤ j → I1 39 j = I 39 j) → (∀ j, j < h → I1 39 j = nI (dig (fun _ => 0) k j)) → ∃ I2, f_X9_waysBy_L28 FU k13 (nI m) x2 (nI k) q (bI b) (nI (k / 3 ^ h)) (nI h) I1 = k13 (x2 + bI (b && alF (fun h => m.testBit (3 * h + (dig (fun _ => 0) k h - 1)) && can P M 15 (dig (fun _ => 0) k) h h (dig (fun _ => 0) k h)) h d)) (nI (k + 1)) I2 ∧ (∀ x, x ≠ 39 → I2 x = I x) ∧ (∀ j, 4 ≤ j → I2 39 j = I 39 j) := by
      intro k k13 x2 hk d
      have dg : ∀ h, h < 4 → dig (fun _ => 0) k h = k / 3 ^ h % 3 + 1 := by
        intro h hh
        have hc : h = 0 ∨ h = 1 ∨ h = 2 ∨ h = 3 := by omega
        rcases hc with rfl | rfl | rfl | rfl
        · show k % 3 + 1 = k / 1 % 3 + 1
          rw [Nat.div_one]
        · rfl
        · rfl
        · rfl
      induction d with
      | zero =>
        intro h q b I1 hh hq g1 g2 g3
        obtain ⟨q, rfl⟩ := pred1 hq
        obtain rfl : h = 4 := by omega
        refine ⟨I1, ?_, g1, g2⟩
        rw [f_X9_waysBy_L28, if_pos (by decide), nI_add]
        cases b <;> rfl
      | succ d ih =>
        intro h q b I1 hh hq g1 g2 g3
        obtain ⟨q, rfl⟩ := pred1 hq
        replace hq := Nat.le_of_succ_le_succ hq
        have hh4 : h < 4 := by omega
        have hq81 : k / 3 ^ h < 81 := Nat.lt_of_le_of_lt (Nat.div_le_self _ _) hk
        have hdv : k / 3 ^ h / 3 = k / 3 ^ (h + 1) := by rw [Nat.div_div_eq_div_mul, Nat.pow_succ]
        have hc1 : 1 ≤ k / 3 ^ h % 3 + 1 := by omega
        have hc3 : k / 3 ^ h % 3 + 1 ≤ 3 := by omega
        rw [f_X9_waysBy_L28, if_neg (nI_ge hh4 (by omega)), oix_ok (j := h) rfl (by omega) (by decide), pk_rem (by omega) (by decide) (by decide), pk_div (by omega) (by decide) (by decide), hdv, nI_add, nI_add, oix_ok (j := h) rfl (by omega) (by decide), up2_eq]
        have u1 : ∀ x, x ≠ 39 → up2 I1 39 h (nI (k / 3 ^ h % 3 + 1)) x = I x := fun x hx => by rw [up2_n hx]; exact g1 x hx
        have u2 : ∀ j, 4 ≤ j → up2 I1 39 h (nI (k / 3 ^ h % 3 + 1)) 39 j = I 39 j := fun j hj => by rw [up2_ne (by omega)]; exact g2 j hj
        have u3 : ∀ j, j < h + 1 → up2 I1 39 h (nI (k / 3 ^ h % 3 + 1)) 39 j = nI (dig (fun _ => 0) k j) := fun j hj => by
          by_cases e : j = h
          · subst e; rw [up2_eq, dg j hh4]
          · rw [up2_ne e]; exact g3 j (by omega)
        have i1 := fun b => ih (h + 1) q b _ (by omega) hq u1 u2 u3
        have i0 := i1 false
        rw [bI_f] at i0
        rw [alF, dg h hh4]
        cases b with
        | false =>
          rw [if_pos (show bI false = 0 from rfl)]
          exact i0
        | true =>
          have hW1 : MW3 (up2 I1 39 h (nI (k / 3 ^ h % 3 + 1))) P M := hW.of (u1 37 (by decide)) (u1 38 (by decide))
          have hfa := fa_ok (H := 15) (r := dig (fun _ => 0) k) hW1 (show h < 12 by omega) hc1 hc3 (by decide) (fun j hj _ => ⟨u3 j (by omega), by rw [dg j (by omega)]; omega, by rw [dg j (by omega)]; omega⟩)
          rw [if_neg (show ¬ bI true = 0 by decide), oix_ok (j := h) rfl (by omega) (by decide), up2_eq, pk_mul, nI_add, pk_sub (by omega), show 3 * h + (k / 3 ^ h % 3 + 1) - 1 = 3 * h + (k / 3 ^ h % 3 + 1 - 1) by omega, has_ifM (by omega) (by omega), hfa, bind_if]
          obtain ⟨I2, e2, f2⟩ := i1 true
          rw [bI_t] at e2
          by_cases hb1 : m.testBit (3 * h + (k / 3 ^ h % 3 + 1 - 1)) = true
          · rw [if_pos hb1, hb1, Bool.true_and, Bool.true_and]
            by_cases hb2 : can P M 15 (dig (fun _ => 0) k) h h (k / 3 ^ h % 3 + 1) = true
            · rw [if_pos hb2, hb2, Bool.true_and]
              refine ⟨I2, ?_, f2⟩
              rw [e2, Bool.true_and]
            · have hb2' : can P M 15 (dig (fun _ => 0) k) h h (k / 3 ^ h % 3 + 1) = false := by simpa using hb2
              rw [if_neg hb2, hb2', Bool.false_and]
              exact i0
          · have hb1' : m.testBit (3 * h + (k / 3 ^ h % 3 + 1 - 1)) = false := by simpa using hb1
            rw [if_neg hb1, hb1', Bool.true_and, Bool.false_and, Bool.false_and]
            exact i0
    have l13 : ∀ (d k q z : Nat) (I1 : II), k + d = 81 → d + 1 ≤ q → z + sN (fun k => (w4 P M m (dig (fun _ => 0) k)).toNat) d k = W → (∀ x, x ≠ 39 → I1 x = I x) → (∀ j, 4 ≤ j → I1 39 j = I 39 j) → ∃ I', f_X9_waysBy_L13 FU (nI m) q (nI z) (nI k) I1 = some (nI W, I') ∧ (∀ x, x ≠ 39 → x ≠ 40 → I' x = I x) ∧ (∀ k, 4 ≤ k → I' 39 k = I 39 k) ∧ Memo I' P M := by
      intro d
      induction d with
      | zero =>
        intro k q z I1 hk hq hz g1 g2
        obtain ⟨q, rfl⟩ := pred1 hq
        obtain rfl : k = 81 := by omega
        have hz : z = W := by rw [← hz, sN, Nat.add_zero]
        subst hz
        refine ⟨up2 I1 40 m (nI z), ?_, fun x x1 x2 => by rw [up2_n x2]; exact g1 x x1, fun j hj => by rw [up2_n (by decide)]; exact g2 j hj, fun y hy => ?_⟩
        · rw [f_X9_waysBy_L13, if_pos (by decide), oix_ok (j := m) rfl hm (by decide), oix_ok (j := m) rfl hm (by decide), up2_eq]
        · by_cases e : y = m
          · subst e; right; rw [up2_eq, hW0]
          · rw [up2_ne e, g1 40 (by decide)]; exact hQ y hy
      | succ d ih =>
        intro k q z I1 hk hq hz g1 g2
        obtain ⟨q, rfl⟩ := pred1 hq
        replace hq := Nat.le_of_succ_le_succ hq
        rw [f_X9_waysBy_L13, if_neg (nI_ge (by omega) (by omega))]
        obtain ⟨I2, e2, f2, f3⟩ := l28 k (f_X9_waysBy_L13 FU (nI m) q) (nI z) (by omega) 4 0 FU true I1 rfl (by omega) g1 g2 (fun j hj => by omega)
        rw [bI_t, Nat.pow_zero, Nat.div_one, Bool.true_and] at e2
        rw [e2]
        have hz' : z + (w4 P M m (dig (fun _ => 0) k)).toNat + sN (fun k => (w4 P M m (dig (fun _ => 0) k)).toNat) d (k + 1) = W := by rw [← hz, sN, Nat.add_assoc]
        have := ih (k + 1) q _ I2 (by omega) hq hz' f2 f3
        have hb : ∀ b : Bool, nI z + bI b = nI (z + b.toNat) := fun b => by cases b <;> exact nI_add _ _
        show ∃ I', f_X9_waysBy_L13 FU (nI m) q (nI z + bI (w4 P M m (dig (fun _ => 0) k))) (nI (k + 1)) I2 = _ ∧ _
        rw [hb]
        exact this
    exact l13 81 0 FU 0 I rfl (by omega) (by rw [Nat.zero_add]; exact hWd) (fun _ _ => rfl) (fun _ _ => rfl)
  · rw [h, if_pos (nI_pos' (by omega)), oix_ok (j := m) rfl hm (by decide), h]
    exact ⟨I, rfl, fun _ _ _ => rfl, fun _ _ => rfl, hQ⟩
