/-! PLAIN SIDE: how many rules there are, the class -/
set_option maxRecDepth 100000
theorem counted_s {F d : Nat} {sh : SH} {x : Int32} {I : II} : f_X5_counted F (d + 1) sh x I = fb_X5_counted F (f_X5_counted F d) sh x I := rfl
theorem l0 : (0 : Int64) = lN 0 := rfl
theorem l1 : (1 : Int64) = lN 1 := rfl
/-- the last m of the three choices -/
def cnT (P M : Nat → Nat) (H n h : Nat) (r : Nat → Nat) : Nat → Nat
  | 0 => 0
  | m + 1 => (if can P M H r h h (3 - m) = true then cnW P M H (fun _ => 1) n (h + 1) (upN r h (3 - m)) else 0) + cnT P M H n h r m
theorem cn_T {P M : Nat → Nat} {H n h : Nat} {r : Nat → Nat} (hb : H.testBit h = true) : cnW P M H (fun _ => 1) (n + 1) h r = cnT P M H n h r 3 := by
  rw [cnW, if_pos hb]
  show _ = _ + (_ + (_ + 0))
  rw [Nat.add_assoc]
  rfl
/-- what counting leaves -/
def NC9 (I I' : II) (h : Nat) : Prop := (∀ a, a ≠ 15 → I' a = I a) ∧ ∀ q, q < 12 * (h + 1) → I' 15 q = I 15 q
theorem counted_ok {sh : SH} {P M : Nat → Nat} {H : Nat} (hH : H < 4096) : ∀ (n h d : Nat) (I : II) (r : Nat → Nat), h + n = 12 → n + 1 ≤ d → NP3 I P → I 11 3 = nI H → RowL I P M H r h → ∃ I', f_X5_counted FU d sh (nI h) I = some (lN (cnW P M H (fun _ => 1) n h r), I') ∧ NC9 I I' h := by
  intro n
  induction n with
  | zero =>
    intro h d I r hn hd hP h11 hL
    obtain ⟨d, rfl⟩ := pred1 hd
    obtain rfl : h = 12 := by omega
    refine ⟨I, ?_, fun _ _ => rfl, fun _ _ => rfl⟩
    rw [counted_s]
    unfold fb_X5_counted
    rw [if_pos rfl]
    rfl
  | succ n ih =>
    intro h d I r hn hd hP h11 hL
    obtain ⟨d, rfl⟩ := pred1 hd
    replace hd := Nat.le_of_succ_le_succ hd
    have hh : h < 12 := by omega
    rw [counted_s]
    unfold fb_X5_counted
    rw [if_neg (by rw [nI_eq (by omega) (by omega)]; omega), h11, has_if (by omega) (by omega)]
    by_cases hb : H.testBit h = true
    · rw [if_pos hb, l0]
      have loop : ∀ (m c q z : Nat) (I1 : II), c + m = 4 → 1 ≤ c → m + 1 ≤ q → (∀ a, a ≠ 15 → I1 a = I a) → (∀ q, q < 12 * (h + 1) → I1 15 q = I 15 q) → ∃ I', f_X5_counted_L37 FU (f_X5_counted FU d) sh (nI h) q (lN z) (nI c) I1 = some (lN (z + cnT P M H n h r m), I') ∧ NC9 I I' h := by
        intro m
        induction m with
        | zero =>
          intro c q z I1 hc hc1 hq g1 g2
          obtain ⟨q, rfl⟩ := pred1 hq
          obtain rfl : c = 4 := by omega
          refine ⟨I1, ?_, g1, g2⟩
          rw [f_X5_counted_L37, if_pos (by decide)]
          rfl
        | succ m im =>
          intro c q z I1 hc hc1 hq g1 g2
          obtain ⟨q, rfl⟩ := pred1 hq
          replace hq := Nat.le_of_succ_le_succ hq
          have hL1 : RowL I1 P M H r h := fun k a1 a2 => (hL k a1 a2).kept (g2 _ (by omega))
          have hP1 : NP3 I1 P := fun x y a1 a2 => by rw [g1 14 (by decide)]; exact hP x y a1 a2
          have h111 : I1 11 3 = nI H := by rw [g1 11 (by decide)]; exact h11
          rw [f_X5_counted_L37, if_neg (by rw [nI_ltI (by omega) (by omega)]; omega), isLeft_ok hh hc1 (by omega) hb hL1, bind_if, l0, lN_add, Nat.add_zero, nI_add, cnT, show 3 - m = c by omega]
          by_cases hcc : can P M H r h h c = true
          · rw [if_pos hcc, if_pos hcc]
            obtain ⟨g, I2, q1, q2, q3, q4, q5⟩ := goesOn_ok (sh := sh) hh hc1 (by omega) hH hb hP1 h111 hL1
            rw [bd2_ok q1]
            have u1 : ∀ a, a ≠ 15 → I2 a = I a := fun a h1 => by rw [q2 a h1]; exact g1 a h1
            have u2 : ∀ q, q < 12 * (h + 1) → I2 15 q = I 15 q := fun q hq => by rw [q3 q hq]; exact g2 q hq
            cases g with
            | false =>
              obtain ⟨j, j1, j2, j3, j4⟩ := q5 rfl
              rw [if_pos (show bI false = 0 from rfl), cn_dead n (h + 1) j (upN r h c) j1 (by omega) j3 j4, Nat.zero_add]
              exact im (c + 1) q z I2 (by omega) (by omega) hq u1 u2
            | true =>
              rw [if_neg (show ¬ bI true = 0 by decide)]
              obtain ⟨I3, e3, s1, s2⟩ := ih (h + 1) d I2 (upN r h c) (by omega) hd (fun x y a1 a2 => by rw [u1 14 (by decide)]; exact hP x y a1 a2) (by rw [u1 11 (by decide)]; exact h11) q4
              rw [nI_add, bd2_ok e3, lN_add, ← Nat.add_assoc]
              exact im (c + 1) q _ I3 (by omega) (by omega) hq (fun a h1 => by rw [s1 a h1]; exact u1 a h1) (fun q hq => by rw [s2 q (by omega)]; exact u2 q hq)
          · rw [if_neg hcc, if_neg hcc, Nat.zero_add]
            exact im (c + 1) q z I1 (by omega) (by omega) hq g1 g2
      obtain ⟨I', e1, e2⟩ := loop 3 1 FU 0 I rfl (by omega) (by have := FU5; omega) (fun a _ => rfl) (fun q _ => rfl)
      refine ⟨I', ?_, e2⟩
      rw [e1, cn_T hb, Nat.zero_add]
    · rw [if_neg hb]
      unfold f_X5_passes
      rw [nI_add]
      obtain ⟨I1, e1, p1, p2, p3⟩ := passes_loop (sh := sh) hh hb hL (11 - h) (h + 1) FU I (by omega) (by omega) (by have := FU5; omega) (fun _ _ => rfl) (fun _ _ => rfl) (fun j j1 j2 => by omega)
      rw [bind_ok e1]
      obtain ⟨I2, e2, s1, s2⟩ := ih (h + 1) d I1 r (by omega) hd (fun x y a1 a2 => by rw [p1 14 (by decide)]; exact hP x y a1 a2) (by rw [p1 11 (by decide)]; exact h11) p3
      rw [bd2_ok e2]
      refine ⟨I2, ?_, fun a h1 => by rw [s1 a h1]; exact p1 a h1, fun q hq => by rw [s2 q (by omega)]; exact p2 q hq⟩
      rw [cnW, if_neg hb]
theorem full12 {D : Nat} (hD : D < 4096) (h : ∀ b, b < 12 → D.testBit b = true) : D = 4095 := by
  apply Nat.eq_of_testBit_eq
  intro b
  by_cases hb : b < 12
  · rw [h b hb, all_bit b hb]
  · have hp : 2 ^ 12 ≤ 2 ^ b := Nat.pow_le_pow_right (by decide) (by omega)
    rw [Nat.testBit_lt_two_pow (Nat.lt_of_lt_of_le hD hp), Nat.testBit_lt_two_pow (Nat.lt_of_lt_of_le (by decide) hp)]
theorem clo_or {P : Nat → Nat} {D y : Nat} (hD : Clo P D) (hy : Clo P y) : Clo P (D ||| y) := by
  intro i k i1 k1 he hi
  rw [Nat.testBit_or, Bool.or_eq_true] at hi ⊢
  rcases hi with hi | hi
  · exact Or.inl (hD i k i1 k1 he hi)
  · exact Or.inr (hy i k i1 k1 he hi)
theorem counts_ok {sh : SH} {I : II} {P M : Nat → Nat} (hW : WN I P M) (hP : ∀ q, P q < 512) (hM : ∀ q, M q < 8) : ∃ I', f_X5_counts FU sh I = some (lN (cnH P M 4095 (fun _ => 0)), I') ∧ ∀ x, x ≠ 11 → x ≠ 15 → I' x = I x := by
  have F5 := FU5
  have loop : ∀ (d h q D : Nat) (I1 : II), h + d = 12 → d + 1 ≤ q → D < 4096 → Clo P D → (∀ b, b < h → D.testBit b = true) → (∀ x, x ≠ 11 → x ≠ 15 → I1 x = I x) → ∃ I', f_X5_counts_L7 FU sh q (lN (cnH P M D (fun _ => 0))) (nI D) (nI h) I1 = some (lN (cnH P M 4095 (fun _ => 0)), I') ∧ ∀ x, x ≠ 11 → x ≠ 15 → I' x = I x := by
    intro d
    induction d with
    | zero =>
      intro h q D I1 hh hq hD hC hF g1
      obtain ⟨q, rfl⟩ := pred1 hq
      obtain rfl : h = 12 := by omega
      refine ⟨I1, ?_, g1⟩
      rw [f_X5_counts_L7, if_pos (by decide), full12 hD hF]
    | succ d ih =>
      intro h q D I1 hh hq hD hC hF g1
      obtain ⟨q, rfl⟩ := pred1 hq
      replace hq := Nat.le_of_succ_le_succ hq
      have h12 : h < 12 := by omega
      rw [f_X5_counts_L7, if_neg (nI_ge h12 (by omega)), has_if (by omega) (by omega), nI_add]
      by_cases hb : D.testBit h = true
      · rw [if_pos hb]
        exact ih (h + 1) q D I1 (by omega) hq hD hC (fun b hb2 => by
          by_cases e : b = h
          · rw [e]; exact hb
          · exact hF b (by omega)) g1
      · have hb' : D.testBit h = false := by simpa using hb
        have hW1 : WN I1 P M := hW.of (g1 13 (by decide) (by decide)) (g1 14 (by decide) (by decide))
        obtain ⟨y, e1, e2, e3, e4, e5⟩ := tied_ok (sh := sh) hW1 hP h12 hC hb'
        obtain ⟨I2, b0, b1, b2, b3, b4⟩ := begin_ok (sh := sh) (I := I1) (H := y)
        obtain ⟨I3, c1, c2, c3⟩ := counted_ok (sh := sh) (M := M) e2 12 0 13 I2 (fun _ => 0) (by omega) (by omega) (fun x z a1 a2 => by rw [b1 14 (by decide) (by decide)]; exact ⟨(hW1.2 x z a1 a2).1, hP _⟩) b3 (rowL0 (fun k hk => by rw [b4 k hk]; exact ⟨hW1.1 k hk, hM k⟩))
        rw [if_neg hb, e1, Option.bind_some, b0, Option.bind_some, bd2_ok c1, lN_mul, nx_or9]
        have := ih (h + 1) q (D ||| y) I3 (by omega) hq (Nat.or_lt_two_pow (n := 12) hD e2) (clo_or hC e4) (fun b hb2 => by
          rw [Nat.testBit_or]
          by_cases e : b = h
          · rw [e, e3, Bool.or_true]
          · rw [hF b (by omega)]; rfl) (fun x x1 x2 => by rw [c2 x x2, b1 x x1 x2, g1 x x1 x2])
        rw [cnH_or hC e5] at this
        exact this
  unfold f_X5_counts
  have := loop 12 0 FU 0 I rfl (by omega) (by decide) (fun i k _ _ _ h => by rw [Nat.zero_testBit] at h; cases h) (fun b hb => by omega) (fun _ _ _ => rfl)
  rw [cnH_0] at this
  rw [l1]
  exact this
