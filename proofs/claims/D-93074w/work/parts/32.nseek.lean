/-! PLAIN SIDE: the class's search -/
set_option maxRecDepth 100000
theorem and2 : ∀ v, v < 8 → ∀ y, y < 8 → (2 * v) &&& (2 * y) = 2 * (v &&& y) ∧ (v &&& y) < 8 ∧ ∀ d, d < 3 → (v &&& y).testBit d = (v.testBit d && y.testBit d) := by decide +kernel
theorem z2 : ∀ v, v < 8 → (nI (2 * v) = 0 ↔ v = 0) ∧ (v = 0 ↔ ∀ d, d < 3 → v.testBit d = false) := by decide +kernel
theorem tb8 : ∀ x, x < 512 → ∀ c, c < 3 → (x / 2 ^ (3 * c) % 8 < 8) ∧ ∀ d, d < 3 → (x / 2 ^ (3 * c) % 8).testBit d = x.testBit (3 * c + d) := by decide +kernel
theorem dbl_bit {v c : Nat} (hc : 1 ≤ c) : (2 * v).testBit c = v.testBit (c - 1) := by
  obtain ⟨d, rfl⟩ : ∃ d, c = d + 1 := ⟨c - 1, by omega⟩
  rw [Nat.testBit_succ, Nat.mul_div_cancel_left v (by decide)]
  rfl
/-- what is left in hall k, by hall h -/
def EntL (I : II) (P M : Nat → Nat) (H : Nat) (r : Nat → Nat) (h k : Nat) : Prop := ∃ v, v < 8 ∧ I 15 (12 * h + k) = nI (2 * v) ∧ (H.testBit k = true → ∀ c, 1 ≤ c → c ≤ 3 → v.testBit (c - 1) = can P M H r h k c)
def RowL (I : II) (P M : Nat → Nat) (H : Nat) (r : Nat → Nat) (h : Nat) : Prop := ∀ k, h ≤ k → k < 12 → EntL I P M H r h k
def NP3 (I : II) (P : Nat → Nat) : Prop := ∀ h k, h < k → k < 12 → I 14 (12 * h + k) = nI (P (12 * h + k)) ∧ P (12 * h + k) < 512
theorem EntL.kept {I I' : II} {P M : Nat → Nat} {H : Nat} {r : Nat → Nat} {h k : Nat} (h0 : EntL I P M H r h k) (e : I' 15 (12 * h + k) = I 15 (12 * h + k)) : EntL I' P M H r h k := by
  obtain ⟨v, h1, h2, h3⟩ := h0
  exact ⟨v, h1, by rw [e]; exact h2, h3⟩
/-- some choice is left in hall j -/
def sm (P M : Nat → Nat) (H : Nat) (r : Nat → Nat) (h j : Nat) : Bool := can P M H r h j 1 || can P M H r h j 2 || can P M H r h j 3
theorem goesOn_loop {sh : SH} {P M : Nat → Nat} {H : Nat} {r : Nat → Nat} {h c : Nat} {I : II} (hh : h < 12) (hc1 : 1 ≤ c) (hc3 : c ≤ 3) (hH : H < 4096) (hb : H.testBit h = true) (hP : NP3 I P) (h11 : I 11 3 = nI H) (hL : RowL I P M H r h) : ∀ (d k n : Nat) (b : Bool) (I1 : II), k + d = 12 → h + 1 ≤ k → d + 1 ≤ n → (∀ a, a ≠ 15 → I1 a = I a) → (∀ q, q < 12 * (h + 1) → I1 15 q = I 15 q) → (∀ j, h + 1 ≤ j → j < k → EntL I1 P M H (upN r h c) (h + 1) j) → ∃ g I', f_X5_goesOn_L7 FU sh (nI h) (nI c) n (bI b) (nI k) I1 = some (bI g, I') ∧ (∀ a, a ≠ 15 → I' a = I a) ∧ (∀ q, q < 12 * (h + 1) → I' 15 q = I 15 q) ∧ (∀ j, h + 1 ≤ j → j < 12 → EntL I' P M H (upN r h c) (h + 1) j) ∧ g = (b && alF (fun j => !H.testBit j || sm P M H (upN r h c) (h + 1) j) k d) := by
  intro d
  induction d with
  | zero =>
    intro k n b I1 hk1 hk2 hn g1 g2 g3
    obtain ⟨n, rfl⟩ := pred1 hn; replace hn := Nat.le_of_succ_le_succ hn
    obtain rfl : k = 12 := by omega
    refine ⟨b, I1, ?_, g1, g2, g3, by simp [alF]⟩
    rw [f_X5_goesOn_L7, if_pos (by decide), og_ok (bI_01 b)]
  | succ d ih =>
    intro k n b I1 hk1 hk2 hn g1 g2 g3
    obtain ⟨n, rfl⟩ := pred1 hn; replace hn := Nat.le_of_succ_le_succ hn
    have hk : k < 12 := by omega
    obtain ⟨v, v1, v2, v3⟩ := hL k (by omega) hk
    have e15 : I1 15 (12 * h + k) = nI (2 * v) := by rw [g2 _ (by omega)]; exact v2
    rw [f_X5_goesOn_L7, if_neg (nI_ge hk (by omega)), oix_ok (j := 12 * h + k) (by rw [pk_mul, nI_add]) (by omega) (by decide), g1 11 (by decide), h11, has_if (by omega) (by omega), e15]
    -- the next row's place
    have nx : ∀ (x : Bool) (w : Nat), w < 8 → (H.testBit k = true → ∀ e, 1 ≤ e → e ≤ 3 → w.testBit (e - 1) = can P M H (upN r h c) (h + 1) k e) → ∃ g I', f_X5_goesOn_J79 FU sh (f_X5_goesOn_L7 FU sh (nI h) (nI c) n) (nI h) (nI c) (bI x) (nI k) (nI (2 * w)) I1 = some (bI g, I') ∧ (∀ a, a ≠ 15 → I' a = I a) ∧ (∀ q, q < 12 * (h + 1) → I' 15 q = I 15 q) ∧ (∀ j, h + 1 ≤ j → j < 12 → EntL I' P M H (upN r h c) (h + 1) j) ∧ g = (x && alF (fun j => !H.testBit j || sm P M H (upN r h c) (h + 1) j) (k + 1) d) := by
      intro x w hw hw2
      unfold f_X5_goesOn_J79
      rw [oix_ok (j := 12 * (h + 1) + k) (by rw [nI_add, pk_mul, nI_add]) (by omega) (by decide), nI_add]
      refine ih (k + 1) n x _ (by omega) (by omega) hn (fun a ha => by rw [up2_n ha]; exact g1 a ha) (fun q hq => by rw [up2_ne (by omega)]; exact g2 q hq) (fun j j1 j2 => ?_)
      by_cases e : j = k
      · subst e
        exact ⟨w, hw, up2_eq, hw2⟩
      · exact (g3 j j1 (by omega)).kept (up2_ne (by omega))
    by_cases hbk : H.testBit k = true
    · rw [if_pos hbk]
      obtain ⟨p1, p2⟩ := hP h k (by omega) hk
      obtain ⟨y1, y2⟩ := tb8 _ p2 (c - 1) (by omega)
      obtain ⟨w1, w2, w3⟩ := and2 v v1 _ y1
      have hcan : ∀ e, 1 ≤ e → e ≤ 3 → (v &&& (P (12 * h + k) / 2 ^ (3 * (c - 1)) % 8)).testBit (e - 1) = can P M H (upN r h c) (h + 1) k e := by
        intro e e1 e3
        rw [w3 (e - 1) (by omega), y2 (e - 1) (by omega), v3 hbk e e1 e3, can_step, hb]
        rfl
      have hp := par_ok _ p2 (c - 1) (by omega)
      rw [show c - 1 + 1 = c by omega] at hp
      rw [oix_ok (j := 12 * h + k) (by rw [pk_mul, nI_add]) (by omega) (by decide), g1 14 (by decide), p1, hp]
      show ∃ g I', (if bI b = 0 then _ else _) = some (bI g, I') ∧ _
      rw [nx_and9, w1]
      have hsm : sm P M H (upN r h c) (h + 1) k = !decide (v &&& (P (12 * h + k) / 2 ^ (3 * (c - 1)) % 8) = 0) := by
        unfold sm
        rw [← hcan 1 (by omega) (by omega), ← hcan 2 (by omega) (by omega), ← hcan 3 (by omega) (by omega)]
        revert w2
        generalize (v &&& (P (12 * h + k) / 2 ^ (3 * (c - 1)) % 8)) = u
        revert u
        decide +kernel
      cases b with
      | false =>
        rw [if_pos (show bI false = 0 from rfl)]
        unfold f_X5_goesOn_J77 f_X5_goesOn_J78
        obtain ⟨g, I', q1, q2, q3, q4, q5⟩ := nx false _ w2 (fun _ => hcan)
        exact ⟨g, I', q1, q2, q3, q4, by rw [q5]; rfl⟩
      | true =>
        rw [if_neg (show ¬ bI true = 0 by decide)]
        by_cases hz : v &&& (P (12 * h + k) / 2 ^ (3 * (c - 1)) % 8) = 0
        · rw [if_pos ((z2 _ w2).1.mpr hz)]
          unfold f_X5_goesOn_J77 f_X5_goesOn_J78
          obtain ⟨g, I', q1, q2, q3, q4, q5⟩ := nx false _ w2 (fun _ => hcan)
          refine ⟨g, I', q1, q2, q3, q4, ?_⟩
          rw [q5]
          simp [alF, hbk, hsm, hz]
        · rw [if_neg (fun e => hz ((z2 _ w2).1.mp e))]
          unfold f_X5_goesOn_J78
          obtain ⟨g, I', q1, q2, q3, q4, q5⟩ := nx true _ w2 (fun _ => hcan)
          refine ⟨g, I', q1, q2, q3, q4, ?_⟩
          rw [q5]
          simp [alF, hbk, hsm, hz]
    · rw [if_neg hbk]
      obtain ⟨g, I', q1, q2, q3, q4, q5⟩ := nx b v v1 (fun h => absurd h hbk)
      refine ⟨g, I', q1, q2, q3, q4, ?_⟩
      rw [q5]
      simp [alF, hbk]
theorem goesOn_ok {sh : SH} {P M : Nat → Nat} {H : Nat} {r : Nat → Nat} {h c : Nat} {I : II} (hh : h < 12) (hc1 : 1 ≤ c) (hc3 : c ≤ 3) (hH : H < 4096) (hb : H.testBit h = true) (hP : NP3 I P) (h11 : I 11 3 = nI H) (hL : RowL I P M H r h) : ∃ g I', f_X5_goesOn FU sh (nI h) (nI c) I = some (bI g, I') ∧ (∀ a, a ≠ 15 → I' a = I a) ∧ (∀ q, q < 12 * (h + 1) → I' 15 q = I 15 q) ∧ RowL I' P M H (upN r h c) (h + 1) ∧ (g = false → ∃ j, h + 1 ≤ j ∧ j < 12 ∧ H.testBit j = true ∧ ∀ e, 1 ≤ e → e ≤ 3 → can P M H (upN r h c) (h + 1) j e = false) := by
  unfold f_X5_goesOn
  rw [nI_add]
  obtain ⟨g, I', q1, q2, q3, q4, q5⟩ := goesOn_loop (sh := sh) (M := M) hh hc1 hc3 hH hb hP h11 hL (11 - h) (h + 1) FU true I (by omega) (by omega) (by have := FU5; omega) (fun _ _ => rfl) (fun _ _ => rfl) (fun j j1 j2 => by omega)
  refine ⟨g, I', q1, q2, q3, q4, fun hg => ?_⟩
  rw [hg] at q5
  have q6 : ¬ (alF (fun j => !H.testBit j || sm P M H (upN r h c) (h + 1) j) (h + 1) (11 - h) = true) := by rw [← Bool.true_and (alF _ _ _), ← q5]; decide
  rw [alF_iff] at q6
  have q7 : ∃ j, h + 1 ≤ j ∧ j < 12 ∧ (!H.testBit j || sm P M H (upN r h c) (h + 1) j) = false := by
    apply Classical.byContradiction
    intro hn
    apply q6
    intro i i1 i2
    cases hx : (!H.testBit i || sm P M H (upN r h c) (h + 1) i)
    · exact absurd ⟨i, i1, by omega, hx⟩ hn
    · rfl
  obtain ⟨j, j1, j2, j3⟩ := q7
  simp only [sm, Bool.or_eq_false_iff, Bool.not_eq_false'] at j3
  obtain ⟨j3, ⟨j4, j5⟩, j6⟩ := j3
  refine ⟨j, j1, j2, j3, fun e e1 e3 => ?_⟩
  have he : e = 1 ∨ e = 2 ∨ e = 3 := by omega
  rcases he with rfl | rfl | rfl <;> assumption
theorem passes_loop {sh : SH} {P M : Nat → Nat} {H : Nat} {r : Nat → Nat} {h : Nat} {I : II} (hh : h < 12) (hb : ¬ H.testBit h = true) (hL : RowL I P M H r h) : ∀ (d k n : Nat) (I1 : II), k + d = 12 → h + 1 ≤ k → d + 1 ≤ n → (∀ a, a ≠ 15 → I1 a = I a) → (∀ q, q < 12 * (h + 1) → I1 15 q = I 15 q) → (∀ j, h + 1 ≤ j → j < k → EntL I1 P M H r (h + 1) j) → ∃ I', f_X5_passes_L4 FU sh (nI h) n (nI k) I1 = some I' ∧ (∀ a, a ≠ 15 → I' a = I a) ∧ (∀ q, q < 12 * (h + 1) → I' 15 q = I 15 q) ∧ RowL I' P M H r (h + 1) := by
  intro d
  induction d with
  | zero =>
    intro k n I1 hk1 hk2 hn g1 g2 g3
    obtain ⟨n, rfl⟩ := pred1 hn; replace hn := Nat.le_of_succ_le_succ hn
    obtain rfl : k = 12 := by omega
    refine ⟨I1, ?_, g1, g2, g3⟩
    rw [f_X5_passes_L4, if_pos (by decide)]
  | succ d ih =>
    intro k n I1 hk1 hk2 hn g1 g2 g3
    obtain ⟨n, rfl⟩ := pred1 hn; replace hn := Nat.le_of_succ_le_succ hn
    have hk : k < 12 := by omega
    obtain ⟨v, v1, v2, v3⟩ := hL k (by omega) hk
    have e15 : I1 15 (12 * h + k) = nI (2 * v) := by rw [g2 _ (by omega)]; exact v2
    rw [f_X5_passes_L4, if_neg (nI_ge hk (by omega)), oix_ok (j := 12 * h + k) (by rw [pk_mul, nI_add]) (by omega) (by decide), oix_ok (j := 12 * (h + 1) + k) (by rw [nI_add, pk_mul, nI_add]) (by omega) (by decide), nI_add, e15]
    refine ih (k + 1) n _ (by omega) (by omega) hn (fun a ha => by rw [up2_n ha]; exact g1 a ha) (fun q hq => by rw [up2_ne (by omega)]; exact g2 q hq) (fun j j1 j2 => ?_)
    by_cases e : j = k
    · subst e
      refine ⟨v, v1, up2_eq, fun hk e e1 e3 => ?_⟩
      rw [v3 hk e e1 e3]
      have : can P M H r (h + 1) j e = can P M H (upN r h (r h)) (h + 1) j e := can_congr (fun i _ _ => by unfold upN; split <;> simp_all)
      rw [this, can_step]
      simp [hb]
    · exact (g3 j j1 (by omega)).kept (up2_ne (by omega))
theorem isLeft_ok {sh : SH} {P M : Nat → Nat} {H : Nat} {r : Nat → Nat} {h c : Nat} {I : II} (hh : h < 12) (hc1 : 1 ≤ c) (hc3 : c ≤ 3) (hb : H.testBit h = true) (hL : RowL I P M H r h) : f_X5_isLeft sh (nI h) (nI c) I = some (bI (can P M H r h h c)) := by
  obtain ⟨v, v1, v2, v3⟩ := hL h (by omega) hh
  unfold f_X5_isLeft
  rw [oix_ok (j := 12 * h + h) (by rw [pk_mul, nI_add]) (by omega) (by decide), v2, has_ok (by omega) (by omega), dbl_bit hc1, v3 hb c hc1 hc3]
  show og (bI (can P M H r h h c) = 0 ∨ bI (can P M H r h h c) = 1) (some (bI (can P M H r h h c))) = _
  rw [og_ok (bI_01 _)]
/-- what the class's search leaves -/
def NS9 (I I' : II) (H h : Nat) (o : Option (Nat → Nat)) (b : Int32) : Prop := (∀ a, a ≠ 15 → a ≠ 16 → I' a = I a) ∧ (∀ q, q < 12 * (h + 1) → I' 15 q = I 15 q) ∧ (∀ k, k < h → I' 16 k = I 16 k) ∧ match o with
  | none => b = nI 0
  | some r => b = nI 1 ∧ ∀ k, k < 12 → H.testBit k = true → I' 16 k = nI (r k) ∧ 1 ≤ r k ∧ r k ≤ 3
theorem finds_ok {sh : SH} {P M : Nat → Nat} {H : Nat} (hH : H < 4096) : ∀ (n h d : Nat) (I : II) (r : Nat → Nat), h + n = 12 → n + 1 ≤ d → NP3 I P → I 11 3 = nI H → RowL I P M H r h → (∀ k, k < h → H.testBit k = true → I 16 k = nI (r k) ∧ 1 ≤ r k ∧ r k ≤ 3) → ∃ b I', f_X5_finds_2 FU d sh (nI h) I = some (b, I') ∧ NS9 I I' H h (skR P M H n h r) b := by
  intro n
  induction n with
  | zero =>
    intro h d I r hn hd hP h11 hL hr
    obtain ⟨d, rfl⟩ := pred1 hd; replace hd := Nat.le_of_succ_le_succ hd
    obtain rfl : h = 12 := by omega
    refine ⟨nI 1, I, ?_, fun a _ _ => rfl, fun q _ => rfl, fun k _ => rfl, rfl, hr⟩
    rw [f_X5_finds_2_s]
    unfold fb_X5_finds_2
    rw [if_pos rfl]
  | succ n ih =>
    intro h d I r hn hd hP h11 hL hr
    obtain ⟨d, rfl⟩ := pred1 hd; replace hd := Nat.le_of_succ_le_succ hd
    have hh : h < 12 := by omega
    rw [f_X5_finds_2_s]
    unfold fb_X5_finds_2
    rw [if_neg (by rw [nI_eq (by omega) (by omega)]; omega), h11, has_if (by omega) (by omega)]
    by_cases hb : H.testBit h = true
    · rw [if_pos hb]
      have loop : ∀ (m c q : Nat) (I1 : II), c + m = 4 → 1 ≤ c → m + 1 ≤ q → (∀ a, a ≠ 15 → a ≠ 16 → I1 a = I a) → (∀ q, q < 12 * (h + 1) → I1 15 q = I 15 q) → (∀ k, k < h → I1 16 k = I 16 k) → ∃ b I', f_X5_finds_2_L34 FU (f_X5_finds_2 FU d) sh (nI h) q (nI c) I1 = some (b, I') ∧ NS9 I I' H h (skT P M H n h r m) b := by
        intro m
        induction m with
        | zero =>
          intro c q I1 hc hc1 hq g1 g2 g3
          obtain ⟨q, rfl⟩ := pred1 hq; replace hq := Nat.le_of_succ_le_succ hq
          obtain rfl : c = 4 := by omega
          refine ⟨nI 0, I1, ?_, g1, g2, g3, rfl⟩
          rw [f_X5_finds_2_L34, if_pos (by decide)]
        | succ m im =>
          intro c q I1 hc hc1 hq g1 g2 g3
          obtain ⟨q, rfl⟩ := pred1 hq; replace hq := Nat.le_of_succ_le_succ hq
          have k1 : ∀ a, a ≠ 15 → a ≠ 16 → (up2 I1 16 h (nI c)) a = I a := fun a h1 h2 => by rw [up2_n h2]; exact g1 a h1 h2
          have k2 : ∀ q, q < 12 * (h + 1) → (up2 I1 16 h (nI c)) 15 q = I 15 q := fun q hq => by rw [up2_n (by decide)]; exact g2 q hq
          have k3 : ∀ k, k < h → (up2 I1 16 h (nI c)) 16 k = I 16 k := fun k hk => by rw [up2_ne (by omega)]; exact g3 k hk
          have hL1 : RowL (up2 I1 16 h (nI c)) P M H r h := fun k a1 a2 => (hL k a1 a2).kept (k2 _ (by omega))
          have hP1 : NP3 (up2 I1 16 h (nI c)) P := fun x y a1 a2 => by rw [k1 14 (by decide) (by decide)]; exact hP x y a1 a2
          have h111 : (up2 I1 16 h (nI c)) 11 3 = nI H := by rw [k1 11 (by decide) (by decide)]; exact h11
          rw [f_X5_finds_2_L34, if_neg (by rw [nI_ltI (by omega) (by omega)]; omega), oix_ok (j := h) rfl hh (by decide), isLeft_ok hh hc1 (by omega) hb hL1]
          show ∃ b I', (if bI (can P M H r h h c) = 0 then _ else _) = some (b, I') ∧ _
          have ec : 3 - m = c := by omega
          rw [skT, ec, nI_add]
          by_cases hcc : can P M H r h h c = true
          · rw [if_neg (by rw [bI_0, hcc]; decide), if_pos hcc]
            obtain ⟨g, I2, q1, q2, q3, q4, q5⟩ := goesOn_ok (sh := sh) hh hc1 (by omega) hH hb hP1 h111 hL1
            rw [bd2_ok q1]
            have u1 : ∀ a, a ≠ 15 → a ≠ 16 → I2 a = I a := fun a h1 h2 => by rw [q2 a h1]; exact k1 a h1 h2
            have u2 : ∀ q, q < 12 * (h + 1) → I2 15 q = I 15 q := fun q hq => by rw [q3 q hq]; exact k2 q hq
            have u3 : ∀ k, k < h → I2 16 k = I 16 k := fun k hk => by rw [q2 16 (by decide)]; exact k3 k hk
            cases g with
            | false =>
              obtain ⟨j, j1, j2, j3, j4⟩ := q5 rfl
              rw [if_pos (show bI false = 0 from rfl), skR_dead n (h + 1) j (upN r h c) j1 (by omega) j3 j4]
              rw [Option.none_or]
              exact im (c + 1) q I2 (by omega) (by omega) hq u1 u2 u3
            | true =>
              rw [if_neg (show ¬ bI true = 0 by decide)]
              obtain ⟨b, I3, e3, s1, s2, s3, s4⟩ := ih (h + 1) d I2 (upN r h c) (by omega) hd (fun x y a1 a2 => by rw [u1 14 (by decide) (by decide)]; exact hP x y a1 a2) (by rw [u1 11 (by decide) (by decide)]; exact h11) q4 (fun k hk hHk => by
                by_cases e : k = h
                · subst e
                  rw [q2 16 (by decide), up2_eq, upN_s]
                  exact ⟨rfl, hc1, by omega⟩
                · rw [u3 k (by omega), upN_n e]
                  exact hr k (by omega) hHk)
              rw [nI_add, bd2_ok e3]
              have t1 : ∀ a, a ≠ 15 → a ≠ 16 → I3 a = I a := fun a h1 h2 => by rw [s1 a h1 h2]; exact u1 a h1 h2
              have t2 : ∀ q, q < 12 * (h + 1) → I3 15 q = I 15 q := fun q hq => by rw [s2 q (by omega)]; exact u2 q hq
              have t3 : ∀ k, k < h → I3 16 k = I 16 k := fun k hk => by rw [s3 k (by omega)]; exact u3 k hk
              cases ho : skR P M H n (h + 1) (upN r h c) with
              | none =>
                rw [ho] at s4
                have s4 : b = nI 0 := s4
                rw [s4, if_pos (by decide)]
                rw [Option.none_or]
                exact im (c + 1) q I3 (by omega) (by omega) hq t1 t2 t3
              | some z =>
                rw [ho] at s4
                obtain ⟨s4, s5⟩ := s4
                rw [s4, if_neg (by decide)]
                exact ⟨nI 1, I3, rfl, t1, t2, t3, rfl, s5⟩
          · rw [if_pos (by rw [bI_0]; simpa using hcc), if_neg hcc]
            rw [Option.none_or]
            exact im (c + 1) q _ (by omega) (by omega) hq k1 k2 k3
      obtain ⟨b, I', e1, e2⟩ := loop 3 1 FU I rfl (by omega) (by have := FU5; omega) (fun a _ _ => rfl) (fun q _ => rfl) (fun k _ => rfl)
      refine ⟨b, I', e1, ?_⟩
      rw [skR_T hb]
      exact e2
    · rw [if_neg hb]
      unfold f_X5_passes
      rw [nI_add]
      obtain ⟨I1, e1, p1, p2, p3⟩ := passes_loop (sh := sh) hh hb hL (11 - h) (h + 1) FU I (by omega) (by omega) (by have := FU5; omega) (fun _ _ => rfl) (fun _ _ => rfl) (fun j j1 j2 => by omega)
      rw [bind_ok e1]
      obtain ⟨b, I2, e2, s1, s2, s3, s4⟩ := ih (h + 1) d I1 r (by omega) hd (fun x y a1 a2 => by rw [p1 14 (by decide)]; exact hP x y a1 a2) (by rw [p1 11 (by decide)]; exact h11) p3 (fun k hk hHk => by
        by_cases e : k = h
        · subst e; exact absurd hHk hb
        · rw [p1 16 (by decide)]; exact hr k (by omega) hHk)
      rw [bd2_ok e2]
      have hb01 : b = 0 ∨ b = 1 := by
        cases ho : skR P M H n (h + 1) r with
        | none => rw [ho] at s4; left; exact s4
        | some z => rw [ho] at s4; right; exact s4.1
      rw [og_ok hb01]
      refine ⟨b, I2, rfl, fun a h1 h2 => by rw [s1 a h1 h2]; exact p1 a h1, fun q hq => by rw [s2 q (by omega)]; exact p2 q hq, fun k hk => by rw [s3 k (by omega), p1 16 (by decide)], ?_⟩
      unfold skR
      rw [if_neg hb]
      exact s4
