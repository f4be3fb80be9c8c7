/-! PLAIN SIDE: the reference's search -/
set_option maxRecDepth 100000
def bI (b : Bool) : Int32 := nI (if b = true then 1 else 0)
theorem bI_t : bI true = nI 1 := rfl
theorem bI_f : bI false = nI 0 := rfl
theorem bI_01 (b : Bool) : bI b = 0 ∨ bI b = 1 := by cases b <;> decide
theorem bI_0 {b : Bool} : bI b = 0 ↔ b = false := by cases b <;> decide
def alF (p : Nat → Bool) : Nat → Nat → Bool
  | _, 0 => true
  | k, d + 1 => p k && alF p (k + 1) d
theorem alF_iff {p : Nat → Bool} : ∀ (d k : Nat), alF p k d = true ↔ ∀ i, k ≤ i → i < k + d → p i = true := by
  intro d
  induction d with
  | zero => intro k; simp only [alF, true_iff]; intro i h1 h2; omega
  | succ d ih =>
    intro k
    simp only [alF, Bool.and_eq_true, ih]
    constructor
    · rintro ⟨h1, h2⟩ i h3 h4
      by_cases e : i = k
      · rw [e]; exact h1
      · exact h2 i (by omega) (by omega)
    · intro h
      exact ⟨h k (by omega) (by omega), fun i h1 h2 => h i (by omega) (by omega)⟩
theorem alF_all {p : Nat → Bool} (n : Nat) : alF p 0 n = (List.range n).all p := by
  rw [Bool.eq_iff_iff, alF_iff, List.all_eq_true]
  simp [List.mem_range]
theorem pred1 {n k : Nat} (h : k + 1 ≤ n) : ∃ m, n = m + 1 := ⟨n - 1, by omega⟩
theorem FU5 : FU = 5000 := rfl
theorem fa_loop {I : II} {P : Nat → Nat} {H h c : Nat} {r : Nat → Nat} (hh : h < 12) (hc1 : 1 ≤ c) (hc3 : c ≤ 3) (hH : H < 4096) (hP : ∀ k, k < h → I 38 (12 * k + h) = nI (P (12 * k + h)) ∧ P (12 * k + h) < 512) (hr : ∀ k, k < h → H.testBit k = true → I 39 k = nI (r k) ∧ 1 ≤ r k ∧ r k ≤ 3) : ∀ (d k n : Nat) (b : Bool), h = k + d → d + 1 ≤ n → f_X9_fitsAhead_L17 FU I (nI h) (nI c) (nI H) n (bI b) (nI k) = some (bI (b && alF (fun i => !H.testBit i || okp P i (r i) h c) k d)) := by
  intro d
  induction d with
  | zero =>
    intro k n b e hn
    obtain ⟨n, rfl⟩ := pred1 hn; replace hn := Nat.le_of_succ_le_succ hn
    rw [f_X9_fitsAhead_L17, if_pos (nI_le (by omega) (by omega)), og_ok (bI_01 b)]
    simp [alF]
  | succ d ih =>
    intro k n b e hn
    obtain ⟨n, rfl⟩ := pred1 hn; replace hn := Nat.le_of_succ_le_succ hn
    have hk : k < h := by omega
    rw [f_X9_fitsAhead_L17, if_neg (nI_ge hk (by omega))]
    cases b with
    | false => rw [if_pos (show bI false = 0 from rfl), og_ok (bI_01 false)]; rfl
    | true =>
      rw [if_neg (show ¬ bI true = 0 by decide), has_ifM (by omega) (by omega), nI_add]
      have i1 := ih (k + 1) n true (by omega) hn
      have i0 := ih (k + 1) n false (by omega) hn
      rw [bI_t] at i1
      rw [bI_f] at i0
      by_cases hb : H.testBit k = true
      · rw [if_pos hb]
        obtain ⟨r1, r2, r3⟩ := hr k hk hb
        obtain ⟨p1, p2⟩ := hP k hk
        rw [oix_ok (j := 12 * k + h) (by rw [pk_mul, nI_add]) (by omega) (by decide), oix_ok (j := k) rfl (by omega) (by decide), p1, r1]
        rw [show nI 3 * nI (r k) + nI c - nI 4 = nI (3 * (r k - 1) + (c - 1)) by rw [pk_mul, nI_add, pk_sub (by omega)]; congr 1; omega]
        rw [has_ifM (by omega) (by omega), i1, i0]
        show (if okp P k (r k) h c = true then _ else _) = _
        by_cases ho : okp P k (r k) h c = true
        · rw [if_pos ho]
          simp [alF, hb, ho]
        · rw [if_neg ho]
          simp [alF, hb, ho]
      · rw [if_neg hb, i1]
        simp [alF, hb]
/-- what the reference's arrays hold -/
def MW3 (I : II) (P M : Nat → Nat) : Prop := (∀ h, h < 12 → I 37 h = nI (M h) ∧ M h < 8) ∧ ∀ h k, h < k → k < 12 → I 38 (12 * h + k) = nI (P (12 * h + k)) ∧ P (12 * h + k) < 512
theorem fa_ok {I : II} {P M : Nat → Nat} {H h c : Nat} {r : Nat → Nat} (hW : MW3 I P M) (hh : h < 12) (hc1 : 1 ≤ c) (hc3 : c ≤ 3) (hH : H < 4096) (hr : ∀ k, k < h → H.testBit k = true → I 39 k = nI (r k) ∧ 1 ≤ r k ∧ r k ≤ 3) : f_X9_fitsAhead FU (nI h) (nI c) (nI H) I = some (bI (can P M H r h h c)) := by
  unfold f_X9_fitsAhead
  obtain ⟨m1, m2⟩ := hW.1 h hh
  rw [oix_ok (j := h) rfl hh (by decide), m1, pk_sub hc1, has_okM (by omega) (by omega)]
  show f_X9_fitsAhead_L17 FU I (nI h) (nI c) (nI H) FU (bI (okm M h c)) (nI 0) = _
  rw [fa_loop hh hc1 hc3 hH (fun k hk => hW.2 k h hk hh) hr h 0 FU _ (by omega) (by have := FU5; omega), alF_all]
  rfl
/-- the reference's arrays of the search but its rule -/
theorem MW3.up {I : II} {P M : Nat → Nat} {k : Nat} {v : Int32} (h : MW3 I P M) : MW3 (up2 I 39 k v) P M := ⟨fun q hq => by rw [up2_n (by decide)]; exact h.1 q hq, fun q k hq hk => by rw [up2_n (by decide)]; exact h.2 q k hq hk⟩
theorem MW3.of {I I' : II} {P M : Nat → Nat} (h : MW3 I P M) (e1 : I' 37 = I 37) (e2 : I' 38 = I 38) : MW3 I' P M := ⟨fun q hq => by rw [e1]; exact h.1 q hq, fun q k hq hk => by rw [e2]; exact h.2 q k hq hk⟩
/-- what a search leaves: only its rule's row is changed, from hall h on; o: what it finds -/
def MS9 (I I' : II) (H h : Nat) (o : Option (Nat → Nat)) (b : Int32) : Prop := (∀ a, a ≠ 39 → I' a = I a) ∧ (∀ k, k < h → I' 39 k = I 39 k) ∧ match o with
  | none => b = nI 0
  | some r => b = nI 1 ∧ ∀ k, k < 12 → H.testBit k = true → I' 39 k = nI (r k) ∧ 1 ≤ r k ∧ r k ≤ 3
theorem seek_ok {P M : Nat → Nat} {H : Nat} (hH : H < 4096) : ∀ (n h d : Nat) (I : II) (r : Nat → Nat), h + n = 12 → n + 1 ≤ d → MW3 I P M → (∀ k, k < h → H.testBit k = true → I 39 k = nI (r k) ∧ 1 ≤ r k ∧ r k ≤ 3) → ∃ b I', f_X9_seek FU d (nI h) (nI H) I = some (b, I') ∧ MS9 I I' H h (skR P M H n h r) b := by
  intro n
  induction n with
  | zero =>
    intro h d I r hn hd hW hr
    obtain ⟨d, rfl⟩ := pred1 hd; replace hd := Nat.le_of_succ_le_succ hd
    obtain rfl : h = 12 := by omega
    refine ⟨nI 1, I, ?_, fun a _ => rfl, fun k _ => rfl, rfl, hr⟩
    rw [f_X9_seek_s]
    unfold fb_X9_seek
    rw [if_pos rfl]
  | succ n ih =>
    intro h d I r hn hd hW hr
    obtain ⟨d, rfl⟩ := pred1 hd; replace hd := Nat.le_of_succ_le_succ hd
    have hh : h < 12 := by omega
    rw [f_X9_seek_s]
    unfold fb_X9_seek
    rw [if_neg (by rw [nI_eq (by omega) (by omega)]; omega), has_ifM (by omega) (by omega)]
    by_cases hb : H.testBit h = true
    · rw [if_pos hb]
      -- the three choices, from c on
      have loop : ∀ (m c q : Nat) (I1 : II), c + m = 4 → 1 ≤ c → m + 1 ≤ q → (∀ a, a ≠ 39 → I1 a = I a) → (∀ k, k < h → I1 39 k = I 39 k) → ∃ b I', f_X9_seek_L27 FU (f_X9_seek FU d) (nI h) (nI H) q (nI c) I1 = some (b, I') ∧ MS9 I I' H h (skT P M H n h r m) b := by
        intro m
        induction m with
        | zero =>
          intro c q I1 hc hc1 hq g1 g2
          obtain ⟨q, rfl⟩ := pred1 hq; replace hq := Nat.le_of_succ_le_succ hq
          obtain rfl : c = 4 := by omega
          refine ⟨nI 0, I1, ?_, g1, g2, rfl⟩
          rw [f_X9_seek_L27, if_pos (by decide)]
        | succ m im =>
          intro c q I1 hc hc1 hq g1 g2
          obtain ⟨q, rfl⟩ := pred1 hq; replace hq := Nat.le_of_succ_le_succ hq
          have hW1 : MW3 I1 P M := hW.of (g1 37 (by decide)) (g1 38 (by decide))
          have hr1 : ∀ k, k < h → H.testBit k = true → I1 39 k = nI (r k) ∧ 1 ≤ r k ∧ r k ≤ 3 := fun k hk hHk => by rw [g2 k hk]; exact hr k hk hHk
          rw [f_X9_seek_L27, if_neg (by rw [nI_ltI (by omega) (by omega)]; omega), fa_ok hW1 hh hc1 (by omega) hH hr1]
          show ∃ b I', (if bI (can P M H r h h c) = 0 then _ else _) = some (b, I') ∧ _
          have ec : 3 - m = c := by omega
          rw [skT, ec]
          by_cases hcc : can P M H r h h c = true
          · rw [if_neg (by rw [bI_0, hcc]; decide), if_pos hcc, oix_ok (j := h) rfl hh (by decide)]
            obtain ⟨b, I2, e2, s1, s2, s3⟩ := ih (h + 1) d (up2 I1 39 h (nI c)) (upN r h c) (by omega) hd hW1.up (fun k hk hHk => by
              by_cases e : k = h
              · subst e
                rw [up2_eq, upN_s]
                exact ⟨rfl, hc1, by omega⟩
              · rw [up2_ne e, upN_n e]
                exact hr1 k (by omega) hHk)
            rw [nI_add, bd2_ok e2]
            have t1 : ∀ a, a ≠ 39 → I2 a = I a := fun a ha => by rw [s1 a ha, up2_n ha, g1 a ha]
            have t2 : ∀ k, k < h → I2 39 k = I 39 k := fun k hk => by rw [s2 k (by omega), up2_ne (by omega), g2 k hk]
            cases ho : skR P M H n (h + 1) (upN r h c) with
            | none =>
              rw [ho] at s3
              have s3 : b = nI 0 := s3
              rw [s3, if_pos (by decide), nI_add]
              rw [Option.none_or]
              exact im (c + 1) q I2 (by omega) (by omega) hq t1 t2
            | some z =>
              rw [ho] at s3
              obtain ⟨s3, s4⟩ := s3
              rw [s3, if_neg (by decide)]
              exact ⟨nI 1, I2, rfl, t1, t2, rfl, s4⟩
          · rw [if_pos (by rw [bI_0]; simpa using hcc), if_neg hcc, nI_add]
            rw [Option.none_or]
            exact im (c + 1) q I1 (by omega) (by omega) hq g1 g2
      obtain ⟨b, I', e1, e2⟩ := loop 3 1 FU I rfl (by omega) (by have := FU5; omega) (fun a _ => rfl) (fun k _ => rfl)
      refine ⟨b, I', e1, ?_⟩
      rw [skR_T hb]
      exact e2
    · rw [if_neg hb]
      obtain ⟨b, I2, e2, s1, s2, s3⟩ := ih (h + 1) d I r (by omega) hd hW (fun k hk hHk => by
        by_cases e : k = h
        · subst e; exact absurd hHk hb
        · exact hr k (by omega) hHk)
      rw [nI_add, bd2_ok e2]
      have hb01 : b = 0 ∨ b = 1 := by
        cases ho : skR P M H n (h + 1) r with
        | none => rw [ho] at s3; left; exact s3
        | some z => rw [ho] at s3; right; exact s3.1
      rw [og_ok hb01]
      refine ⟨b, I2, rfl, s1, fun k hk => s2 k (by omega), ?_⟩
      unfold skR
      rw [if_neg hb]
      exact s3
