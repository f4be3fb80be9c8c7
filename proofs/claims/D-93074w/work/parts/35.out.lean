/-! PLAIN SIDE: whether a rule fits by a set, both -/
set_option maxRecDepth 100000
theorem all_bit : ∀ k, k < 12 → (4095).testBit k = true := by decide
/-- the first rule that fits by a set -/
def rul (a : AS) (s : Nat) : Option (Nat → Nat) := skR (web a s).1 (web a s).2 4095 12 0 (fun _ => 0)
theorem begin_ok {sh : SH} {I : II} {H : Nat} : ∃ I', f_X5_begin FU sh (nI H) I = some I' ∧ (∀ x, x ≠ 11 → x ≠ 15 → I' x = I x) ∧ (∀ k, k ≠ 3 → I' 11 k = I 11 k) ∧ I' 11 3 = nI H ∧ ∀ h, h < 12 → I' 15 h = I 13 h := by
  have loop : ∀ (d k n : Nat) (I1 : II), k + d = 12 → d + 1 ≤ n → (∀ x, x ≠ 11 → x ≠ 15 → I1 x = I x) → (∀ k, k ≠ 3 → I1 11 k = I 11 k) → I1 11 3 = nI H → (∀ h, h < k → I1 15 h = I 13 h) → ∃ I', f_X5_begin_L7 FU sh n (nI k) I1 = some I' ∧ (∀ x, x ≠ 11 → x ≠ 15 → I' x = I x) ∧ (∀ k, k ≠ 3 → I' 11 k = I 11 k) ∧ I' 11 3 = nI H ∧ ∀ h, h < 12 → I' 15 h = I 13 h := by
    intro d
    induction d with
    | zero =>
      intro k n I1 hk hn g1 g2 g3 g4
      obtain ⟨n, rfl⟩ := pred1 hn
      obtain rfl : k = 12 := by omega
      refine ⟨I1, ?_, g1, g2, g3, g4⟩
      rw [f_X5_begin_L7, if_pos (by decide)]
    | succ d ih =>
      intro k n I1 hk hn g1 g2 g3 g4
      obtain ⟨n, rfl⟩ := pred1 hn
      replace hn := Nat.le_of_succ_le_succ hn
      rw [f_X5_begin_L7, if_neg (nI_ge (by omega) (by omega)), oix_ok (j := k) rfl (by omega) (by decide), oix_ok (j := k) rfl (by omega) (by decide), nI_add]
      refine ih (k + 1) n _ (by omega) hn (fun x x1 x2 => by rw [up2_n x2]; exact g1 x x1 x2) (fun q hq => by rw [up2_n (by decide)]; exact g2 q hq) (by rw [up2_n (by decide)]; exact g3) (fun h hh => ?_)
      by_cases e : h = k
      · subst e; rw [up2_eq, g1 13 (by decide) (by decide)]
      · rw [up2_ne e]; exact g4 h (by omega)
  unfold f_X5_begin
  exact loop 12 0 FU _ rfl (by have := FU5; omega) (fun x x1 _ => up2_n x1) (fun k hk => up2_ne hk) up2_eq (fun h hh => by omega)
theorem can0 {P M : Nat → Nat} {H : Nat} {r : Nat → Nat} {k c : Nat} : can P M H r 0 k c = okm M k c := by simp [can]
theorem rowL0 {I : II} {P M : Nat → Nat} {H : Nat} {r : Nat → Nat} (h : ∀ h, h < 12 → I 15 h = nI (2 * M h) ∧ M h < 8) : RowL I P M H r 0 := by
  intro k _ hk
  obtain ⟨h1, h2⟩ := h k hk
  refine ⟨M k, h2, by rw [Nat.mul_zero, Nat.zero_add]; exact h1, fun _ c c1 c3 => ?_⟩
  rw [can0]
  rfl
/-- the class's search, begun with all halls -/
theorem nfind_ok {sh : SH} {I : II} {P M : Nat → Nat} {H : Nat} (hH : H < 4096) (hP : NP3 I P) (h11 : I 11 3 = nI H) (h15 : ∀ h, h < 12 → I 15 h = nI (2 * M h) ∧ M h < 8) : ∃ b I', f_X5_finds FU sh I = some (b, I') ∧ (∀ x, x ≠ 15 → x ≠ 16 → I' x = I x) ∧ match skR P M H 12 0 (fun _ => 0) with
    | none => b = nI 0
    | some r => b = nI 1 ∧ ∀ k, k < 12 → H.testBit k = true → I' 16 k = nI (r k) ∧ 1 ≤ r k ∧ r k ≤ 3 := by
  obtain ⟨b, I', e, s1, -, -, s4⟩ := finds_ok (sh := sh) (M := M) hH 12 0 13 I (fun _ => 0) (by omega) (by omega) hP h11 (rowL0 h15) (fun k hk => by omega)
  refine ⟨b, I', ?_, s1, s4⟩
  unfold f_X5_finds
  rw [bd2_ok e, og_ok]
  cases ho : skR P M H 12 0 (fun _ => 0) with
  | none => rw [ho] at s4; left; exact s4
  | some z => rw [ho] at s4; right; exact s4.1
theorem isOut_ok {sh : SH} {I : II} {ow : Nat → Nat} {a : AS} {v s : Nat} (h : VN sh I ow a v) (hs : s < 256) : ∃ I', f_X0_isOut FU sh (nI s) I = some (bI (rul a s).isNone, I') ∧ (∀ x, x ≠ 11 → x ≠ 13 → x ≠ 14 → x ≠ 15 → x ≠ 16 → I' x = I x) ∧ ∀ r, rul a s = some r → ∀ k, k < 12 → I' 16 k = nI (r k) ∧ 1 ≤ r k ∧ r k ≤ 3 := by
  obtain ⟨I1, e1, g1⟩ := weave_ok h hs
  obtain ⟨I2, e2, b1, b2, b3, b4⟩ := begin_ok (sh := sh) (I := I1) (H := 4095)
  have hw := web_ok a s
  obtain ⟨b, I3, e3, s1, s2⟩ := nfind_ok (sh := sh) (I := I2) (P := (web a s).1) (M := (web a s).2) (H := 4095) (by decide) (fun x y h1 h2 => by rw [b1 14 (by decide) (by decide)]; exact ⟨(g1.2.2 x y h1 h2).1, hw.1 _⟩) b3 (fun x hx => by rw [b4 x hx]; exact ⟨g1.2.1 x hx, hw.2 x⟩)
  refine ⟨I3, ?_, fun x x1 x2 x3 x4 x5 => by rw [s1 x x4 x5, b1 x x1 x4, g1.1 x x2 x3], fun r hr k hk => ?_⟩
  · unfold f_X0_isOut
    rw [bind_ok e1, bind_ok e2, bd2_ok e3]
    unfold rul
    cases ho : skR (web a s).1 (web a s).2 4095 12 0 (fun _ => 0) with
    | none => rw [ho] at s2; have s2 : b = nI 0 := s2; rw [s2, if_pos (by decide)]; rfl
    | some z => rw [ho] at s2; rw [s2.1, if_neg (by decide)]; rfl
  · unfold rul at hr
    rw [hr] at s2
    exact s2.2 k hk (all_bit k hk)
theorem fitsSome_ok {I : II} {a : AS} {s : Nat} (hR : RowIs (I 28) a) (hA : AOK a) (hT : Tab I) (hs : s < 256) : ∃ I', f_X9_fitsSome FU (nI s) I = some (bI (rul a s).isSome, I') ∧ (∀ x, x ≠ 37 → x ≠ 38 → x ≠ 39 → I' x = I x) ∧ ∀ r, rul a s = some r → ∀ k, k < 12 → I' 39 k = nI (r k) ∧ 1 ≤ r k ∧ r k ≤ 3 := by
  obtain ⟨I1, e1, g1⟩ := gather_ok hR hA hT hs
  obtain ⟨b, I2, e2, s1, -, s3⟩ := seek_ok (P := (web a s).1) (M := (web a s).2) (H := 4095) (by decide) 12 0 13 I1 (fun _ => 0) (by omega) (by omega) (g1.mw (web_ok a s)) (fun k hk => by omega)
  refine ⟨I2, ?_, fun x x1 x2 x3 => by rw [s1 x x3, g1.1 x x1 x2], fun r hr k hk => ?_⟩
  · unfold f_X9_fitsSome
    rw [bind_ok e1, bd2_ok e2]
    unfold rul
    cases ho : skR (web a s).1 (web a s).2 4095 12 0 (fun _ => 0) with
    | none => rw [ho] at s3; have s3 : b = nI 0 := s3; rw [s3, og_ok (Or.inl (by decide))]; rfl
    | some z => rw [ho] at s3; rw [s3.1, og_ok (Or.inr (by decide))]; rfl
  · unfold rul at hr
    rw [hr] at s3
    exact s3.2 k hk (all_bit k hk)
