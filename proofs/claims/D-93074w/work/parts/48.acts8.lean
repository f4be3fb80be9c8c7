/-! PLAIN SIDE: what a hall may choose; learning from what waits -/
set_option maxRecDepth 100000
theorem msk_ok : ∀ m, m < 8 → ∀ c, c < 3 → nI (2 * m) &&& (nI 1 <<< (nI (c + 1) &&& 31)) = nI (2 * (m &&& 2 ^ c)) ∧ nI m &&& (nI 1 <<< ((nI (c + 1) - nI 1) &&& 31)) = nI (m &&& 2 ^ c) := by decide +kernel
/-- the first rule where hall h chooses c + 1 -/
def rulK (a : AS) (s h c : Nat) : Option (Nat → Nat) := skR (web a s).1 (upN (web a s).2 h ((web a s).2 h &&& 2 ^ c)) 4095 12 0 (fun _ => 0)
def myb (a : AS) (s h : Nat) : Nat → Nat → Int32 → Int32
  | 0, _, z => z
  | d + 1, c, z => myb a s h d (c + 1) (if (rulK a s h c).isSome = true then z ||| (nI 1 <<< (nI (c + 1) &&& 31)) else z ||| nI 0)
theorem act_17 {n : Nat} {S : SH} {I : II} {a1 a2 : Int32} (h : Inv n S I) : Act n (f_arm_17 FU a1 a2 S I) := by
  obtain ⟨ow, a, v, hO⟩ := h.op
  unfold f_arm_17
  have bad : ∀ (X : Option (Int32 × II)) (Y : II → Option (Int32 × II)), X = f_X0_may_J20 FU S a1 a2 I → Y (EN I 1) = f_X9_may_J15 FU (EN I 1) → Act n (bd2 X fun r1 I1 => bd2 (Y I1) fun r2 I2 => og (r1 = r2) <| some (S, I2)) := by
    intro X Y hX hY
    refine Act.of (arm2 (r := -1000001) (I1 := EN I 1) ?_ ?_) (hO.bad (e := 1))
    · rw [hX]
      unfold f_X0_may_J20 f_X0_may_J21 f_X0_may_J90
      exact nbad hO.1 (by decide) (by decide)
    · rw [hY]
      unfold f_X9_may_J15
      exact mbad2 (by decide) (by decide)
  rcases set_cases hO a1 with ⟨h1, h2⟩ | ⟨s, -, hs, rfl, h1, h2⟩
  · refine bad _ _ ?_ ?_
    · unfold f_X0_may; rw [h1]; rfl
    · unfold f_X9_may; rw [isSetEN, h2]; rfl
  · rcases hall_cases a2 with ⟨g1, g2⟩ | ⟨j, hj, rfl, g1, g2⟩
    · refine bad _ _ ?_ ?_
      · unfold f_X0_may; rw [h1, g1]; rfl
      · unfold f_X9_may; rw [isSetEN, h2, g2]; rfl
    · have hw := web_ok a s
      obtain ⟨I1, e1, w1⟩ := weave_ok hO.vn hs
      have lN : ∀ (d c q : Nat) (z : Int32) (I3 : II), c + d = 3 → d + 1 ≤ q → (∀ x, x ≠ 11 → x ≠ 15 → x ≠ 16 → I3 x = I1 x) → ∃ I4, f_X0_may_L35 FU S (nI j) q z (nI (c + 1)) I3 = some (myb a s j d c z, I4) ∧ ∀ x, x ≠ 11 → x ≠ 15 → x ≠ 16 → I4 x = I1 x := by
        intro d
        induction d with
        | zero =>
          intro c q z I3 hc hq k1
          obtain ⟨q, rfl⟩ := pred1 hq
          obtain rfl : c = 3 := by omega
          refine ⟨I3, ?_, k1⟩
          rw [f_X0_may_L35, if_pos (by decide)]
          rfl
        | succ d ih =>
          intro c q z I3 hc hq k1
          obtain ⟨q, rfl⟩ := pred1 hq
          replace hq := Nat.le_of_succ_le_succ hq
          have hc3 : c < 3 := by omega
          obtain ⟨I5, e5, b1, b2, b3, b4⟩ := begin_ok (sh := S) (I := I3) (H := 4095)
          have e6 : I5 15 j = nI (2 * (web a s).2 j) := by rw [b4 j hj, k1 13 (by decide) (by decide) (by decide)]; exact w1.2.1 j hj
          have m1 := (msk_ok _ (hw.2 j) c hc3).1
          obtain ⟨b, I6, e7, s1, s2⟩ := nfind_ok (sh := S) (I := up2 I5 15 j (nI (2 * ((web a s).2 j &&& 2 ^ c)))) (P := (web a s).1) (M := upN (web a s).2 j ((web a s).2 j &&& 2 ^ c)) (H := 4095) (by decide) (fun x y h1 h2 => by rw [up2_n (by decide), b1 14 (by decide) (by decide), k1 14 (by decide) (by decide) (by decide)]; exact ⟨(w1.2.2 x y h1 h2).1, hw.1 _⟩) (by rw [up2_n (by decide)]; exact b3) (fun x hx => by
            by_cases e : x = j
            · subst e; rw [up2_eq, upN_s]; exact ⟨rfl, and_lt8 (hw.2 x)⟩
            · rw [up2_ne e, upN_n e, b4 x hx, k1 13 (by decide) (by decide) (by decide)]; exact ⟨w1.2.1 x hx, hw.2 x⟩)
          have k2 : ∀ x, x ≠ 11 → x ≠ 15 → x ≠ 16 → I6 x = I1 x := fun x x1 x2 x3 => by rw [s1 x x2 x3, up2_n x2, b1 x x1 x2, k1 x x1 x2 x3]
          rw [f_X0_may_L35, if_neg (nI_nlt (by omega) (by omega)), bind_ok e5]
          unfold f_X5_keep
          rw [oix_ok (j := j) rfl (by omega) (by decide), oix_ok (j := j) rfl (by omega) (by decide), e6, m1, Option.bind_some, bd2_ok e7, nI_add, myb]
          unfold rulK
          cases ho : skR (web a s).1 (upN (web a s).2 j ((web a s).2 j &&& 2 ^ c)) 4095 12 0 (fun _ => 0) with
          | none =>
            rw [ho] at s2
            have s2 : b = nI 0 := s2
            rw [s2, if_pos (by decide), if_neg (by simp)]
            exact ih (c + 1) q _ I6 (by omega) hq k2
          | some r =>
            rw [ho] at s2
            rw [s2.1, if_neg (by decide), if_pos (by simp)]
            exact ih (c + 1) q _ I6 (by omega) hq k2
      obtain ⟨I4, e4, k4⟩ := lN 3 0 FU (nI 0) I1 (by omega) (by have := FU5; omega) (fun _ _ _ _ => rfl)
      have f1 : ∀ x, x ≠ 11 → x ≠ 13 → x ≠ 14 → x ≠ 15 → x ≠ 16 → I4 x = I x := fun x x1 x2 x3 x4 x5 => by rw [k4 x x1 x4 x5, w1.1 x x2 x3]
      have r4 : RowIs (I4 28) a := by rw [f1 28 (by decide) (by decide) (by decide) (by decide) (by decide)]; exact hO.row
      have t4 : Tab I4 := hO.tab.of (f1 _ (by decide) (by decide) (by decide) (by decide) (by decide)) (f1 _ (by decide) (by decide) (by decide) (by decide) (by decide)) (f1 _ (by decide) (by decide) (by decide) (by decide) (by decide)) (f1 _ (by decide) (by decide) (by decide) (by decide) (by decide))
      obtain ⟨I2, e2, g⟩ := gather_ok r4 hO.aok t4 hs
      have lM : ∀ (d c q : Nat) (z : Int32) (I3 : II), c + d = 3 → d + 1 ≤ q → (∀ x, x ≠ 37 → x ≠ 39 → I3 x = I2 x) → (∀ k, k ≠ j → I3 37 k = I2 37 k) → ∃ I4, f_X9_may_L40 FU (nI j) (nI ((web a s).2 j)) q z (nI (c + 1)) I3 = some (myb a s j d c z, I4) ∧ ∀ x, x ≠ 37 → x ≠ 39 → I4 x = I2 x := by
        intro d
        induction d with
        | zero =>
          intro c q z I3 hc hq k1 k2
          obtain ⟨q, rfl⟩ := pred1 hq
          obtain rfl : c = 3 := by omega
          refine ⟨I3, ?_, k1⟩
          rw [f_X9_may_L40, if_pos (by decide)]
          rfl
        | succ d ih =>
          intro c q z I3 hc hq k1 k2
          obtain ⟨q, rfl⟩ := pred1 hq
          replace hq := Nat.le_of_succ_le_succ hq
          have hc3 : c < 3 := by omega
          have m1 := (msk_ok _ (hw.2 j) c hc3).2
          obtain ⟨b, I6, e7, s1, -, s2⟩ := seek_ok (P := (web a s).1) (M := upN (web a s).2 j ((web a s).2 j &&& 2 ^ c)) (H := 4095) (by decide) 12 0 13 (up2 I3 37 j (nI ((web a s).2 j &&& 2 ^ c))) (fun _ => 0) (by omega) (by omega) ⟨fun x hx => by
            by_cases e : x = j
            · subst e; rw [up2_eq, upN_s]; exact ⟨rfl, and_lt8 (hw.2 x)⟩
            · rw [up2_ne e, upN_n e, k2 x e]; exact ⟨g.2.2 x hx, hw.2 x⟩, fun x y h1 h2 => by rw [up2_n (by decide), k1 38 (by decide) (by decide)]; exact ⟨g.2.1 _ (by omega), hw.1 _⟩⟩ (fun k hk => by omega)
          have k3 : ∀ x, x ≠ 37 → x ≠ 39 → I6 x = I2 x := fun x x1 x2 => by rw [s1 x x2, up2_n x1, k1 x x1 x2]
          have k5 : ∀ k, k ≠ j → I6 37 k = I2 37 k := fun k hk => by rw [s1 37 (by decide), up2_ne hk, k2 k hk]
          rw [f_X9_may_L40, if_neg (nI_nlt (by omega) (by omega)), oix_ok (j := j) rfl (by omega) (by decide), m1, bd2_ok e7, nI_add, myb]
          unfold rulK
          cases ho : skR (web a s).1 (upN (web a s).2 j ((web a s).2 j &&& 2 ^ c)) 4095 12 0 (fun _ => 0) with
          | none =>
            rw [ho] at s2
            have s2 : b = nI 0 := s2
            rw [s2, if_pos (by decide), if_neg (by simp)]
            exact ih (c + 1) q _ I6 (by omega) hq k3 k5
          | some r =>
            rw [ho] at s2
            rw [s2.1, if_neg (by decide), if_pos (by simp)]
            exact ih (c + 1) q _ I6 (by omega) hq k3 k5
      obtain ⟨I7, e7, k7⟩ := lM 3 0 FU (nI 0) I2 (by omega) (by have := FU5; omega) (fun _ _ _ => rfl) (fun _ _ => rfl)
      refine Act.of (arm2 (r := myb a s j 3 0 (nI 0)) (I1 := I4) (I2 := I7) ?_ ?_) (hO.good2 f1 (fun x x1 x2 x3 => by rw [k7 x x1 x3, g.1 x x1 x2]))
      · unfold f_X0_may f_X0_may_J21
        rw [h1, Option.bind_some, if_neg (by decide), g1, Option.bind_some, if_neg (by decide), ngood, bind_ok e1]
        exact e4
      · unfold f_X9_may
        rw [isSet_congr (f1 28 (by decide) (by decide) (by decide) (by decide) (by decide)), h2, Option.bind_some, if_neg (by decide), g2, Option.bind_some, if_neg (by decide), bind_ok e2, oix_ok (j := j) rfl hj (by decide), g.2.2 j hj]
        exact e7
