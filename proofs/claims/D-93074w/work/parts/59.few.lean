/-! PLAIN SIDE: act 23, the fewest halls that no rule fits -/
set_option maxRecDepth 100000
theorem isOut_ok2 {sh : SH} {I : II} {ow : Nat → Nat} {a : AS} {v s : Nat} (h : VN sh I ow a v) (hs : s < 256) : ∃ I', f_X0_isOut FU sh (nI s) I = some (bI (rul a s).isNone, I') ∧ (∀ x, x ≠ 11 → x ≠ 13 → x ≠ 14 → x ≠ 15 → x ≠ 16 → I' x = I x) ∧ (∀ h, h < 12 → I' 13 h = nI (2 * (web a s).2 h)) ∧ ∀ h k, h < k → k < 12 → I' 14 (12 * h + k) = nI ((web a s).1 (12 * h + k)) := by
  obtain ⟨I1, e1, g1⟩ := weave_ok h hs
  obtain ⟨I2, e2, b1, b2, b3, b4⟩ := begin_ok (sh := sh) (I := I1) (H := 4095)
  have hw := web_ok a s
  obtain ⟨b, I3, e3, s1, s2⟩ := nfind_ok (sh := sh) (I := I2) (P := (web a s).1) (M := (web a s).2) (H := 4095) (by decide) (fun x y h1 h2 => by rw [b1 14 (by decide) (by decide)]; exact ⟨(g1.2.2 x y h1 h2).1, hw.1 _⟩) b3 (fun x hx => by rw [b4 x hx]; exact ⟨g1.2.1 x hx, hw.2 x⟩)
  refine ⟨I3, ?_, fun x x1 x2 x3 x4 x5 => by rw [s1 x x4 x5, b1 x x1 x4, g1.1 x x2 x3], fun h hh => by rw [s1 13 (by decide) (by decide), b1 13 (by decide) (by decide)]; exact g1.2.1 h hh, fun h k h1 h2 => by rw [s1 14 (by decide) (by decide), b1 14 (by decide) (by decide)]; exact (g1.2.2 h k h1 h2).1⟩
  unfold f_X0_isOut
  rw [bind_ok e1, bind_ok e2, bd2_ok e3]
  unfold rul
  cases ho : skR (web a s).1 (web a s).2 4095 12 0 (fun _ => 0) with
  | none => rw [ho] at s2; have s2 : b = nI 0 := s2; rw [s2, if_pos (by decide)]; rfl
  | some z => rw [ho] at s2; rw [s2.1, if_neg (by decide)]; rfl
theorem fitsSome_ok2 {I : II} {a : AS} {s : Nat} (hR : RowIs (I 28) a) (hA : AOK a) (hT : Tab I) (hs : s < 256) : ∃ I', f_X9_fitsSome FU (nI s) I = some (bI (rul a s).isSome, I') ∧ (∀ x, x ≠ 37 → x ≠ 38 → x ≠ 39 → I' x = I x) ∧ MW3 I' (web a s).1 (web a s).2 := by
  obtain ⟨I1, e1, g1⟩ := gather_ok hR hA hT hs
  obtain ⟨b, I2, e2, s1, -, s3⟩ := seek_ok (P := (web a s).1) (M := (web a s).2) (H := 4095) (by decide) 12 0 13 I1 (fun _ => 0) (by omega) (by omega) (g1.mw (web_ok a s)) (fun k hk => by omega)
  refine ⟨I2, ?_, fun x x1 x2 x3 => by rw [s1 x x3, g1.1 x x1 x2], (g1.mw (web_ok a s)).of (s1 37 (by decide)) (s1 38 (by decide))⟩
  unfold f_X9_fitsSome
  rw [bind_ok e1, bd2_ok e2]
  unfold rul
  cases ho : skR (web a s).1 (web a s).2 4095 12 0 (fun _ => 0) with
  | none => rw [ho] at s3; have s3 : b = nI 0 := s3; rw [s3, og_ok (Or.inl (by decide))]; rfl
  | some z => rw [ho] at s3; rw [s3.1, og_ok (Or.inr (by decide))]; rfl
def nofH (a : AS) (s H : Nat) : Prop := skR (web a s).1 (web a s).2 H 12 0 (fun _ => 0) = none
def fewF (a : AS) (s z : Nat) : Prop := 1 ≤ z ∧ z ≤ 4095 ∧ nofH a s z ∧ ∀ x, 1 ≤ x → x ≤ 4095 → nofH a s x → bc z < bc x ∨ (bc z = bc x ∧ z ≤ x)
theorem fewF.un {a : AS} {s z y : Nat} (h1 : fewF a s z) (h2 : fewF a s y) : z = y := by
  have a1 := h1.2.2.2 y h2.1 h2.2.1 h2.2.2.1
  have a2 := h2.2.2.2 z h1.1 h1.2.1 h1.2.2.1
  omega
theorem bc_hi : ∀ x, x < 4096 → (1 ≤ x → 1 ≤ bc x) ∧ (12 ≤ bc x → x = 4095) := by decide +kernel
theorem bc_4095 : bc 4095 = 12 := by decide +kernel
theorem act_23 {n : Nat} {S : SH} {I : II} {a1 : Int32} (h : Inv n S I) : Act n (f_arm_23 FU a1 S I) := by
  obtain ⟨ow, a, v, hO⟩ := h.op
  have hA := hO.aok
  have hM := hO.mrk
  have F5 := FU5
  unfold f_arm_23
  rcases set_cases hO a1 with ⟨h1, h2⟩ | ⟨s, -, hs, rfl, h1, h2⟩
  · refine Act.of (arm2 (r := -1000001) (I1 := EN I 1) ?_ ?_) (hO.bad (e := 1))
    · unfold f_X0_few f_X0_few_J25
      rw [h1, Option.bind_some]
      exact nbad hO.1 (by decide) (by decide)
    · unfold f_X9_few
      rw [isSetEN, h2, Option.bind_some, if_pos (by decide)]
      exact mbad2 (by decide) (by decide)
  · obtain ⟨I1, e1, f1, p13, p14⟩ := isOut_ok2 hO.vn hs
    have hw := web_ok a s
    cases hr : rul a s with
    | some r =>
      rw [hr] at e1
      obtain ⟨I2, e2, f2, -⟩ := fitsSome_ok2 (rowEN (e := 3) (show RowIs (I1 28) a by rw [f1 28 (by decide) (by decide) (by decide) (by decide) (by decide)]; exact hO.row)) hA (tabEN (e := 3) (hO.tab.of (f1 _ (by decide) (by decide) (by decide) (by decide) (by decide)) (f1 _ (by decide) (by decide) (by decide) (by decide) (by decide)) (f1 _ (by decide) (by decide) (by decide) (by decide) (by decide)) (f1 _ (by decide) (by decide) (by decide) (by decide) (by decide)))) hs
      rw [hr] at e2
      refine Act.of (arm2 (r := -1000003) (I1 := EN I1 3) (I2 := EM I2 3) ?_ ?_) (hO.bad2 f1 f2)
      · unfold f_X0_few f_X0_few_J25
        rw [h1, Option.bind_some, ngood, bd2_ok e1]
        exact nbad hO.1 (by decide) (by decide)
      · unfold f_X9_few
        rw [isSetEN, isSet_congr (f1 28 (by decide) (by decide) (by decide) (by decide) (by decide)), h2, Option.bind_some, if_neg (by decide), bd2_ok e2, if_neg (show ¬ bI (some r).isSome = 0 from (show ¬ bI true = 0 by decide))]
        exact mbad2 (by decide) (by decide)
    | none =>
      rw [hr] at e1
      have g4095 : nofH a s 4095 := hr
      have lI : ∀ (K : Int32 → II → Option (Int32 × II)) (b : Nat), b ≤ 12 → ∀ (d k q : Nat) (I3 : II), 1 ≤ k → k + d = 4096 → d + 1 ≤ q → (∀ x, 1 ≤ x → x < k → nofH a s x → bc x ≠ b) → (∀ x, x ≠ 11 → x ≠ 15 → x ≠ 16 → I3 x = I1 x) → ∃ I4, (∀ x, x ≠ 11 → x ≠ 15 → x ≠ 16 → I4 x = I1 x) ∧ ((∃ z, 1 ≤ z ∧ z ≤ 4095 ∧ f_X0_fewOf_L10 FU S K (nI b) q (nI k) I3 = some (nI z, I4) ∧ nofH a s z ∧ bc z = b ∧ ∀ x, 1 ≤ x → x < z → nofH a s x → bc x ≠ b) ∨ (f_X0_fewOf_L10 FU S K (nI b) q (nI k) I3 = K (nI (b + 1)) I4 ∧ ∀ x, 1 ≤ x → x ≤ 4095 → nofH a s x → bc x ≠ b)) := by
        intro K b hb12 d
        induction d with
        | zero =>
          intro k q I3 hk0 hk hq g1 k1
          obtain ⟨q, rfl⟩ := pred1 hq
          refine ⟨I3, k1, Or.inr ⟨?_, fun x hx0 hx => g1 x hx0 (by omega)⟩⟩
          rw [f_X0_fewOf_L10, if_pos (nI_lt (by omega) (by omega)), nI_add]
        | succ d ih =>
          intro k q I3 hk0 hk hq g1 k1
          obtain ⟨q, rfl⟩ := pred1 hq
          replace hq := Nat.le_of_succ_le_succ hq
          have b1 := bc_le k
          rw [f_X0_fewOf_L10, if_neg (nI_nlt (by omega) (by omega)), bc_okN k (by omega), Option.bind_some, nI_add k]
          have go : ∀ I5 : II, (∀ x, x ≠ 11 → x ≠ 15 → x ≠ 16 → I5 x = I1 x) → (nofH a s k → bc k ≠ b) → _ := fun I5 k5 hne => ih (k + 1) q I5 (by omega) (by omega) hq (fun x hx0 hx hg => by
            by_cases e : x = k
            · subst e; exact hne hg
            · exact g1 x hx0 (by omega) hg) k5
          by_cases hbc : bc k = b
          · rw [if_pos (by rw [hbc])]
            obtain ⟨I5, e5, c1, c2, c3, c4⟩ := begin_ok (sh := S) (I := I3) (H := k)
            obtain ⟨y, I6, e6, s1, s2⟩ := nfind_ok (sh := S) (I := I5) (P := (web a s).1) (M := (web a s).2) (H := k) (by omega) (fun x y h1 h2 => by rw [c1 14 (by decide) (by decide), k1 14 (by decide) (by decide) (by decide)]; exact ⟨p14 x y h1 h2, hw.1 _⟩) c3 (fun x hx => by rw [c4 x hx, k1 13 (by decide) (by decide) (by decide)]; exact ⟨p13 x hx, hw.2 x⟩)
            have k6 : ∀ x, x ≠ 11 → x ≠ 15 → x ≠ 16 → I6 x = I1 x := fun x x1 x2 x3 => by rw [s1 x x2 x3, c1 x x1 x2, k1 x x1 x2 x3]
            rw [bind_ok e5, bd2_ok e6]
            cases hrk : skR (web a s).1 (web a s).2 k 12 0 (fun _ => 0) with
            | none =>
              rw [hrk] at s2
              have s2 : y = nI 0 := s2
              rw [s2, if_pos (by decide)]
              exact ⟨I6, k6, Or.inl ⟨k, hk0, by omega, rfl, hrk, hbc, g1⟩⟩
            | some r =>
              rw [hrk] at s2
              rw [s2.1, if_neg (by decide)]
              exact go I6 k6 (fun hg => by unfold nofH at hg; rw [hrk] at hg; cases hg)
          · rw [if_neg (by rw [nI_eq (by omega) (by omega)]; exact hbc)]
            exact go I3 k1 (fun _ => hbc)
      have lN : ∀ (d b q : Nat) (I3 : II), b + d = 12 → d + 1 ≤ q → (∀ x, 1 ≤ x → x ≤ 4095 → nofH a s x → b ≤ bc x) → (∀ x, x ≠ 11 → x ≠ 15 → x ≠ 16 → I3 x = I1 x) → ∃ z I4, f_X0_fewOf_L2 FU S q (nI b) I3 = some (nI z, I4) ∧ fewF a s z ∧ ∀ x, x ≠ 11 → x ≠ 15 → x ≠ 16 → I4 x = I1 x := by
        intro d
        induction d with
        | zero =>
          intro b q I3 hb hq g1 k1
          obtain ⟨q, rfl⟩ := pred1 hq
          rw [f_X0_fewOf_L2, if_neg (nI_nlt (by omega) (by omega))]
          obtain ⟨I4, k4, ⟨z, z0, z1, z2, z3, z4, z5⟩ | ⟨-, z2⟩⟩ := lI (f_X0_fewOf_L2 FU S q) b (by omega) 4095 1 FU I3 (by omega) (by omega) (by omega) (fun x hx0 hx => by omega) k1
          · refine ⟨z, I4, z2, ⟨z0, z1, z3, fun x hx0 hx hg => ?_⟩, k4⟩
            have u1 := g1 x hx0 hx hg
            by_cases u2 : x < z
            · have := z5 x hx0 u2 hg; omega
            · omega
          · have := bc_4095
            exact absurd (show bc 4095 = b by omega) (z2 4095 (by omega) (by omega) g4095)
        | succ d ih =>
          intro b q I3 hb hq g1 k1
          obtain ⟨q, rfl⟩ := pred1 hq
          replace hq := Nat.le_of_succ_le_succ hq
          rw [f_X0_fewOf_L2, if_neg (nI_nlt (by omega) (by omega))]
          obtain ⟨I4, k4, ⟨z, z0, z1, z2, z3, z4, z5⟩ | ⟨z1, z2⟩⟩ := lI (f_X0_fewOf_L2 FU S q) b (by omega) 4095 1 FU I3 (by omega) (by omega) (by omega) (fun x hx0 hx => by omega) k1
          · refine ⟨z, I4, z2, ⟨z0, z1, z3, fun x hx0 hx hg => ?_⟩, k4⟩
            have u1 := g1 x hx0 hx hg
            by_cases u2 : x < z
            · have := z5 x hx0 u2 hg; omega
            · omega
          · rw [z1]
            exact ih (b + 1) q I4 (by omega) hq (fun x hx0 hx hg => by have u1 := g1 x hx0 hx hg; have u2 := z2 x hx0 hx hg; omega) k4
      obtain ⟨z, I4, e4, hz, k4⟩ := lN 11 1 FU I1 (by omega) (by omega) (fun x hx0 hx _ => (bc_hi x (by omega)).1 hx0) (fun _ _ _ _ => rfl)
      have f4 : ∀ x, x ≠ 11 → x ≠ 13 → x ≠ 14 → x ≠ 15 → x ≠ 16 → I4 x = I x := fun x x1 x2 x3 x4 x5 => by rw [k4 x x1 x4 x5, f1 x x1 x2 x3 x4 x5]
      have r4 : RowIs (I4 28) a := by rw [f4 28 (by decide) (by decide) (by decide) (by decide) (by decide)]; exact hO.row
      have t4 : Tab I4 := hO.tab.of (f4 _ (by decide) (by decide) (by decide) (by decide) (by decide)) (f4 _ (by decide) (by decide) (by decide) (by decide) (by decide)) (f4 _ (by decide) (by decide) (by decide) (by decide) (by decide)) (f4 _ (by decide) (by decide) (by decide) (by decide) (by decide))
      obtain ⟨I2, e2, f2, mw⟩ := fitsSome_ok2 r4 hA t4 hs
      rw [hr] at e2
      have mI : ∀ (K : Int32 → II → Option (Int32 × II)) (b : Nat), b ≤ 11 → ∀ (d k q : Nat) (I3 : II), 1 ≤ k → k + d = 4095 → d + 1 ≤ q → (∀ x, 1 ≤ x → x < k → nofH a s x → bc x ≠ b) → (∀ x, x ≠ 39 → I3 x = I2 x) → ∃ I5, (∀ x, x ≠ 39 → I5 x = I2 x) ∧ ((∃ z, 1 ≤ z ∧ z ≤ 4095 ∧ f_X9_few_L41 FU K (nI b) q (nI k) I3 = some (nI z, I5) ∧ nofH a s z ∧ bc z = b ∧ ∀ x, 1 ≤ x → x < z → nofH a s x → bc x ≠ b) ∨ (f_X9_few_L41 FU K (nI b) q (nI k) I3 = K (nI (b + 1)) I5 ∧ ∀ x, 1 ≤ x → x ≤ 4095 → nofH a s x → bc x ≠ b)) := by
        intro K b hb12 d
        induction d with
        | zero =>
          intro k q I3 hk0 hk hq g1 k1
          obtain ⟨q, rfl⟩ := pred1 hq
          refine ⟨I3, k1, Or.inr ⟨?_, fun x hx0 hx hg => ?_⟩⟩
          · rw [f_X9_few_L41, if_pos (nI_le (by omega) (by omega)), nI_add]
          · by_cases e : x = 4095
            · have := bc_4095; rw [e]; omega
            · exact g1 x hx0 (by omega) hg
        | succ d ih =>
          intro k q I3 hk0 hk hq g1 k1
          obtain ⟨q, rfl⟩ := pred1 hq
          replace hq := Nat.le_of_succ_le_succ hq
          have b1 := bc_le k
          rw [f_X9_few_L41, if_neg (nI_ge (by omega) (by omega)), bc_okM k (by omega), Option.bind_some, nI_add k]
          have go : ∀ I5 : II, (∀ x, x ≠ 39 → I5 x = I2 x) → (nofH a s k → bc k ≠ b) → _ := fun I5 k5 hne => ih (k + 1) q I5 (by omega) (by omega) hq (fun x hx0 hx hg => by
            by_cases e : x = k
            · subst e; exact hne hg
            · exact g1 x hx0 (by omega) hg) k5
          by_cases hbc : bc k = b
          · rw [if_pos (by rw [hbc])]
            obtain ⟨y, I6, e6, s1, -, s2⟩ := seek_ok (P := (web a s).1) (M := (web a s).2) (H := k) (by omega) 12 0 13 I3 (fun _ => 0) (by omega) (by omega) (mw.of (k1 37 (by decide)) (k1 38 (by decide))) (fun k hk => by omega)
            have k6 : ∀ x, x ≠ 39 → I6 x = I2 x := fun x x1 => by rw [s1 x x1, k1 x x1]
            rw [bd2_ok e6]
            cases hrk : skR (web a s).1 (web a s).2 k 12 0 (fun _ => 0) with
            | none =>
              rw [hrk] at s2
              have s2 : y = nI 0 := s2
              rw [s2, if_pos (by decide)]
              exact ⟨I6, k6, Or.inl ⟨k, hk0, by omega, rfl, hrk, hbc, g1⟩⟩
            | some r =>
              rw [hrk] at s2
              rw [s2.1, if_neg (by decide)]
              exact go I6 k6 (fun hg => by unfold nofH at hg; rw [hrk] at hg; cases hg)
          · rw [if_neg (by rw [nI_eq (by omega) (by omega)]; exact hbc)]
            exact go I3 k1 (fun _ => hbc)
      have lM : ∀ (d b q : Nat) (I3 : II), b + d = 12 → d + 1 ≤ q → (∀ x, 1 ≤ x → x ≤ 4095 → nofH a s x → b ≤ bc x) → (∀ x, x ≠ 39 → I3 x = I2 x) → ∃ y I5, f_X9_few_L33 FU q (nI b) I3 = some (nI y, I5) ∧ fewF a s y ∧ ∀ x, x ≠ 39 → I5 x = I2 x := by
        intro d
        induction d with
        | zero =>
          intro b q I3 hb hq g1 k1
          obtain ⟨q, rfl⟩ := pred1 hq
          refine ⟨4095, I3, ?_, ⟨by omega, by omega, g4095, fun x hx0 hx hg => ?_⟩, k1⟩
          · rw [f_X9_few_L33, if_pos (nI_le (by omega) (by omega))]
          · have u1 := g1 x hx0 hx hg
            have u2 := (bc_hi x (by omega)).2 (by omega)
            right
            rw [u2]
            exact ⟨rfl, Nat.le_refl _⟩
        | succ d ih =>
          intro b q I3 hb hq g1 k1
          obtain ⟨q, rfl⟩ := pred1 hq
          replace hq := Nat.le_of_succ_le_succ hq
          rw [f_X9_few_L33, if_neg (nI_ge (by omega) (by omega))]
          obtain ⟨I5, k5, ⟨z, z0, z1, z2, z3, z4, z5⟩ | ⟨z1, z2⟩⟩ := mI (f_X9_few_L33 FU q) b (by omega) 4094 1 FU I3 (by omega) (by omega) (by omega) (fun x hx0 hx => by omega) k1
          · refine ⟨z, I5, z2, ⟨z0, z1, z3, fun x hx0 hx hg => ?_⟩, k5⟩
            have u1 := g1 x hx0 hx hg
            by_cases u2 : x < z
            · have := z5 x hx0 u2 hg; omega
            · omega
          · rw [z1]
            exact ih (b + 1) q I5 (by omega) hq (fun x hx0 hx hg => by have u1 := g1 x hx0 hx hg; have u2 := z2 x hx0 hx hg; omega) k5
      obtain ⟨y, I5, e5, hy, k5⟩ := lM 11 1 FU I2 (by omega) (by omega) (fun x hx0 hx _ => (bc_hi x (by omega)).1 hx0) (fun _ _ => rfl)
      obtain rfl := hz.un hy
      refine Act.of (arm2 (r := nI z) (I1 := I4) (I2 := I5) ?_ ?_) (hO.good2 f4 (fun x x1 x2 x3 => by rw [k5 x x3, f2 x x1 x2 x3]))
      · unfold f_X0_few
        rw [h1, Option.bind_some, ngood, bd2_ok e1]
        show bd2 (f_X0_need S (nI 1) (nI 3) I1) _ = _
        rw [ngood]
        unfold f_X0_fewOf
        rw [bd2_ok e4]
      · unfold f_X9_few
        rw [isSet_congr (f4 28 (by decide) (by decide) (by decide) (by decide) (by decide)), h2, Option.bind_some, if_neg (by decide), bd2_ok e2, if_pos (by decide)]
        exact e5
