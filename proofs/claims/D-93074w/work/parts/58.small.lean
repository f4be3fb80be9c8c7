/-! PLAIN SIDE: act 22, the smallest part that no rule fits -/
set_option maxRecDepth 100000
def nof (a : AS) (s x : Nat) : Prop := subI s x = true ∧ rul a x = none
def fstOf (a : AS) (s z : Nat) : Prop := z ≤ s ∧ nof a s z ∧ ∀ x, x ≤ s → nof a s x → bc z < bc x ∨ (bc z = bc x ∧ z ≤ x)
theorem fstOf.un {a : AS} {s z y : Nat} (h1 : fstOf a s z) (h2 : fstOf a s y) : z = y := by
  have a1 := h1.2.2 y h2.1 h2.2.1
  have a2 := h2.2.2 z h1.1 h1.2.1
  omega
theorem act_22 {n : Nat} {S : SH} {I : II} {a1 : Int32} (h : Inv n S I) : Act n (f_arm_22 FU a1 S I) := by
  obtain ⟨ow, a, v, hO⟩ := h.op
  have hA := hO.aok
  have hM := hO.mrk
  unfold f_arm_22
  rcases set_cases hO a1 with ⟨h1, h2⟩ | ⟨s, -, hs, rfl, h1, h2⟩
  · refine Act.of (arm2 (r := -1000001) (I1 := EN I 1) ?_ ?_) (hO.bad (e := 1))
    · unfold f_X0_small f_X0_small_J26
      rw [h1, Option.bind_some]
      exact nbad hO.1 (by decide) (by decide)
    · unfold f_X9_small
      rw [isSetEN, h2, Option.bind_some, if_pos (by decide)]
      exact mbad2 (by decide) (by decide)
  · obtain ⟨I1, e1, f1, r1, hMr⟩ := both_rul hO hs
    cases hr : rul a s with
    | some r =>
      rw [hr] at e1
      obtain ⟨I2, e2, f2, -⟩ := hMr (EN I1 3) (fun x x1 x2 x3 => by rw [EN_x (by omega) (by omega), f1 x (by omega) (by omega) (by omega) (by omega) (by omega)])
      rw [hr] at e2
      refine Act.of (arm2 (r := -1000003) (I1 := EN I1 3) (I2 := EM I2 3) ?_ ?_) (hO.bad2 f1 f2)
      · unfold f_X0_small f_X0_small_J26
        rw [h1, Option.bind_some, ngood, bd2_ok e1]
        exact nbad hO.1 (by decide) (by decide)
      · unfold f_X9_small
        rw [isSetEN, isSet_congr (f1 28 (by decide) (by decide) (by decide) (by decide) (by decide)), h2, Option.bind_some, if_neg (by decide), bd2_ok e2, if_neg (show ¬ bI (some r).isSome = 0 from (show ¬ bI true = 0 by decide))]
        exact mbad2 (by decide) (by decide)
    | none =>
      rw [hr] at e1
      have gs : nof a s s := ⟨subI_self hs, hr⟩
      have kp : ∀ I3 : II, (∀ x, x ≠ 11 → x ≠ 13 → x ≠ 14 → x ≠ 15 → x ≠ 16 → I3 x = I x) → VN S I3 ow a v := fun I3 k1 => hO.vn.kept (fun x hx => k1 x (hM.ne hx (by decide) (by decide)) (hM.ne hx (by decide) (by decide)) (hM.ne hx (by decide) (by decide)) (hM.ne hx (by decide) (by decide)) (hM.ne hx (by decide) (by decide)))
      have lI : ∀ (K : Int32 → II → Option (Int32 × II)) (b : Nat), b ≤ 12 → ∀ (d k q : Nat) (I3 : II), k + d = s + 1 → d + 1 ≤ q → (∀ x, x < k → nof a s x → bc x ≠ b) → (∀ x, x ≠ 11 → x ≠ 13 → x ≠ 14 → x ≠ 15 → x ≠ 16 → I3 x = I x) → ∃ I4, (∀ x, x ≠ 11 → x ≠ 13 → x ≠ 14 → x ≠ 15 → x ≠ 16 → I4 x = I x) ∧ ((∃ z, z ≤ s ∧ f_X0_smallOf_L10 FU S K (nI s) (nI b) q (nI k) I3 = some (nI z, I4) ∧ nof a s z ∧ bc z = b ∧ ∀ x, x < z → nof a s x → bc x ≠ b) ∨ (f_X0_smallOf_L10 FU S K (nI s) (nI b) q (nI k) I3 = K (nI (b + 1)) I4 ∧ ∀ x, x ≤ s → nof a s x → bc x ≠ b)) := by
        intro K b hb12 d
        induction d with
        | zero =>
          intro k q I3 hk hq g1 k1
          obtain ⟨q, rfl⟩ := pred1 hq
          refine ⟨I3, k1, Or.inr ⟨?_, fun x hx => g1 x (by omega)⟩⟩
          rw [f_X0_smallOf_L10, if_pos (nI_lt (by omega) (by omega)), nI_add]
        | succ d ih =>
          intro k q I3 hk hq g1 k1
          obtain ⟨q, rfl⟩ := pred1 hq
          replace hq := Nat.le_of_succ_le_succ hq
          have hk256 : k < 256 := by omega
          have b1 := bc_le k
          rw [f_X0_smallOf_L10, if_neg (nI_nlt (by omega) (by omega)), sub_if, bc_okN k (by omega), Option.bind_some, nI_add k]
          have go : ∀ I5 : II, (∀ x, x ≠ 11 → x ≠ 13 → x ≠ 14 → x ≠ 15 → x ≠ 16 → I5 x = I x) → (nof a s k → bc k ≠ b) → _ := fun I5 k5 hne => ih (k + 1) q I5 (by omega) hq (fun x hx hg => by
            by_cases e : x = k
            · subst e; exact hne hg
            · exact g1 x (by omega) hg) k5
          by_cases hsb : subI s k = true
          · rw [if_pos hsb]
            by_cases hbc : bc k = b
            · rw [if_pos (by rw [hbc])]
              obtain ⟨I4, e4, f4, -⟩ := isOut_ok (kp I3 k1) hk256
              have k4 : ∀ x, x ≠ 11 → x ≠ 13 → x ≠ 14 → x ≠ 15 → x ≠ 16 → I4 x = I x := fun x x1 x2 x3 x4 x5 => by rw [f4 x x1 x2 x3 x4 x5, k1 x x1 x2 x3 x4 x5]
              rw [bd2_ok e4]
              cases hrk : rul a k with
              | none =>
                rw [if_neg (by decide)]
                exact ⟨I4, k4, Or.inl ⟨k, by omega, rfl, ⟨hsb, hrk⟩, hbc, g1⟩⟩
              | some r =>
                rw [if_pos (show bI (some r).isNone = 0 from rfl)]
                exact go I4 k4 (fun hg => by have := hg.2; rw [hrk] at this; cases this)
            · rw [if_neg (by rw [nI_eq (by omega) (by omega)]; exact hbc)]
              exact go I3 k1 (fun _ => hbc)
          · rw [if_neg hsb]
            exact go I3 k1 (fun hg => absurd hg.1 hsb)
      have b8 : bc s ≤ 8 := by
        have h : ∀ x, x < 256 → bc x ≤ 8 := by decide +kernel
        exact h s hs
      have lN : ∀ (d b q : Nat) (I3 : II), b + d = bc s → d + 1 ≤ q → (∀ x, x ≤ s → nof a s x → b ≤ bc x) → (∀ x, x ≠ 11 → x ≠ 13 → x ≠ 14 → x ≠ 15 → x ≠ 16 → I3 x = I x) → ∃ z I4, f_X0_smallOf_L2 FU S (nI s) q (nI b) I3 = some (nI z, I4) ∧ fstOf a s z ∧ ∀ x, x ≠ 11 → x ≠ 13 → x ≠ 14 → x ≠ 15 → x ≠ 16 → I4 x = I x := by
        intro d
        induction d with
        | zero =>
          intro b q I3 hb hq g1 k1
          obtain ⟨q, rfl⟩ := pred1 hq
          rw [f_X0_smallOf_L2, if_neg (nI_nlt (by omega) (by omega))]
          obtain ⟨I4, k4, ⟨z, z1, z2, z3, z4, z5⟩ | ⟨-, z2⟩⟩ := lI (f_X0_smallOf_L2 FU S (nI s) q) b (by omega) (s + 1) 0 FU I3 (by omega) (by have := FU5; omega) (fun x hx => by omega) k1
          · refine ⟨z, I4, z2, ⟨z1, z3, fun x hx hg => ?_⟩, k4⟩
            have u1 := g1 x hx hg
            by_cases u2 : x < z
            · have := z5 x u2 hg; omega
            · omega
          · exact absurd (show bc s = b by omega) (z2 s (Nat.le_refl _) gs)
        | succ d ih =>
          intro b q I3 hb hq g1 k1
          obtain ⟨q, rfl⟩ := pred1 hq
          replace hq := Nat.le_of_succ_le_succ hq
          rw [f_X0_smallOf_L2, if_neg (nI_nlt (by omega) (by omega))]
          obtain ⟨I4, k4, ⟨z, z1, z2, z3, z4, z5⟩ | ⟨z1, z2⟩⟩ := lI (f_X0_smallOf_L2 FU S (nI s) q) b (by omega) (s + 1) 0 FU I3 (by omega) (by have := FU5; omega) (fun x hx => by omega) k1
          · refine ⟨z, I4, z2, ⟨z1, z3, fun x hx hg => ?_⟩, k4⟩
            have u1 := g1 x hx hg
            by_cases u2 : x < z
            · have := z5 x u2 hg; omega
            · omega
          · rw [z1]
            exact ih (b + 1) q I4 (by omega) hq (fun x hx hg => by have u1 := g1 x hx hg; have u2 := z2 x hx hg; omega) k4
      obtain ⟨z, I4, e4, hz, k4⟩ := lN (bc s) 0 FU I1 (by omega) (by have := FU5; omega) (fun x _ _ => Nat.zero_le _) f1
      obtain ⟨I2, e2, f2, -⟩ := hMr I4 (fun x x1 x2 x3 => by rw [k4 x (by omega) (by omega) (by omega) (by omega) (by omega)])
      rw [hr] at e2
      have r4 : RowIs (I4 28) a := by rw [k4 28 (by decide) (by decide) (by decide) (by decide) (by decide)]; exact hO.row
      have t4 : Tab I4 := hO.tab.of (k4 _ (by decide) (by decide) (by decide) (by decide) (by decide)) (k4 _ (by decide) (by decide) (by decide) (by decide) (by decide)) (k4 _ (by decide) (by decide) (by decide) (by decide) (by decide)) (k4 _ (by decide) (by decide) (by decide) (by decide) (by decide))
      have lM : ∀ (d k q y : Nat) (I3 : II), k + d = s → d + 1 ≤ q → y ≤ s → nof a s y → (y = s ∨ y < k) → (∀ x, x < k → nof a s x → bc y < bc x ∨ (bc y = bc x ∧ y ≤ x)) → (∀ x, x ≠ 37 → x ≠ 38 → x ≠ 39 → I3 x = I4 x) → ∃ I5, f_X9_small_L35 FU (nI s) q (nI y) (nI k) I3 = some (nI z, I5) ∧ ∀ x, x ≠ 37 → x ≠ 38 → x ≠ 39 → I5 x = I4 x := by
        intro d
        induction d with
        | zero =>
          intro k q y I3 hk hq y1 y2 y3 y4 k1
          obtain ⟨q, rfl⟩ := pred1 hq
          obtain rfl : k = s := by omega
          have hy : fstOf a k y := ⟨y1, y2, fun x hx hg => by
            by_cases e : x = k
            · subst e
              by_cases e2 : y = x
              · right; exact ⟨by rw [e2], by omega⟩
              · have := sub_lt hs (show y < 256 by omega) y2.1 e2
                omega
            · exact y4 x (by omega) hg⟩
          refine ⟨I3, ?_, k1⟩
          rw [f_X9_small_L35, if_pos (nI_le (Nat.le_refl _) (by omega)), hz.un hy]
        | succ d ih =>
          intro k q y I3 hk hq y1 y2 y3 y4 k1
          obtain ⟨q, rfl⟩ := pred1 hq
          replace hq := Nat.le_of_succ_le_succ hq
          have hk256 : k < 256 := by omega
          have b1 := bc_le k
          have b2 := bc_le y
          have r3 : RowIs (I3 28) a := by rw [k1 28 (by decide) (by decide) (by decide)]; exact r4
          have t3 : Tab I3 := t4.of (k1 _ (by decide) (by decide) (by decide)) (k1 _ (by decide) (by decide) (by decide)) (k1 _ (by decide) (by decide) (by decide)) (k1 _ (by decide) (by decide) (by decide))
          rw [f_X9_small_L35, if_neg (nI_ge (by omega) (by omega)), sub_if, bc_okM k (by omega), bc_okM y (by omega)]
          simp only [Option.bind_some]
          have skip : (nof a s k → bc y < bc k ∨ (bc y = bc k ∧ y ≤ k)) → ∃ I5, f_X9_small_L35 FU (nI s) q (nI y) (nI k + nI 1) I3 = some (nI z, I5) ∧ ∀ x, x ≠ 37 → x ≠ 38 → x ≠ 39 → I5 x = I4 x := by
            intro hsk
            rw [nI_add]
            exact ih (k + 1) q y I3 (by omega) hq y1 y2 (by omega) (fun x hx hg => by
              by_cases e : x = k
              · subst e; exact hsk hg
              · exact y4 x (by omega) hg) k1
          by_cases hsb : subI s k = true
          · rw [if_pos hsb]
            have J : (bc k < bc y ∨ (bc k = bc y ∧ k < y)) → ∃ I5, f_X9_small_J75 FU (f_X9_small_L35 FU (nI s) q) (nI s) (nI y) (nI k) I3 = some (nI z, I5) ∧ ∀ x, x ≠ 37 → x ≠ 38 → x ≠ 39 → I5 x = I4 x := by
              intro hlt
              obtain ⟨I5, e5, f5, -⟩ := fitsSome_ok r3 hA t3 hk256
              have k5 : ∀ x, x ≠ 37 → x ≠ 38 → x ≠ 39 → I5 x = I4 x := fun x x1 x2 x3 => by rw [f5 x x1 x2 x3, k1 x x1 x2 x3]
              unfold f_X9_small_J75
              rw [bd2_ok e5, nI_add]
              cases hrk : rul a k with
              | none =>
                rw [if_pos (by decide)]
                exact ih (k + 1) q k I5 (by omega) hq (by omega) ⟨hsb, hrk⟩ (by omega) (fun x hx hg => by
                  by_cases e : x = k
                  · subst e; omega
                  · have := y4 x (by omega) hg; omega) k5
              | some r =>
                rw [if_neg (show ¬ bI (some r).isSome = 0 from (show ¬ bI true = 0 by decide))]
                exact ih (k + 1) q y I5 (by omega) hq y1 y2 (by omega) (fun x hx hg => by
                  by_cases e : x = k
                  · subst e; have := hg.2; rw [hrk] at this; cases this
                  · exact y4 x (by omega) hg) k5
            by_cases c1 : bc k < bc y
            · rw [if_pos (nI_lt c1 (by omega))]; exact J (Or.inl c1)
            · rw [if_neg (nI_nlt (by omega) (by omega))]
              by_cases c2 : bc k = bc y
              · rw [if_pos (by rw [c2])]
                by_cases c3 : y ≤ k
                · rw [if_pos (nI_le c3 (by omega))]; exact skip (fun _ => by omega)
                · rw [if_neg (nI_ge (by omega) (by omega))]; exact J (by omega)
              · rw [if_neg (by rw [nI_eq (by omega) (by omega)]; exact c2)]
                exact skip (fun _ => by omega)
          · rw [if_neg hsb]
            exact skip (fun hg => absurd hg.1 hsb)
      obtain ⟨I5, e5, k5⟩ := lM s 0 FU s I2 (by omega) (by have := FU5; omega) (Nat.le_refl _) gs (Or.inl rfl) (fun x hx => by omega) f2
      refine Act.of (arm2 (r := nI z) (I1 := I4) (I2 := I5) ?_ ?_) (hO.good2 k4 k5)
      · unfold f_X0_small
        rw [h1, Option.bind_some, ngood, bd2_ok e1]
        show bd2 (f_X0_need S (nI 1) (nI 3) I1) _ = _
        rw [ngood]
        unfold f_X0_smallOf
        rw [bd2_ok e4]
      · unfold f_X9_small
        rw [isSet_congr (k4 28 (by decide) (by decide) (by decide) (by decide) (by decide)), h2, Option.bind_some, if_neg (by decide), bd2_ok e2, if_pos (by decide)]
        exact e5
