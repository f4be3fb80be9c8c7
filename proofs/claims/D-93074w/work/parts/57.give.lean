/-! PLAIN SIDE: act 24, what to give up -/
set_option maxRecDepth 100000
/-- the cheapest part found so far -/
def gv (a : AS) (s : Nat) : Nat → Nat → Option Nat → Option Nat
  | 0, _, y => y
  | d + 1, k, y => gv a s d (k + 1) (if subI s k = true ∧ (∀ z, y = some z → ltp a k z = true) ∧ (rul a (s ^^^ k)).isSome = true then some k else y)
def enc (y : Option Nat) : Int32 := match y with | none => -1 | some z => nI z
theorem sub_if {α : Type} {s x : Nat} {A B : α} : (if (nI x &&& (nI s ^^^ (-1))) = 0 then A else B) = if subI s x = true then A else B := by
  unfold subI
  by_cases h : nI x &&& (nI s ^^^ (-1)) = 0
  · rw [if_pos h, if_pos (decide_eq_true h)]
  · rw [if_neg h, if_neg (by rw [decide_eq_false h]; decide)]
theorem act_24 {n : Nat} {S : SH} {I : II} {a1 a2 : Int32} (h : Inv n S I) : Act n (f_arm_24 FU a1 a2 S I) := by
  obtain ⟨ow, a, v, hO⟩ := h.op
  have hA := hO.aok
  have hM := hO.mrk
  unfold f_arm_24
  have bad : ∀ (X : Option (Int32 × II)) (Y : II → Option (Int32 × II)), X = f_X0_give_J22 FU S a1 a2 I → Y (EN I 1) = f_X9_give_J17 FU (EN I 1) → Act n (bd2 X fun r1 I1 => bd2 (Y I1) fun r2 I2 => og (r1 = r2) <| some (S, I2)) := by
    intro X Y hX hY
    refine Act.of (arm2 (r := -1000001) (I1 := EN I 1) ?_ ?_) (hO.bad (e := 1))
    · rw [hX]
      unfold f_X0_give_J22 f_X0_give_J23 f_X0_give_J99
      exact nbad hO.1 (by decide) (by decide)
    · rw [hY]
      unfold f_X9_give_J17
      exact mbad2 (by decide) (by decide)
  rcases set_cases hO a1 with ⟨h1, h2⟩ | ⟨s, -, hs, rfl, h1, h2⟩
  · refine bad _ _ ?_ ?_
    · unfold f_X0_give; rw [h1]; rfl
    · unfold f_X9_give; rw [isSetEN, h2]; rfl
  · rcases in_cases a2 0 1 (by decide) (by decide) with ⟨g1, g2⟩ | ⟨j, -, hj, rfl, g1, g2⟩
    · refine bad _ _ ?_ ?_
      · unfold f_X0_give; rw [h1, g1]; rfl
      · unfold f_X9_give; rw [isSetEN, h2, g2]; rfl
    · have kp : ∀ I3 : II, (∀ x, x ≠ 11 → x ≠ 13 → x ≠ 14 → x ≠ 15 → x ≠ 16 → I3 x = I x) → VN S I3 ow a v := fun I3 k1 => hO.vn.kept (fun x hx => k1 x (hM.ne hx (by decide) (by decide)) (hM.ne hx (by decide) (by decide)) (hM.ne hx (by decide) (by decide)) (hM.ne hx (by decide) (by decide)) (hM.ne hx (by decide) (by decide)))
      -- one step of the class
      have stN : ∀ (k q : Nat) (y : Option Nat) (I3 : II), k ≤ s → (∀ z, y = some z → z < 256) → (∀ x, x ≠ 11 → x ≠ 13 → x ≠ 14 → x ≠ 15 → x ≠ 16 → I3 x = I x) → ∃ I4, f_X0_give_L32 FU S (nI s) (nI j) (q + 1) (enc y) (nI k) I3 = f_X0_give_L32 FU S (nI s) (nI j) q (enc (if subI s k = true ∧ (∀ z, y = some z → ltp a k z = true) ∧ (rul a (s ^^^ k)).isSome = true then some k else y)) (nI (k + 1)) I4 ∧ ∀ x, x ≠ 11 → x ≠ 13 → x ≠ 14 → x ≠ 15 → x ≠ 16 → I4 x = I x := by
        intro k q y I3 hk hy k1
        have hk256 : k < 256 := by omega
        rw [f_X0_give_L32, if_neg (nI_nlt hk (by omega)), sub_if, nI_add]
        by_cases hsb : subI s k = true
        · rw [if_pos hsb]
          have J : ∀ B : Prop, (B → ∀ z, y = some z → ltp a k z = true) → B → ∃ I4, f_X0_give_J62 FU S (f_X0_give_L32 FU S (nI s) (nI j) q) (nI s) (nI j) (enc y) (nI k) I3 = f_X0_give_L32 FU S (nI s) (nI j) q (enc (if subI s k = true ∧ (∀ z, y = some z → ltp a k z = true) ∧ (rul a (s ^^^ k)).isSome = true then some k else y)) (nI (k + 1)) I4 ∧ ∀ x, x ≠ 11 → x ≠ 13 → x ≠ 14 → x ≠ 15 → x ≠ 16 → I4 x = I x := by
            intro B hB hb
            obtain ⟨I4, e4, f4, -⟩ := isOut_ok (kp I3 k1) (xor_lt hs hk256)
            refine ⟨I4, ?_, fun x x1 x2 x3 x4 x5 => by rw [f4 x x1 x2 x3 x4 x5, k1 x x1 x2 x3 x4 x5]⟩
            unfold f_X0_give_J62
            rw [(sub_xor hk256 hsb).1, bd2_ok e4, nI_add]
            cases hr : rul a (s ^^^ k) with
            | none => rw [if_neg (by decide), if_neg (fun h => by have := h.2.2; simp at this)]
            | some r => rw [if_pos (show bI (some r).isNone = 0 from rfl), if_pos ⟨hsb, hB hb, rfl⟩]; rfl
          cases y with
          | none =>
            rw [if_pos (show enc none = -1 from rfl)]
            exact J True (fun _ z hz => by cases hz) trivial
          | some z =>
            have hz := hy z rfl
            rw [if_neg (show ¬ enc (some z) = -1 from nI_m1 (by omega))]
            show ∃ I4, ((f_X0_isLess FU S (nI k) (nI z) I3).bind fun r56 => _) = _ ∧ _
            rw [isLess_ok (n := n) (kp I3 k1) hk256 hz, Option.bind_some]
            cases hl : ltp a k z with
            | true =>
              rw [if_neg (by decide)]
              exact J (ltp a k z = true) (fun h z' hz' => by cases hz'; exact h) hl
            | false =>
              rw [if_pos (by decide), if_neg (fun h => by have := h.2.1 z rfl; rw [hl] at this; cases this)]
              exact ⟨I3, rfl, k1⟩
        · rw [if_neg hsb, if_neg (fun h => hsb h.1)]
          exact ⟨I3, rfl, k1⟩
      have lN : ∀ (d k q : Nat) (y : Option Nat) (I3 : II), k + d = s → d ≤ q → (∀ z, y = some z → z < k ∧ subI s z = true) → (∀ x, x ≠ 11 → x ≠ 13 → x ≠ 14 → x ≠ 15 → x ≠ 16 → I3 x = I x) → ∃ I4, f_X0_give_L32 FU S (nI s) (nI j) q (enc y) (nI k) I3 = f_X0_give_L32 FU S (nI s) (nI j) (q - d) (enc (gv a s d k y)) (nI s) I4 ∧ (∀ z, gv a s d k y = some z → z < s ∧ subI s z = true) ∧ ∀ x, x ≠ 11 → x ≠ 13 → x ≠ 14 → x ≠ 15 → x ≠ 16 → I4 x = I x := by
        intro d
        induction d with
        | zero =>
          intro k q y I3 hk hq hy k1
          obtain rfl : k = s := by omega
          exact ⟨I3, rfl, hy, k1⟩
        | succ d ih =>
          intro k q y I3 hk hq hy k1
          obtain ⟨q, rfl⟩ := pred1 (k := d) hq
          replace hq := Nat.le_of_succ_le_succ hq
          obtain ⟨I4, e4, k4⟩ := stN k q y I3 (by omega) (fun z hz => by have := (hy z hz).1; omega) k1
          obtain ⟨I5, e5, h5, k5⟩ := ih (k + 1) q (if subI s k = true ∧ (∀ z, y = some z → ltp a k z = true) ∧ (rul a (s ^^^ k)).isSome = true then some k else y) I4 (by omega) hq (fun z hz => by
            by_cases hc : subI s k = true ∧ (∀ z, y = some z → ltp a k z = true) ∧ (rul a (s ^^^ k)).isSome = true
            · rw [if_pos hc] at hz; cases hz; exact ⟨by omega, hc.1⟩
            · rw [if_neg hc] at hz; have := hy z hz; exact ⟨by omega, this.2⟩) k4
          refine ⟨I5, ?_, h5, k5⟩
          rw [e4, e5, show q + 1 - (d + 1) = q - d by omega]
          rfl
      have lM : ∀ (d k q : Nat) (y : Option Nat) (I1 I3 : II), k + d = s → d + 1 ≤ q → (∀ z, y = some z → z < k ∧ subI s z = true) → RowIs (I1 28) a → Tab I1 → (∀ x, x ≠ 37 → x ≠ 38 → x ≠ 39 → I3 x = I1 x) → ∃ I4, f_X9_give_L29 FU (nI s) (nI j) q (nI (y.getD s)) (nI k) I3 = some (if j = 0 then nI ((gv a s d k y).getD s) else nI (prN a ((gv a s d k y).getD s)), I4) ∧ ∀ x, x ≠ 37 → x ≠ 38 → x ≠ 39 → I4 x = I1 x := by
        intro d
        induction d with
        | zero =>
          intro k q y I1 I3 hk hq hy hR hT k1
          obtain ⟨q, rfl⟩ := pred1 hq
          obtain rfl : k = s := by omega
          refine ⟨I3, ?_, k1⟩
          have hR3 : RowIs (I3 28) a := by rw [k1 28 (by decide) (by decide) (by decide)]; exact hR
          have hy2 : y.getD k < 256 := by
            cases y with
            | none => exact hs
            | some z => have := (hy z rfl).1; show z < 256; omega
          rw [f_X9_give_L29, if_pos (nI_le (Nat.le_refl _) (by omega)), priceOf_ok hR3 hA hy2, Option.bind_some, prc_N]
          by_cases h0 : j = 0
          · subst h0; rw [if_pos (by decide), if_pos rfl]; rfl
          · rw [if_neg (nI_ne0 (by omega) (by omega)), if_neg h0]; rfl
        | succ d ih =>
          intro k q y I1 I3 hk hq hy hR hT k1
          obtain ⟨q, rfl⟩ := pred1 hq
          replace hq := Nat.le_of_succ_le_succ hq
          have hks : k < s := by omega
          have hk256 : k < 256 := by omega
          have hR3 : RowIs (I3 28) a := by rw [k1 28 (by decide) (by decide) (by decide)]; exact hR
          have hT3 : Tab I3 := hT.of (k1 _ (by decide) (by decide) (by decide)) (k1 _ (by decide) (by decide) (by decide)) (k1 _ (by decide) (by decide) (by decide)) (k1 _ (by decide) (by decide) (by decide))
          have hy2 : y.getD s < 256 := by
            cases y with
            | none => exact hs
            | some z => have := (hy z rfl).1; show z < 256; omega
          have p1 := prN_bd (s := k) hA
          have p2 := prN_bd (s := y.getD s) hA
          have b1 := bc_le k
          have b2 := bc_le (y.getD s)
          have cont : ∀ (y' : Option Nat) (I5 : II), y' = (if subI s k = true ∧ (∀ z, y = some z → ltp a k z = true) ∧ (rul a (s ^^^ k)).isSome = true then some k else y) → (∀ x, x ≠ 37 → x ≠ 38 → x ≠ 39 → I5 x = I1 x) → ∃ I4, f_X9_give_L29 FU (nI s) (nI j) q (nI (y'.getD s)) (nI (k + 1)) I5 = some (if j = 0 then nI ((gv a s (d + 1) k y).getD s) else nI (prN a ((gv a s (d + 1) k y).getD s)), I4) ∧ ∀ x, x ≠ 37 → x ≠ 38 → x ≠ 39 → I4 x = I1 x := by
            intro y' I5 hy' k5
            have hI : ∀ z, y' = some z → z < k + 1 ∧ subI s z = true := fun z hz => by
              rw [hy'] at hz
              by_cases hc : subI s k = true ∧ (∀ z, y = some z → ltp a k z = true) ∧ (rul a (s ^^^ k)).isSome = true
              · rw [if_pos hc] at hz; cases hz; exact ⟨by omega, hc.1⟩
              · rw [if_neg hc] at hz; have := hy z hz; exact ⟨by omega, this.2⟩
            have hg : gv a s (d + 1) k y = gv a s d (k + 1) y' := by rw [hy']; rfl
            rw [hg]
            exact ih (k + 1) q y' I1 I5 (by omega) hq hI hR hT k5
          -- the better one, or not
          have J98 : ∀ b : Bool, (subI s k = true → (b = true ↔ ∀ z, y = some z → ltp a k z = true)) → ∃ I4, f_X9_give_J98 FU (f_X9_give_L29 FU (nI s) (nI j) q) (nI s) (nI j) (nI (y.getD s)) (nI k) (bI b) I3 = some (if j = 0 then nI ((gv a s (d + 1) k y).getD s) else nI (prN a ((gv a s (d + 1) k y).getD s)), I4) ∧ ∀ x, x ≠ 37 → x ≠ 38 → x ≠ 39 → I4 x = I1 x := by
            intro b hb
            unfold f_X9_give_J98
            rw [sub_if, nI_add]
            by_cases hsb : subI s k = true
            · rw [if_pos hsb]
              have hb := hb hsb
              cases b with
              | false =>
                rw [if_pos (by decide)]
                refine cont y I3 ?_ k1
                rw [if_neg (fun h => by have := hb.mpr h.2.1; cases this)]
              | true =>
                obtain ⟨I4, e4, f4, -⟩ := fitsSome_ok hR3 hA hT3 (xor_lt hs hk256)
                have k4 : ∀ x, x ≠ 37 → x ≠ 38 → x ≠ 39 → I4 x = I1 x := fun x x1 x2 x3 => by rw [f4 x x1 x2 x3, k1 x x1 x2 x3]
                rw [if_neg (by decide), (sub_xor hk256 hsb).2, bd2_ok e4]
                cases hr : rul a (s ^^^ k) with
                | none =>
                  rw [if_pos (by decide)]
                  refine cont y I4 ?_ k4
                  rw [if_neg (fun h => by have := h.2.2; rw [hr] at this; simp at this)]
                | some r =>
                  rw [if_neg (show ¬ bI (some r).isSome = 0 from (show ¬ bI true = 0 by decide))]
                  refine cont (some k) I4 ?_ k4
                  rw [if_pos ⟨hsb, hb.mp rfl, by rw [hr]; rfl⟩]
            · rw [if_neg hsb]
              refine cont y I3 ?_ k1
              rw [if_neg (fun h => hsb h.1)]
          have lt0 : ltp a k (y.getD s) = true ∨ subI s k = false ∨ ∃ z, y = some z := by
            cases y with
            | some z => exact Or.inr (Or.inr ⟨z, rfl⟩)
            | none =>
              cases hsb : subI s k with
              | false => exact Or.inr (Or.inl rfl)
              | true =>
                left
                have u1 := sub_pr (a := a) hk256 hsb
                have u2 := sub_lt hs hk256 hsb (by omega)
                show ltp a k s = true
                unfold ltp
                exact decide_eq_true (by omega)
          have tf : ∀ b : Bool, (ltp a k (y.getD s) = b) → (subI s k = true → (b = true ↔ ∀ z, y = some z → ltp a k z = true)) := by
            intro b hb hsb
            cases y with
            | some z =>
              have hb : ltp a k z = b := hb
              rw [← hb]
              exact ⟨fun h z' hz' => by cases hz'; exact h, fun h => h z rfl⟩
            | none =>
              rcases lt0 with h | h | ⟨z, h⟩
              · rw [h] at hb; rw [← hb]; exact ⟨fun _ z hz => (by cases hz), fun _ => rfl⟩
              · rw [h] at hsb; cases hsb
              · cases h
          rw [f_X9_give_L29, if_neg (nI_ge hks (by omega)), priceOf_ok hR3 hA hk256, priceOf_ok hR3 hA hy2, Option.bind_some, Option.bind_some, Option.bind_some, prc_N, prc_N, bc_okM k (by omega), bc_okM (y.getD s) (by omega)]
          simp only [Option.bind_some]
          unfold f_X9_give_J93 f_X9_give_J97
          by_cases c1 : prN a k < prN a (y.getD s)
          · rw [if_pos (nI_lt c1 (by omega))]
            exact J98 true (tf true (by unfold ltp; exact decide_eq_true (by omega)))
          · rw [if_neg (nI_nlt (by omega) (by omega))]
            by_cases c2 : prN a k = prN a (y.getD s)
            · rw [if_pos (by rw [c2])]
              by_cases c3 : bc k < bc (y.getD s)
              · rw [if_pos (nI_lt c3 (by omega))]
                exact J98 true (tf true (by unfold ltp; exact decide_eq_true (by omega)))
              · rw [if_neg (nI_nlt (by omega) (by omega))]
                by_cases c4 : bc k = bc (y.getD s)
                · rw [if_pos (by rw [c4])]
                  by_cases c5 : y.getD s ≤ k
                  · rw [if_pos (nI_le c5 (by omega))]
                    exact J98 false (tf false (by unfold ltp; exact decide_eq_false (by omega)))
                  · rw [if_neg (nI_ge (by omega) (by omega))]
                    refine J98 true (fun hsb => ?_)
                    rcases lt0 with hh | hh | ⟨z, hh⟩
                    · exact tf true hh hsb
                    · rw [hh] at hsb; cases hsb
                    · subst hh
                      have := (hy z rfl).1
                      exact absurd (show z ≤ k by omega) c5
                · rw [if_neg (by rw [nI_eq (by omega) (by omega)]; exact c4)]
                  exact J98 false (tf false (by unfold ltp; exact decide_eq_false (by omega)))
            · rw [if_neg (by rw [nI_eq (by omega) (by omega)]; exact c2)]
              exact J98 false (tf false (by unfold ltp; exact decide_eq_false (by omega)))
      obtain ⟨I5, e5, h5, k5⟩ := lN s 0 FU none I (by omega) (by have := FU5; omega) (fun z hz => by cases hz) (fun _ _ _ _ _ _ => rfl)
      have hFq : ∃ q, FU - s = q + 1 + 1 := ⟨FU - s - 2, by have := FU5; omega⟩
      obtain ⟨q, hq⟩ := hFq
      obtain ⟨I6, e6, k6⟩ := stN s (q + 1) (gv a s s 0 none) I5 (Nat.le_refl _) (fun z hz => by have := (h5 z hz).1; omega) k5
      have ey : (if subI s s = true ∧ (∀ z, gv a s s 0 none = some z → ltp a s z = true) ∧ (rul a (s ^^^ s)).isSome = true then some s else gv a s s 0 none) = some ((gv a s s 0 none).getD s) := by
        cases hg : gv a s s 0 none with
        | none =>
          rw [if_pos ⟨subI_self hs, fun z hz => (by cases hz), by rw [Nat.xor_self]; exact rul0⟩]
          rfl
        | some z =>
          obtain ⟨z1, z2⟩ := h5 z hg
          have u1 := sub_pr (a := a) (show z < 256 by omega) z2
          have u2 := sub_lt hs (show z < 256 by omega) z2 (by omega)
          rw [if_neg (fun h => by
            have := h.2.1 z rfl
            unfold ltp at this
            have := of_decide_eq_true this
            omega)]
          rfl
      have hgl : (gv a s s 0 none).getD s < 256 := by
        cases hg : gv a s s 0 none with
        | none => exact hs
        | some z => have := (h5 z hg).1; show z < 256; omega
      have r6 : RowIs (I6 28) a := by rw [k6 28 (by decide) (by decide) (by decide) (by decide) (by decide)]; exact hO.row
      have t6 : Tab I6 := hO.tab.of (k6 _ (by decide) (by decide) (by decide) (by decide) (by decide)) (k6 _ (by decide) (by decide) (by decide) (by decide) (by decide)) (k6 _ (by decide) (by decide) (by decide) (by decide) (by decide)) (k6 _ (by decide) (by decide) (by decide) (by decide) (by decide))
      obtain ⟨I7, e7, k7⟩ := lM s 0 FU none I6 I6 (by omega) (by have := FU5; omega) (fun z hz => by cases hz) r6 t6 (fun _ _ _ _ => rfl)
      refine Act.of (arm2 (r := if j = 0 then nI ((gv a s s 0 none).getD s) else nI (prN a ((gv a s s 0 none).getD s))) (I1 := I6) (I2 := I7) ?_ ?_) (hO.good2 k6 k7)
      · unfold f_X0_give f_X0_give_J23
        rw [h1, Option.bind_some, if_neg (by decide), g1, Option.bind_some, if_neg (by decide), ngood]
        show f_X0_give_L32 FU S (nI s) (nI j) FU (enc none) (nI 0) I = _
        have hV6 := kp I6 k6
        rw [e5, hq, e6, ey, f_X0_give_L32, if_pos (nI_lt (by omega) (by omega)), orf_ok hV6.2.2.2.1, ock_ok hV6.2.2.2.2.1.r]
        show (if nI j = 0 then some (nI ((gv a s s 0 none).getD s), I6) else (f_X2_prices FU S v (nI ((gv a s s 0 none).getD s)) I6).bind fun r95 => some (r95, I6)) = _
        rw [prices_ok hV6.2.2.2.2 hA hgl, Option.bind_some, prc_N]
        by_cases h0 : j = 0
        · subst h0; rw [if_pos (by decide), if_pos rfl]
        · rw [if_neg (nI_ne0 (by omega) (by omega)), if_neg h0]
      · unfold f_X9_give
        rw [isSet_congr (k6 28 (by decide) (by decide) (by decide) (by decide) (by decide)), h2, Option.bind_some, if_neg (by decide), g2, Option.bind_some, if_neg (by decide)]
        exact e7
