/-! PLAIN SIDE: telling, forms, the first rule -/
set_option maxRecDepth 100000
theorem act_35 {n : Nat} {S : SH} {I : II} {a1 : Int32} (h : Inv n S I) : Act n (f_arm_35 FU a1 S I) := by
  obtain ⟨ow, a, v, hO⟩ := h.op
  have hA := hO.aok
  obtain ⟨hS, hM, -, hv, w1, w2, w3, w4, ⟨tl, t1, t2, t3, t4⟩, ⟨al, b1, b2⟩, ⟨tp, c1, c2, c3, c4⟩, wl, y1, y2, y3, y4⟩ := hO.vn
  have hW := hA.2.2.1
  have v9 : ow v ≠ 9 := by rw [w2]; decide
  have l9 : ow wl ≠ 9 := by rw [y3]; decide
  have v28 : v ≠ 28 := hM.ne v9 (by decide) (by decide)
  have l28 : wl ≠ 28 := hM.ne l9 (by decide) (by decide)
  have hvl : v ≠ wl := fun e => by have := w1.2; rw [e, y2.2] at this; cases this
  have hvt : v ≠ tl := fun e => by have := w1.2; rw [e, t2.2] at this; cases this
  have hvp : v ≠ tp := fun e => by have := w1.2; rw [e, c2.2] at this; cases this
  have hlt : tl ≠ wl := fun e => by have := t2.2; rw [e, y2.2] at this; cases this
  have hlp : tp ≠ wl := fun e => by have := c2.2; rw [e, y2.2] at this; cases this
  unfold f_arm_35
  by_cases h20 : aW a = 20
  · refine Act.of (arm2 (r := -1000004) (I1 := EN I 4) ?_ ?_) (hO.bad (e := 4))
    · unfold f_X0_tell
      rw [orf_ok hv, ock_ok w1.r, w4, if_pos (nI_le (by omega) (by omega))]
      unfold f_X0_tell_J18 f_X0_tell_J59
      exact nbad hO.1 (by decide) (by decide)
    · unfold f_X9_tell
      rw [oix_ok (j := 2) rfl (by decide) (by decide), EN_x (by decide) (by decide), hO.row.2.2.1, h20, if_pos rfl]
      exact mbad2 (by decide) (by decide)
  · have hw20 : aW a < 20 := by omega
    refine Act.of (arm2 (r := nI (aW a + 1)) (I1 := up2 (up2 I wl (aW a) a1) v 5 (nI (aW a + 1))) (I2 := up2 (up2 (up2 (up2 I wl (aW a) a1) v 5 (nI (aW a + 1))) 28 (90 + aW a) a1) 28 2 (nI (aW a + 1))) ?_ ?_) (hO.re (T := aT a) (W := aW a + 1) (R := aR a) (B := aB a) (V' := fun k => if k = aW a then a1 else aV a k) (by omega) t1 c1 y1 (fun x _ _ _ x4 x5 x6 x7 x8 => by rw [up2_n x4, up2_n x4, up2_n x5, up2_n x8]) ?_ ?_ ?_ ⟨hA.2.1, by omega, hA.2.2.2.1, hA.2.2.2.2.2⟩ (fun k hk => ?_) ?_ ?_ (fun q hq => ?_) (fun q hq => ?_) (fun q hq => ?_) ?_ ?_ (fun q hq => ?_) (fun q hq => ?_) (fun q hq => ?_))
    · unfold f_X0_tell
      rw [orf_ok hv, ock_ok w1.r, w4, if_neg (nI_ge hw20 (by omega))]
      unfold f_X0_tell_J18
      rw [ngood, orf_ok hv, ock_ok w1.r, orf_ok y1, orf_ok hv, ock_ok w1.r, oarw_ok y2, w4, oix_ok (j := aW a) rfl hw20 (by decide), orf_ok hv, ock_ok w1.r, ockw_ok w1, orf_ok hv, ock_ok w1.r, up2_n hvl, w4, nI_add, up2_eq]
    · have e28 : ∀ k, up2 (up2 I wl (aW a) a1) v 5 (nI (aW a + 1)) 28 k = I 28 k := fun k => by rw [up2_n v28.symm, up2_n l28.symm]
      unfold f_X9_tell
      rw [oix_ok (j := 2) rfl (by decide) (by decide), e28, hO.row.2.2.1, if_neg (by rw [nI_eq (by omega) (by omega)]; omega), oix_ok (j := 2) rfl (by decide) (by decide), e28, hO.row.2.2.1, oix_ok (j := 90 + aW a) (by rw [nI_add]) (by omega) (by decide), oix_ok (j := 2) rfl (by decide) (by decide), oix_ok (j := 2) rfl (by decide) (by decide), oix_ok (j := 2) rfl (by decide) (by decide), up2_ne (show 2 ≠ 90 + aW a by omega), e28, hO.row.2.2.1, nI_add, up2_eq]
    · rw [up2_n (by decide), up2_n (by decide), up2_n (hM.ne v9 (by decide) (by decide)).symm, up2_n (hM.ne l9 (by decide) (by decide)).symm]
    · rw [up2_n (by decide), up2_n (by decide), up2_n (hM.ne v9 (by decide) (by decide)).symm, up2_n (hM.ne l9 (by decide) (by decide)).symm]
    · intro k hk
      rw [up2_n (by decide), up2_n (by decide), up2_n (hM.ne v9 (by decide) (by decide)).symm, up2_n (hM.ne l9 (by decide) (by decide)).symm, up2_n (by decide), up2_n (by decide), up2_n (hM.ne v9 (by decide) (by decide)).symm, up2_n (hM.ne l9 (by decide) (by decide)).symm]
      exact hO.2.2.2.2.2.1 k hk
    · rw [up2_ne (by omega), up2_ne (by omega), up2_n v28.symm, up2_n l28.symm]
    · rw [up2_ne (by omega), up2_ne (by omega), up2_n v28.symm, up2_n l28.symm]; exact hO.row.2.1
    · exact up2_eq
    · rw [up2_ne (by omega), up2_ne (by omega), up2_n v28.symm, up2_n l28.symm]; exact hO.row.2.2.2.1 q hq
    · rw [up2_ne (by omega), up2_ne (by omega), up2_n v28.symm, up2_n l28.symm]; exact hO.row.2.2.2.2.2.1 q hq
    · rw [up2_ne (by omega)]
      by_cases e : q = aW a
      · subst e; rw [up2_eq, if_pos rfl]
      · rw [up2_ne (by omega), up2_n v28.symm, up2_n l28.symm, if_neg e]; exact hO.row.2.2.2.2.2.2 q hq
    · rw [up2_n v28, up2_n v28, up2_ne (by decide), up2_n hvl]; exact w3
    · rw [up2_n v28, up2_n v28, up2_eq]
    · rw [up2_n (hM.ne (by rw [t3]; decide) (by decide) (by decide)), up2_n (hM.ne (by rw [t3]; decide) (by decide) (by decide)), up2_n hvt.symm, up2_n hlt]; exact t4 q hq
    · rw [up2_n (hM.ne (by rw [c3]; decide) (by decide) (by decide)), up2_n (hM.ne (by rw [c3]; decide) (by decide) (by decide)), up2_n hvp.symm, up2_n hlp]; exact c4 q hq
    · rw [up2_n l28, up2_n l28, up2_n hvl.symm]
      by_cases e : q = aW a
      · subst e; rw [up2_eq, if_pos rfl]
      · rw [up2_ne e, if_neg e]; exact y4 q hq
/-- in how many halls a form is unlike the rule -/
def fct (R : Nat → Nat) (f : Nat) : Nat → Nat → Int32 → Int32
  | 0, _, s => s
  | d + 1, k, s => fct R f d (k + 1) (if R k = hfo f k then s + nI 0 else s + nI 1)
theorem act_5 {n : Nat} {S : SH} {I : II} {a1 : Int32} (h : Inv n S I) : Act n (f_arm_5 FU a1 S I) := by
  obtain ⟨ow, a, v, hO⟩ := h.op
  have hA := hO.aok
  obtain ⟨hS, hM, -, hv, w1, w2, w3, w4, ⟨tl, t1, t2, t3, t4⟩, -⟩ := hO.vn
  have t9 : ow tl ≠ 9 := by rw [t3]; decide
  have n28 : tl ≠ 28 := hM.ne t9 (by decide) (by decide)
  unfold f_arm_5
  rcases in_cases a1 0 11 (by decide) (by decide) with ⟨h1, h2⟩ | ⟨f, -, f2, rfl, h1, h2⟩
  · refine Act.of (arm2 (r := -1000001) (I1 := EN I 1) ?_ ?_) (hO.bad (e := 1))
    · unfold f_X0_form f_X0_form_J69
      rw [h1, Option.bind_some]
      exact nbad hO.1 (by decide) (by decide)
    · unfold f_X9_form
      rw [h2, Option.bind_some, if_pos (by decide)]
      exact mbad2 (by decide) (by decide)
  · have lN : ∀ (d k q : Nat) (s : Int32) (I1 : II), k + d = 12 → d + 1 ≤ q → (∀ x, x ≠ tl → I1 x = I x) → (∀ j, j < k → I1 tl j = nI (hfo f j)) → (∀ j, k ≤ j → j < 12 → I1 tl j = nI (aR a j)) → ∃ I2, f_X0_form_L16 FU S (nI f) q s (nI k) I1 = some (fct (aR a) f d k s, I2) ∧ (∀ x, x ≠ tl → I2 x = I x) ∧ ∀ j, j < 12 → I2 tl j = nI (hfo f j) := by
      intro d
      induction d with
      | zero =>
        intro k q s I1 hk hq g1 g2 g3
        obtain ⟨q, rfl⟩ := pred1 hq
        obtain rfl : k = 12 := by omega
        refine ⟨I1, ?_, g1, g2⟩
        rw [f_X0_form_L16, if_pos (by decide)]
        rfl
      | succ d ih =>
        intro k q s I1 hk hq g1 g2 g3
        obtain ⟨q, rfl⟩ := pred1 hq
        replace hq := Nat.le_of_succ_le_succ hq
        have hk12 : k < 12 := by omega
        have hr := hA.2.2.2.1 k hk12
        have hf := fo_in f (by omega) k hk12
        have J : ∀ z : Int32, ∃ I2, f_X0_form_J45 FU S (f_X0_form_L16 FU S (nI f) q) (nI f) (nI k) s z I1 = some (fct (aR a) f d (k + 1) (s + z), I2) ∧ (∀ x, x ≠ tl → I2 x = I x) ∧ ∀ j, j < 12 → I2 tl j = nI (hfo f j) := by
          intro z
          unfold f_X0_form_J45
          rw [orf_ok hv, ock_ok w1.r, orf_ok t1, (fo_ok f (by omega) k hk12).2, Option.bind_some, oarw_ok t2, oix_ok (j := k) rfl hk12 (by decide), nI_add]
          refine ih (k + 1) q _ _ (by omega) hq (fun x hx => by rw [up2_n hx]; exact g1 x hx) (fun j hj => ?_) (fun j j1 j2 => by rw [up2_ne (by omega)]; exact g3 j (by omega) j2)
          by_cases e : j = k
          · subst e; exact up2_eq
          · rw [up2_ne e]; exact g2 j (by omega)
        rw [f_X0_form_L16, if_neg (nI_ge hk12 (by omega)), orf_ok hv, ock_ok w1.r, orf_ok t1, oarw_ok t2, oix_ok (j := k) rfl hk12 (by decide), (fo_ok f (by omega) k hk12).2, Option.bind_some, g3 k (by omega) hk12, fct]
        by_cases e : aR a k = hfo f k
        · rw [if_pos (by rw [e]), if_pos e]; exact J _
        · rw [if_neg (by rw [nI_eq (by omega) (by omega)]; exact e), if_neg e]; exact J _
    have lM : ∀ (d k q : Nat) (s : Int32) (I0' I1 : II), k + d = 12 → d + 1 ≤ q → (∀ x, x ≠ 28 → I1 x = I0' x) → (∀ j, ¬ (10 ≤ j ∧ j < 22) → I1 28 j = I0' 28 j) → (∀ j, j < k → I1 28 (10 + j) = nI (hfo f j)) → (∀ j, k ≤ j → j < 12 → I1 28 (10 + j) = nI (aR a j)) → ∃ I2, f_X9_form_L21 FU (nI f) q s (nI k) I1 = some (fct (aR a) f d k s, I2) ∧ (∀ x, x ≠ 28 → I2 x = I0' x) ∧ (∀ j, ¬ (10 ≤ j ∧ j < 22) → I2 28 j = I0' 28 j) ∧ ∀ j, j < 12 → I2 28 (10 + j) = nI (hfo f j) := by
      intro d
      induction d with
      | zero =>
        intro k q s I0' I1 hk hq g1 g0 g2 g3
        obtain ⟨q, rfl⟩ := pred1 hq
        obtain rfl : k = 12 := by omega
        refine ⟨I1, ?_, g1, g0, g2⟩
        rw [f_X9_form_L21, if_pos (by decide)]
        rfl
      | succ d ih =>
        intro k q s I0' I1 hk hq g1 g0 g2 g3
        obtain ⟨q, rfl⟩ := pred1 hq
        replace hq := Nat.le_of_succ_le_succ hq
        have hk12 : k < 12 := by omega
        have hr := hA.2.2.2.1 k hk12
        have hf := fo_in f (by omega) k hk12
        have J : ∀ z : Int32, ∃ I2, f_X9_form_J50 FU (f_X9_form_L21 FU (nI f) q) (nI f) (nI k) s z I1 = some (fct (aR a) f d (k + 1) (s + z), I2) ∧ (∀ x, x ≠ 28 → I2 x = I0' x) ∧ (∀ j, ¬ (10 ≤ j ∧ j < 22) → I2 28 j = I0' 28 j) ∧ ∀ j, j < 12 → I2 28 (10 + j) = nI (hfo f j) := by
          intro z
          unfold f_X9_form_J50
          rw [(fo_ok f (by omega) k hk12).1, Option.bind_some, oix_ok (j := 10 + k) (by rw [nI_add]) (by omega) (by decide), nI_add]
          refine ih (k + 1) q _ I0' _ (by omega) hq (fun x hx => by rw [up2_n hx]; exact g1 x hx) (fun j hj => by rw [up2_ne (by omega)]; exact g0 j hj) (fun j hj => ?_) (fun j j1 j2 => by rw [up2_ne (by omega)]; exact g3 j (by omega) j2)
          by_cases e : j = k
          · subst e; exact up2_eq
          · rw [up2_ne (by omega)]; exact g2 j (by omega)
        rw [f_X9_form_L21, if_neg (nI_ge hk12 (by omega)), oix_ok (j := 10 + k) (by rw [nI_add]) (by omega) (by decide), (fo_ok f (by omega) k hk12).1, Option.bind_some, g3 k (by omega) hk12, fct]
        by_cases e : aR a k = hfo f k
        · rw [if_pos (by rw [e]), if_pos e]; exact J _
        · rw [if_neg (by rw [nI_eq (by omega) (by omega)]; exact e), if_neg e]; exact J _
    obtain ⟨I1, e1, g1, g2⟩ := lN 12 0 FU (nI 0) I rfl (by have := FU5; omega) (fun _ _ => rfl) (fun j hj => by omega) (fun j _ hj => t4 j hj)
    obtain ⟨I2, e2, k1, k2, k3⟩ := lM 12 0 FU (nI 0) I1 I1 rfl (by have := FU5; omega) (fun _ _ => rfl) (fun _ _ => rfl) (fun j hj => by omega) (fun j _ hj => by rw [g1 28 n28.symm]; exact hO.row.2.2.2.1 j hj)
    refine Act.of (arm2 (I1 := I1) (I2 := I2) (by unfold f_X0_form; rw [h1, Option.bind_some, ngood]; exact e1) (by unfold f_X9_form; rw [h2, Option.bind_some, if_neg (by decide)]; exact e2)) (hO.told (R := hfo f) (by omega) (fun q hq => fo_in f (by omega) q hq) t1 t3 (fun x _ x2 x3 => by rw [k1 x x2, g1 x x3]) ?_ ?_ (fun k hk => by rw [k2 k hk, g1 28 n28.symm]) k3 (fun q hq => by rw [k1 tl n28]; exact g2 q hq))
    · rw [k1 27 (by decide), g1 27 (hM.ne t9 (by decide) (by decide)).symm]
    · rw [k1 27 (by decide), g1 27 (hM.ne t9 (by decide) (by decide)).symm]
/-! the first rule -/
theorem tabS {I I' : II} (h : Tab I) (e : ∀ x, ¬ scr x → I' x = I x) : Tab I' := h.of (e _ (by unfold scr; decide)) (e _ (by unfold scr; decide)) (e _ (by unfold scr; decide)) (e _ (by unfold scr; decide))
theorem nscr {x : Nat} (h : ¬ scr x) : x ≠ 1 ∧ x ≠ 11 ∧ x ≠ 13 ∧ x ≠ 14 ∧ x ≠ 15 ∧ x ≠ 16 ∧ x ≠ 37 ∧ x ≠ 38 ∧ x ≠ 39 := by
  unfold scr at h
  omega
/-- both look for the first rule; the reference after the class, which may have found that there is none -/
theorem both_rul {n : Nat} {S : SH} {I : II} {ow : Nat → Nat} {a : AS} {v s : Nat} (hO : InvO n S I ow a v) (hs : s < 256) : ∃ I1, f_X0_isOut FU S (nI s) I = some (bI (rul a s).isNone, I1) ∧ (∀ x, x ≠ 11 → x ≠ 13 → x ≠ 14 → x ≠ 15 → x ≠ 16 → I1 x = I x) ∧ (∀ r, rul a s = some r → ∀ k, k < 12 → I1 16 k = nI (r k) ∧ 1 ≤ r k ∧ r k ≤ 3) ∧ ∀ I', (∀ x, 27 ≤ x → x < 48 → x ≠ 30 → I' x = I x) → ∃ I2, f_X9_fitsSome FU (nI s) I' = some (bI (rul a s).isSome, I2) ∧ (∀ x, x ≠ 37 → x ≠ 38 → x ≠ 39 → I2 x = I' x) ∧ ∀ r, rul a s = some r → ∀ k, k < 12 → I2 39 k = nI (r k) ∧ 1 ≤ r k ∧ r k ≤ 3 := by
  obtain ⟨I1, e1, f1, r1⟩ := isOut_ok hO.vn hs
  refine ⟨I1, e1, f1, r1, fun I' hI' => ?_⟩
  exact fitsSome_ok (by rw [hI' 28 (by decide) (by decide) (by decide)]; exact hO.row) hO.aok (hO.tab.of (hI' _ (by decide) (by decide) (by decide)) (hI' _ (by decide) (by decide) (by decide)) (hI' _ (by decide) (by decide) (by decide)) (hI' _ (by decide) (by decide) (by decide))) hs
/-- what both leave when there is none -/
theorem InvO.bad2 {n : Nat} {S : SH} {I I1 I2 : II} {ow : Nat → Nat} {a : AS} {v e : Nat} (hO : InvO n S I ow a v) (f1 : ∀ x, x ≠ 11 → x ≠ 13 → x ≠ 14 → x ≠ 15 → x ≠ 16 → I1 x = I x) (f2 : ∀ x, x ≠ 37 → x ≠ 38 → x ≠ 39 → I2 x = EN I1 e x) : InvO (n + 1) S (EM I2 e) ow a v := by
  refine hO.err (by omega) (fun x x1 x2 x3 => ?_) ?_ ?_ (fun k hk => ?_)
  · obtain ⟨a1, a2, a3, a4, a5, a6, a7, a8, a9⟩ := nscr x1
    rw [EM_x x3, f2 x a7 a8 a9, EN_x a1 x2, f1 x a2 a3 a4 a5 a6]
  · rw [EM_x (by decide), f2 27 (by decide) (by decide) (by decide), EN_x (by decide) (by decide), f1 27 (by decide) (by decide) (by decide) (by decide) (by decide)]
  · rw [EM_x (by decide), f2 27 (by decide) (by decide) (by decide), EN_x (by decide) (by decide), f1 27 (by decide) (by decide) (by decide) (by decide) (by decide)]
  · rw [EM_x (by decide), EM_30, f2 21 (by decide) (by decide) (by decide), f2 30 (by decide) (by decide) (by decide), EN_21, EN_x (by decide) (by decide), f1 21 (by decide) (by decide) (by decide) (by decide) (by decide), f1 30 (by decide) (by decide) (by decide) (by decide) (by decide)]
    have h6 := hO.2.2.2.2.2.1
    by_cases e1 : k = e
    · subst e1
      rw [if_pos rfl, if_pos rfl, h6 k hk]
    · rw [if_neg e1, if_neg e1, h6 k hk]
theorem InvO.good2 {n : Nat} {S : SH} {I I1 I2 : II} {ow : Nat → Nat} {a : AS} {v : Nat} (hO : InvO n S I ow a v) (f1 : ∀ x, x ≠ 11 → x ≠ 13 → x ≠ 14 → x ≠ 15 → x ≠ 16 → I1 x = I x) (f2 : ∀ x, x ≠ 37 → x ≠ 38 → x ≠ 39 → I2 x = I1 x) : InvO (n + 1) S I2 ow a v := by
  refine hO.sc (by omega) (fun x x1 => ?_) ?_ ?_
  · obtain ⟨a1, a2, a3, a4, a5, a6, a7, a8, a9⟩ := nscr x1
    rw [f2 x a7 a8 a9, f1 x a2 a3 a4 a5 a6]
  · rw [f2 27 (by decide) (by decide) (by decide), f1 27 (by decide) (by decide) (by decide) (by decide) (by decide)]
  · rw [f2 27 (by decide) (by decide) (by decide), f1 27 (by decide) (by decide) (by decide) (by decide) (by decide)]
theorem act_14 {n : Nat} {S : SH} {I : II} {a1 a2 : Int32} (h : Inv n S I) : Act n (f_arm_14 FU a1 a2 S I) := by
  obtain ⟨ow, a, v, hO⟩ := h.op
  unfold f_arm_14
  have bad : ∀ (X : Option (Int32 × II)) (Y : II → Option (Int32 × II)), X = f_X0_find_J20 FU S a1 a2 I → Y (EN I 1) = f_X9_find_J15 FU (EN I 1) → Act n (bd2 X fun r1 I1 => bd2 (Y I1) fun r2 I2 => og (r1 = r2) <| some (S, I2)) := by
    intro X Y hX hY
    refine Act.of (arm2 (r := -1000001) (I1 := EN I 1) ?_ ?_) (hO.bad (e := 1))
    · rw [hX]
      unfold f_X0_find_J20 f_X0_find_J21 f_X0_find_J53
      exact nbad hO.1 (by decide) (by decide)
    · rw [hY]
      unfold f_X9_find_J15
      exact mbad2 (by decide) (by decide)
  rcases set_cases hO a1 with ⟨h1, h2⟩ | ⟨s, -, hs, rfl, h1, h2⟩
  · refine bad _ _ ?_ ?_
    · unfold f_X0_find; rw [h1]; rfl
    · unfold f_X9_find; rw [isSetEN, h2]; rfl
  · rcases hall_cases a2 with ⟨g1, g2⟩ | ⟨j, hj, rfl, g1, g2⟩
    · refine bad _ _ ?_ ?_
      · unfold f_X0_find; rw [h1, g1]; rfl
      · unfold f_X9_find; rw [isSetEN, h2, g2]; rfl
    · obtain ⟨I1, e1, f1, r1, hM⟩ := both_rul hO hs
      cases hr : rul a s with
      | none =>
        rw [hr] at e1
        obtain ⟨I2, e2, f2, -⟩ := hM (EN I1 2) (fun x x1 x2 x3 => by rw [EN_x (by omega) (by omega), f1 x (by omega) (by omega) (by omega) (by omega) (by omega)])
        rw [hr] at e2
        refine Act.of (arm2 (r := -1000002) (I1 := EN I1 2) (I2 := EM I2 2) ?_ ?_) (hO.bad2 f1 f2)
        · unfold f_X0_find f_X0_find_J21
          rw [h1, Option.bind_some, if_neg (by decide), g1, Option.bind_some, if_neg (by decide), ngood, bd2_ok e1, if_neg (by decide)]
          unfold f_X0_find_J39 f_X0_find_J53
          exact nbad hO.1 (by decide) (by decide)
        · unfold f_X9_find
          rw [isSetEN, isSet_congr (f1 28 (by decide) (by decide) (by decide) (by decide) (by decide)), h2, Option.bind_some, if_neg (by decide), g2, Option.bind_some, if_neg (by decide), bd2_ok e2, if_pos (by decide)]
          exact mbad2 (by decide) (by decide)
      | some r =>
        rw [hr] at e1
        obtain ⟨I2, e2, f2, r2⟩ := hM I1 (fun x x1 x2 x3 => by rw [f1 x (by omega) (by omega) (by omega) (by omega) (by omega)])
        rw [hr] at e2
        refine Act.of (arm2 (r := nI (r j)) (I1 := I1) (I2 := I2) ?_ ?_) (hO.good2 f1 f2)
        · unfold f_X0_find f_X0_find_J21
          rw [h1, Option.bind_some, if_neg (by decide), g1, Option.bind_some, if_neg (by decide), ngood, bd2_ok e1, if_pos (show bI (some r).isNone = 0 from rfl)]
          unfold f_X0_find_J39
          rw [ngood, oix_ok (j := j) rfl hj (by decide), (r1 r hr j hj).1]
        · unfold f_X9_find
          rw [isSet_congr (f1 28 (by decide) (by decide) (by decide) (by decide) (by decide)), h2, Option.bind_some, if_neg (by decide), g2, Option.bind_some, if_neg (by decide), bd2_ok e2, if_neg (show ¬ bI (some r).isSome = 0 from (show ¬ bI true = 0 by decide)), oix_ok (j := j) rfl hj (by decide), (r2 r hr j hj).1]
