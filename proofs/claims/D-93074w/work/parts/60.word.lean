/-! PLAIN SIDE: act 19, a word -/
set_option maxRecDepth 100000
/-- what both leave with a finding, whatever scratch was used -/
theorem InvO.bad3 {n : Nat} {S : SH} {I I1 I2 : II} {ow : Nat → Nat} {a : AS} {v e : Nat} (hO : InvO n S I ow a v) (f1 : ∀ x, ¬ scr x → I1 x = I x) (f1' : I1 27 = I 27) (f2 : ∀ x, ¬ scr x → I2 x = EN I1 e x) (f2' : I2 27 = EN I1 e 27) : InvO (n + 1) S (EM I2 e) ow a v := by
  have s21 : ¬ scr 21 := by unfold scr; decide
  have s30 : ¬ scr 30 := by unfold scr; decide
  refine hO.err (by omega) (fun x x1 x2 x3 => ?_) ?_ ?_ (fun k hk => ?_)
  · rw [EM_x x3, f2 x x1, EN_x (fun e => x1 (Or.inl e)) x2, f1 x x1]
  · rw [EM_x (by decide), f2', EN_x (by decide) (by decide), f1']
  · rw [EM_x (by decide), f2', EN_x (by decide) (by decide), f1']
  · rw [EM_x (by decide), EM_30, f2 21 s21, f2 30 s30, EN_21, EN_x (by decide) (by decide), f1 21 s21, f1 30 s30]
    have h6 := hO.2.2.2.2.2.1
    by_cases e1 : k = e
    · subst e1
      rw [if_pos rfl, if_pos rfl, h6 k hk]
    · rw [if_neg e1, if_neg e1, h6 k hk]
/-- whether a rule keeps the laws of a set -/
def ftR (a : AS) (R : Nat → Nat) (s : Nat) : Nat → Nat → Bool
  | 0, _ => true
  | d + 1, l => if s.testBit l = true then (decide (brk a R l (cN (aK a l)) 0 = -1) && ftR a R s d (l + 1)) else ftR a R s d (l + 1)
theorem fits_ok {S : SH} {I : II} {ow : Nat → Nat} {a : AS} {v s rl : Nat} {R : Nat → Nat} (h : VN S I ow a v) (hs : s < 256) (hR : ∀ h, h < 12 → 1 ≤ R h ∧ R h ≤ 3) (hr : arw S rl 100 12) (hI : ∀ h, h < 12 → I rl h = nI (R h)) : f_X2_fits FU S v (nI s) rl I = some (bI (ftR a R s (aN a) 0)) := by
  obtain ⟨hS, hM, hA, hv, w1, w2, w3, w4, -, ⟨al, b1, b2⟩, -⟩ := h
  have h8 := hA.1
  have loop : ∀ (d l q : Nat) (b : Bool), l + d = aN a → d + 1 ≤ q → f_X2_fits_L5 FU S I v (nI s) rl q (bI b) (nI l) = some (bI (b && ftR a R s d l)) := by
    intro d
    induction d with
    | zero =>
      intro l q b hl hq
      obtain ⟨q, rfl⟩ := pred1 hq
      rw [f_X2_fits_L5, ock_ok w1.r, orf_ok b1, ock_ok b2.1.r, lst_size b2, Option.bind_some, if_pos (nI_le (by omega) (by omega)), og_ok (bI_01 b), ftR, Bool.and_true]
    | succ d ih =>
      intro l q b hl hq
      obtain ⟨q, rfl⟩ := pred1 hq
      replace hq := Nat.le_of_succ_le_succ hq
      have hll : l < aN a := by omega
      have hk := (hA.2.2.2.2.1 l hll).1
      obtain ⟨dm, g1, g2⟩ := lst_get b2 hA.1 hll
      rw [f_X2_fits_L5, ock_ok w1.r, orf_ok b1, ock_ok b2.1.r, lst_size b2, Option.bind_some, if_neg (nI_ge hll (by omega))]
      cases b with
      | false => rw [if_pos (by decide), og_ok (bI_01 _), Bool.false_and]
      | true =>
        rw [if_neg (by decide), has_if (by omega) (by omega), orf_ok b1, ock_ok b2.1.r, g1, Option.bind_some, ockD_ok g2.1.r hk, breachOf_ok g2 hA hll hR hr hI, Option.bind_some, nI_add, Bool.true_and, ftR]
        by_cases hb : s.testBit l = true
        · rw [if_pos hb, if_pos hb]
          by_cases hc : brk a R l (cN (aK a l)) 0 = -1
          · rw [if_pos hc, decide_eq_true hc]
            exact ih (l + 1) q true (by omega) hq
          · rw [if_neg hc, decide_eq_false hc]
            exact ih (l + 1) q false (by omega) hq
        · rw [if_neg hb, if_neg hb]
          exact (ih (l + 1) q true (by omega) hq).trans (by rw [Bool.true_and])
  unfold f_X2_fits
  exact (loop (aN a) 0 FU true (by omega) (by have := FU5; omega)).trans (by rw [Bool.true_and])
theorem broken39_ok {I : II} {a : AS} {l : Nat} {R : Nat → Nat} (hR : RowIs (I 28) a) (hA : AOK a) (hT : Tab I) (hl : l < aN a) (hr : ∀ h, h < 12 → 1 ≤ R h ∧ R h ≤ 3) (hI : ∀ h, h < 12 → I 39 h = nI (R h)) : f_X9_broken_39 FU (nI l) (nI 0) I = some (brk a R l (cN (aK a l)) 0) := by
  have hk := (hA.2.2.2.2.1 l hl).1
  have hcN := (cN_le _ hk).1
  have loop : ∀ (d i n : Nat), i + d = cN (aK a l) → d + 1 ≤ n → f_X9_broken_39_L3 FU I (nI l) (nI 0) n (nI i) = some (brk a R l d i) := by
    intro d
    induction d with
    | zero =>
      intro i n hi hn
      obtain ⟨n, rfl⟩ := pred1 hn
      rw [f_X9_broken_39_L3, casesOf_ok hR hA hT hl, Option.bind_some, if_pos (nI_le (by omega) (by omega))]
      rfl
    | succ d ih =>
      intro i n hi hn
      obtain ⟨n, rfl⟩ := pred1 hn
      replace hn := Nat.le_of_succ_le_succ hn
      have hic : i < cN (aK a l) := by omega
      obtain ⟨c1, c2, c3, c4⟩ := cs_ok _ hk i hic
      obtain ⟨r1, r2⟩ := hr _ c2
      rw [f_X9_broken_39_L3, casesOf_ok hR hA hT hl, Option.bind_some, if_neg (nI_ge hic (by omega)), otherOf_ok hR hA hT hl hic, Option.bind_some, hallOf_ok hR hA hT hl hic, Option.bind_some, oix_ok (j := cH (cF (aK a l) + i)) (by rw [nI_add, Nat.zero_add]) (by omega) (by decide), hI _ c2, brk]
      cases hp : prd (aK a l) with
      | true =>
        obtain ⟨k1, k2, k3⟩ := c3 hp
        obtain ⟨s1, s2⟩ := hr _ k1
        rw [k3, if_pos (nI_pos' (by omega)), oix_ok (j := cK (cF (aK a l) + i)) (by rw [nI_add, Nat.zero_add]) (by omega) (by decide), hI _ k1]
        unfold f_X9_broken_39_J52
        rw [mgoes_ok (d := R (cK (cF (aK a l) + i))) hR hA hl hic r1 r2 (fun _ => ⟨rfl, s1, s2⟩), bind_if, nI_add, ih (i + 1) n (by omega) hn]
        split <;> rfl
      | false =>
        rw [c4 hp, if_neg m1_neg]
        unfold f_X9_broken_39_J52
        rw [mgoes_ok (d := R (cK (cF (aK a l) + i))) hR hA hl hic r1 r2 (fun h => by rw [hp] at h; cases h), bind_if, nI_add, ih (i + 1) n (by omega) hn]
        split <;> rfl
  unfold f_X9_broken_39
  exact loop _ 0 FU (by omega) (by have := FU5; omega)
/-- the first form that keeps the laws of a set -/
def wrd (a : AS) (s : Nat) : Nat → Nat → Option Nat
  | 0, _ => none
  | d + 1, f => if ftR a (hfo f) s (aN a) 0 = true then some f else wrd a s d (f + 1)
theorem act_19 {n : Nat} {S : SH} {I : II} {a1 : Int32} (h : Inv n S I) : Act n (f_arm_19 FU a1 S I) := by
  obtain ⟨ow, a, v, hO⟩ := h.op
  have hA := hO.aok
  have hM := hO.mrk
  have F5 := FU5
  have h8 := hA.1
  unfold f_arm_19
  rcases set_cases hO a1 with ⟨h1, h2⟩ | ⟨s, -, hs, rfl, h1, h2⟩
  · refine Act.of (arm2 (r := -1000001) (I1 := EN I 1) ?_ ?_) (hO.bad (e := 1))
    · unfold f_X0_word f_X0_word_J51
      rw [h1, Option.bind_some]
      exact nbad hO.1 (by decide) (by decide)
    · unfold f_X9_word
      rw [isSetEN, h2, Option.bind_some, if_pos (by decide)]
      exact mbad2 (by decide) (by decide)
  · have fN : ∀ (f : Nat), f < 12 → ∀ (d k q : Nat) (I3 : II), k + d = 12 → d + 1 ≤ q → (∀ x, x ≠ 20 → I3 x = I x) → (∀ h, h < k → I3 20 h = nI (hfo f h)) → ∃ I4, f_X0_fitsForm_L2 FU S (nI s) (nI f) q (nI k) I3 = some (bI (ftR a (hfo f) s (aN a) 0), I4) ∧ ∀ x, x ≠ 20 → I4 x = I x := by
      intro f hf d
      induction d with
      | zero =>
        intro k q I3 hk hq k1 k2
        obtain ⟨q, rfl⟩ := pred1 hq
        obtain rfl : k = 12 := by omega
        have hV : VN S I3 ow a v := hO.vn.kept (fun x hx => k1 x (hM.ne hx (by decide) (by decide)))
        refine ⟨I3, ?_, k1⟩
        rw [f_X0_fitsForm_L2, if_pos (by decide), orf_ok hV.2.2.2.1, ock_ok hV.2.2.2.2.1.r, fits_ok hV hs (fun h hh => fo_in f hf h hh) (stN_a20 hO.1) k2, Option.bind_some, og_ok (bI_01 _)]
      | succ d ih =>
        intro k q I3 hk hq k1 k2
        obtain ⟨q, rfl⟩ := pred1 hq
        replace hq := Nat.le_of_succ_le_succ hq
        have hk12 : k < 12 := by omega
        rw [f_X0_fitsForm_L2, if_neg (nI_ge hk12 (by omega)), (fo_ok f hf k hk12).2, Option.bind_some, oix_ok (j := k) rfl hk12 (by decide), nI_add]
        refine ih (k + 1) q _ (by omega) hq (fun x hx => by rw [up2_n hx]; exact k1 x hx) (fun j hj => ?_)
        by_cases e : j = k
        · subst e; exact up2_eq
        · rw [up2_ne e]; exact k2 j (by omega)
    have lN : ∀ (d f q : Nat) (I3 : II), f + d = 12 → d + 1 ≤ q → (∀ x, x ≠ 20 → I3 x = I x) → ∃ I4, (∀ x, x ≠ 20 → I4 x = I x) ∧ f_X0_word_L12 FU S (nI s) q (nI f) I3 = match wrd a s d f with
        | some z => some (nI z, I4)
        | none => some (-1000002, EN I4 2) := by
      intro d
      induction d with
      | zero =>
        intro f q I3 hf hq k1
        obtain ⟨q, rfl⟩ := pred1 hq
        obtain rfl : f = 12 := by omega
        refine ⟨I3, k1, ?_⟩
        rw [f_X0_word_L12, if_pos (by decide)]
        unfold f_X0_word_J33
        rw [if_pos (by decide)]
        unfold f_X0_word_J45 f_X0_word_J51
        exact nbad hO.1 (by decide) (by decide)
      | succ d ih =>
        intro f q I3 hf hq k1
        obtain ⟨q, rfl⟩ := pred1 hq
        replace hq := Nat.le_of_succ_le_succ hq
        obtain ⟨I4, e4, k4⟩ := fN f (by omega) 12 0 FU I3 (by omega) (by omega) k1 (fun h hh => by omega)
        rw [f_X0_word_L12, if_neg (nI_ge (by omega) (by omega))]
        unfold f_X0_fitsForm
        rw [bd2_ok e4, wrd]
        cases hft : ftR a (hfo f) s (aN a) 0 with
        | true =>
          refine ⟨I4, k4, ?_⟩
          rw [if_neg (by decide), if_pos rfl]
          unfold f_X0_word_J33
          rw [if_neg (nI_ge (by omega) (by omega))]
          unfold f_X0_word_J45
          rw [ngood]
        | false =>
          rw [if_pos (by decide), if_neg (by decide), nI_add]
          exact ih (f + 1) q I4 (by omega) hq k4
    have lB : ∀ (K : Int32 → II → Option (Int32 × II)) (f : Nat) (I3 : II), f < 12 → RowIs (I3 28) a → Tab I3 → (∀ h, h < 12 → I3 39 h = nI (hfo f h)) → ∀ (d l q : Nat) (b : Bool), l + d = aN a → d + 1 ≤ q → f_X9_word_L57 FU K (nI s) (nI f) q (bI b) (nI l) I3 = if (b && ftR a (hfo f) s d l) = true then some (nI f, I3) else K (nI (f + 1)) I3 := by
      intro K f I3 hf hR hT hI d
      induction d with
      | zero =>
        intro l q b hl hq
        obtain ⟨q, rfl⟩ := pred1 hq
        rw [f_X9_word_L57, oix_ok (j := 0) rfl (by decide) (by decide), hR.1, if_pos (nI_le (by omega) (by omega)), nI_add, ftR, Bool.and_true]
        cases b with
        | true => rw [if_neg (by decide), if_pos rfl]
        | false => rw [if_pos (by decide), if_neg (by decide)]
      | succ d ih =>
        intro l q b hl hq
        obtain ⟨q, rfl⟩ := pred1 hq
        replace hq := Nat.le_of_succ_le_succ hq
        have hll : l < aN a := by omega
        have hk := (hA.2.2.2.2.1 l hll).1
        have hcN := (cN_le _ hk).1
        rw [f_X9_word_L57, oix_ok (j := 0) rfl (by decide) (by decide), hR.1, if_neg (nI_ge hll (by omega)), nI_add, nI_add]
        cases b with
        | false => rw [if_pos (by decide), if_pos (by decide), Bool.false_and, if_neg (by decide)]
        | true =>
          rw [if_neg (by decide), has_ifM (by omega) (by omega), broken39_ok hR hA hT hll (fun h hh => fo_in f hf h hh) hI, Option.bind_some, Bool.true_and, ftR]
          by_cases hb : s.testBit l = true
          · rw [if_pos hb, if_pos hb]
            rcases brk_cases (a := a) (R := hfo f) (l := l) (cN (aK a l)) 0 (by omega) with e | ⟨j, hj, e⟩
            · rw [e, if_neg m1_neg, decide_eq_true rfl]
              exact ih (l + 1) q true (by omega) hq
            · rw [e, if_pos (nI_pos' (by omega)), decide_eq_false (nI_m1 (by omega))]
              exact ih (l + 1) q false (by omega) hq
          · rw [if_neg hb, if_neg hb]
            exact (ih (l + 1) q true (by omega) hq).trans (by rw [Bool.true_and])
    have lF : ∀ (K : Int32 → II → Option (Int32 × II)) (f : Nat) (I0 : II), f < 12 → ∀ (d k q : Nat) (I3 : II), k + d = 12 → d + 1 ≤ q → (∀ x, x ≠ 39 → I3 x = I0 x) → (∀ h, h < k → I3 39 h = nI (hfo f h)) → ∃ I4, f_X9_word_L28 FU K (nI s) (nI f) (nI 1) q (nI k) I3 = f_X9_word_L57 FU K (nI s) (nI f) FU (nI 1) (nI 0) I4 ∧ (∀ x, x ≠ 39 → I4 x = I0 x) ∧ ∀ h, h < 12 → I4 39 h = nI (hfo f h) := by
      intro K f I0 hf d
      induction d with
      | zero =>
        intro k q I3 hk hq k1 k2
        obtain ⟨q, rfl⟩ := pred1 hq
        obtain rfl : k = 12 := by omega
        refine ⟨I3, ?_, k1, k2⟩
        rw [f_X9_word_L28, if_pos (by decide)]
      | succ d ih =>
        intro k q I3 hk hq k1 k2
        obtain ⟨q, rfl⟩ := pred1 hq
        replace hq := Nat.le_of_succ_le_succ hq
        have hk12 : k < 12 := by omega
        rw [f_X9_word_L28, if_neg (nI_ge hk12 (by omega)), (fo_ok f hf k hk12).1, Option.bind_some, oix_ok (j := k) rfl hk12 (by decide), nI_add]
        refine ih (k + 1) q _ (by omega) hq (fun x hx => by rw [up2_n hx]; exact k1 x hx) (fun j hj => ?_)
        by_cases e : j = k
        · subst e; exact up2_eq
        · rw [up2_ne e]; exact k2 j (by omega)
    have lM : ∀ (I0 : II), RowIs (I0 28) a → Tab I0 → ∀ (d f q : Nat) (I3 : II), f + d = 12 → d + 1 ≤ q → (∀ x, x ≠ 39 → I3 x = I0 x) → ∃ I4, (∀ x, x ≠ 39 → I4 x = I0 x) ∧ f_X9_word_L17 FU (nI s) q (nI f) I3 = match wrd a s d f with
        | some z => some (nI z, I4)
        | none => some (-1000002, EM I4 2) := by
      intro I0 hR hT d
      induction d with
      | zero =>
        intro f q I3 hf hq k1
        obtain ⟨q, rfl⟩ := pred1 hq
        obtain rfl : f = 12 := by omega
        refine ⟨I3, k1, ?_⟩
        rw [f_X9_word_L17, if_pos (by decide)]
        exact mbad2 (by decide) (by decide)
      | succ d ih =>
        intro f q I3 hf hq k1
        obtain ⟨q, rfl⟩ := pred1 hq
        replace hq := Nat.le_of_succ_le_succ hq
        obtain ⟨I4, e4, k4, r4⟩ := lF (f_X9_word_L17 FU (nI s) q) f I0 (by omega) 12 0 FU I3 (by omega) (by omega) k1 (fun h hh => by omega)
        have hR4 : RowIs (I4 28) a := by rw [k4 28 (by decide)]; exact hR
        have hT4 : Tab I4 := hT.of (k4 _ (by decide)) (k4 _ (by decide)) (k4 _ (by decide)) (k4 _ (by decide))
        have e5 := lB (f_X9_word_L17 FU (nI s) q) f I4 (by omega) hR4 hT4 r4 (aN a) 0 FU true (by omega) (by omega)
        rw [f_X9_word_L17, if_neg (nI_ge (by omega) (by omega)), e4, show nI 1 = bI true from rfl, e5, Bool.true_and, wrd]
        cases hft : ftR a (hfo f) s (aN a) 0 with
        | true => rw [if_pos rfl, if_pos rfl]; exact ⟨I4, k4, rfl⟩
        | false => rw [if_neg (by decide), if_neg (by decide)]; exact ih (f + 1) q I4 (by omega) hq k4
    obtain ⟨I1, k1, e1⟩ := lN 12 0 FU I (by omega) (by omega) (fun _ _ => rfl)
    have sc1 : ∀ x, ¬ scr x → x ≠ 20 ∧ x ≠ 39 := fun x hx => by unfold scr at hx; omega
    cases hw : wrd a s 12 0 with
    | some z =>
      rw [hw] at e1
      obtain ⟨I2, k2, e2⟩ := lM I1 (by rw [k1 28 (by decide)]; exact hO.row) (hO.tab.of (k1 _ (by decide)) (k1 _ (by decide)) (k1 _ (by decide)) (k1 _ (by decide))) 12 0 FU I1 (by omega) (by omega) (fun _ _ => rfl)
      rw [hw] at e2
      refine Act.of (arm2 (r := nI z) (I1 := I1) (I2 := I2) ?_ ?_) (hO.sc (by omega) (fun x hx => by rw [k2 x (sc1 x hx).2, k1 x (sc1 x hx).1]) (by rw [k2 27 (by decide), k1 27 (by decide)]) (by rw [k2 27 (by decide), k1 27 (by decide)]))
      · unfold f_X0_word
        rw [h1, Option.bind_some, ngood]
        exact e1
      · unfold f_X9_word
        rw [isSet_congr (k1 28 (by decide)), h2, Option.bind_some, if_neg (by decide)]
        exact e2
    | none =>
      rw [hw] at e1
      have kk : ∀ x, 28 ≤ x → x < 48 → EN I1 2 x = I x := fun x x1 x2 => by rw [EN_x (by omega) (by omega), k1 x (by omega)]
      obtain ⟨I2, k2, e2⟩ := lM (EN I1 2) (by rw [kk 28 (by decide) (by decide)]; exact hO.row) (hO.tab.of (kk _ (by decide) (by decide)) (kk _ (by decide) (by decide)) (kk _ (by decide) (by decide)) (kk _ (by decide) (by decide))) 12 0 FU (EN I1 2) (by omega) (by omega) (fun _ _ => rfl)
      rw [hw] at e2
      refine Act.of (arm2 (r := -1000002) (I1 := EN I1 2) (I2 := EM I2 2) ?_ ?_) (hO.bad3 (fun x hx => k1 x (sc1 x hx).1) (k1 27 (by decide)) (fun x hx => k2 x (sc1 x hx).2) (k2 27 (by decide)))
      · unfold f_X0_word
        rw [h1, Option.bind_some, ngood]
        exact e1
      · unfold f_X9_word
        rw [isSet_congr (kk 28 (by decide) (by decide)), h2, Option.bind_some, if_neg (by decide)]
        exact e2
