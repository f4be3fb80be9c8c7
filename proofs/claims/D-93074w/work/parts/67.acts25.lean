/-! PLAIN SIDE: what follows, what is spare, what is the same -/
set_option maxRecDepth 100000
theorem nholds_ok {sh : SH} {I1 : II} {ow : Nat → Nat} {a : AS} {s l dm : Nat} (hM : Mrk ow) (hA : AOK a) (hl : l < aN a) (hD : Dem sh I1 ow 1 a l dm) (w13 : ∀ h, h < 12 → I1 13 h = nI (2 * (web a s).2 h)) (w14 : ∀ h k, h < k → k < 12 → I1 14 (12 * h + k) = nI ((web a s).1 (12 * h + k))) : ∃ I2, f_X0_holds FU sh dm I1 = some (bI (keepB a l s), I2) ∧ ∀ x, x ≠ 11 → x ≠ 15 → x ≠ 16 → I2 x = I1 x := by
  obtain ⟨b, I2, e2, g2, b2⟩ := holds_ok (P := (web a s).1) (M := (web a s).2) (by decide) hM hD hA hl (web_ok a s).1 (web_ok a s).2 w13 w14
  have hb : b = keepB a l s := by rw [Bool.eq_iff_iff, b2, keepB_iff]
  exact ⟨I2, by rw [e2, hb], g2⟩
theorem if_bI {b : Bool} {I : II} : (if bI b = 0 then some (nI 0, I) else some (nI 1, I)) = some (bI b, I) := by cases b <;> rfl
theorem act_25 {n : Nat} {S : SH} {I : II} {a1 a2 : Int32} (h : Inv n S I) : Act n (f_arm_25 FU a1 a2 S I) := by
  obtain ⟨ow, a, v, hO⟩ := h.op
  have hA := hO.aok
  have hM := hO.mrk
  unfold f_arm_25
  have bad : ∀ (X : Option (Int32 × II)) (Y : II → Option (Int32 × II)), X = f_X0_follows_J21 FU S a1 a2 I → Y (EN I 1) = f_X9_follows_J16 FU (EN I 1) → Act n (bd2 X fun r1 I1 => bd2 (Y I1) fun r2 I2 => og (r1 = r2) <| some (S, I2)) := by
    intro X Y hX hY
    refine Act.of (arm2 (r := -1000001) (I1 := EN I 1) ?_ ?_) (hO.bad (e := 1))
    · rw [hX]
      unfold f_X0_follows_J21 f_X0_follows_J22 f_X0_follows_J58
      exact nbad hO.1 (by decide) (by decide)
    · rw [hY]
      unfold f_X9_follows_J16
      exact mbad2 (by decide) (by decide)
  rcases set_cases hO a1 with ⟨h1, h2⟩ | ⟨s, -, hs, rfl, h1, h2⟩
  · refine bad _ _ ?_ ?_
    · unfold f_X0_follows; rw [h1]; rfl
    · unfold f_X9_follows; rw [isSetEN, h2]; rfl
  · rcases law_cases hO a2 with ⟨g1, g2⟩ | ⟨l, hl, rfl, g1, g2⟩
    · refine bad _ _ ?_ ?_
      · unfold f_X0_follows; rw [h1, g1]; rfl
      · unfold f_X9_follows; rw [isSetEN, isLawEN, h2, g2]; rfl
    · have hk := (hA.2.2.2.2.1 l hl).1
      obtain ⟨I1, e1, w1⟩ := weave_ok hO.vn hs
      have hV1 := hO.vn.kept (I' := I1) (fun x hx => w1.1 x (hM.ne hx (by decide) (by decide)) (hM.ne hx (by decide) (by decide)))
      obtain ⟨-, -, -, hv, z1, -, -, -, -, ⟨al, b1, b2⟩, -⟩ := hV1
      obtain ⟨dm, ed, hD⟩ := lst_get b2 hA.1 hl
      obtain ⟨I2, e2, w2⟩ := nholds_ok hM hA hl hD w1.2.1 (fun h k h1 h2 => (w1.2.2 h k h1 h2).1)
      have f1 : ∀ x, x ≠ 11 → x ≠ 13 → x ≠ 14 → x ≠ 15 → x ≠ 16 → I2 x = I x := fun x x1 x2 x3 x4 x5 => by rw [w2 x x1 x4 x5, w1.1 x x2 x3]
      have r2 : RowIs (I2 28) a := by rw [f1 28 (by decide) (by decide) (by decide) (by decide) (by decide)]; exact hO.row
      have t2 : Tab I2 := hO.tab.of (f1 _ (by decide) (by decide) (by decide) (by decide) (by decide)) (f1 _ (by decide) (by decide) (by decide) (by decide) (by decide)) (f1 _ (by decide) (by decide) (by decide) (by decide) (by decide)) (f1 _ (by decide) (by decide) (by decide) (by decide) (by decide))
      obtain ⟨I3, e3, w3⟩ := isFol_ok r2 hA t2 hs hl
      refine Act.of (arm2 (r := bI (keepB a l s)) (I1 := I2) (I2 := I3) ?_ ?_) (hO.good2 f1 w3)
      · unfold f_X0_follows f_X0_follows_J22
        rw [h1, Option.bind_some, if_neg (by decide), g1, Option.bind_some, if_neg (by decide), ngood, bind_ok e1, orf_ok hv, ock_ok z1.r, orf_ok b1, ock_ok b2.1.r, ed, Option.bind_some, ockD_ok hD.1.r hk, bd2_ok e2]
        exact if_bI
      · unfold f_X9_follows
        rw [isSet_congr (f1 28 (by decide) (by decide) (by decide) (by decide) (by decide)), h2, Option.bind_some, if_neg (by decide), isLaw_congr (f1 28 (by decide) (by decide) (by decide) (by decide) (by decide)), g2, Option.bind_some, if_neg (by decide), bd2_ok e3]
        exact if_bI
/-! spare -/
noncomputable def spaR (a : AS) (s : Nat) : Nat → Nat → Nat → Nat
  | 0, _, z => z
  | d + 1, l, z => spaR a s d (l + 1) (if s.testBit l = true then (if keepB a l (s ^^^ 2 ^ l) = true then z ||| 2 ^ l else z) else z)
theorem p2_lt {l : Nat} (h : l < 8) : 2 ^ l < 256 := Nat.pow_lt_pow_right (by decide) h
theorem sub_p2 {s l : Nat} (h : l < 8) (hb : s.testBit l = true) : subI s (2 ^ l) = true := by
  rw [subI_iff (p2_lt h)]
  intro k hk
  rw [Nat.testBit_two_pow, decide_eq_true_iff] at hk
  rw [← hk]; exact hb
theorem shl1 {l : Nat} (h : l < 8) : nI 1 <<< (nI l &&& 31) = nI (2 ^ l) := by
  have := p2_lt h
  rw [shl_ok (by omega) (by omega), Nat.one_mul]
theorem act_26 {n : Nat} {S : SH} {I : II} {a1 : Int32} (h : Inv n S I) : Act n (f_arm_26 FU a1 S I) := by
  obtain ⟨ow, a, v, hO⟩ := h.op
  have hA := hO.aok
  have hM := hO.mrk
  have h8 := hA.1
  have F5 := FU5
  unfold f_arm_26
  rcases set_cases hO a1 with ⟨h1, h2⟩ | ⟨s, -, hs, rfl, h1, h2⟩
  · refine Act.of (arm2 (r := -1000001) (I1 := EN I 1) ?_ ?_) (hO.bad (e := 1))
    · unfold f_X0_spare f_X0_spare_J84
      rw [h1, Option.bind_some]
      exact nbad hO.1 (by decide) (by decide)
    · unfold f_X9_spare
      rw [isSetEN, h2, Option.bind_some, if_pos (by decide)]
      exact mbad2 (by decide) (by decide)
  · have lN : ∀ (d l q z : Nat) (I3 : II), l + d = aN a → d + 1 ≤ q → (∀ x, x ≠ 11 → x ≠ 13 → x ≠ 14 → x ≠ 15 → x ≠ 16 → I3 x = I x) → ∃ I4, f_X0_spare_L14 FU S (nI s) q (nI z) (nI l) I3 = some (nI (spaR a s d l z), I4) ∧ ∀ x, x ≠ 11 → x ≠ 13 → x ≠ 14 → x ≠ 15 → x ≠ 16 → I4 x = I x := by
      intro d
      induction d with
      | zero =>
        intro l q z I3 hl hq k1
        obtain ⟨q, rfl⟩ := pred1 hq
        have hV3 := hO.vn.kept (I' := I3) (fun x hx => k1 x (hM.ne hx (by decide) (by decide)) (hM.ne hx (by decide) (by decide)) (hM.ne hx (by decide) (by decide)) (hM.ne hx (by decide) (by decide)) (hM.ne hx (by decide) (by decide)))
        obtain ⟨-, -, -, hv, z1, -, -, -, -, ⟨al, b1, b2⟩, -⟩ := hV3
        refine ⟨I3, ?_, k1⟩
        rw [f_X0_spare_L14, orf_ok hv, ock_ok z1.r, orf_ok b1, ock_ok b2.1.r, lst_size b2, Option.bind_some, if_pos (nI_le (by omega) (by omega))]
        rfl
      | succ d ih =>
        intro l q z I3 hl hq k1
        obtain ⟨q, rfl⟩ := pred1 hq
        replace hq := Nat.le_of_succ_le_succ hq
        have hll : l < aN a := by omega
        have hk := (hA.2.2.2.2.1 l hll).1
        have hV3 := hO.vn.kept (I' := I3) (fun x hx => k1 x (hM.ne hx (by decide) (by decide)) (hM.ne hx (by decide) (by decide)) (hM.ne hx (by decide) (by decide)) (hM.ne hx (by decide) (by decide)) (hM.ne hx (by decide) (by decide)))
        have hV3' := hV3
        obtain ⟨-, -, -, hv, z1, -, -, -, -, ⟨al, b1, b2⟩, -⟩ := hV3
        rw [f_X0_spare_L14, orf_ok hv, ock_ok z1.r, orf_ok b1, ock_ok b2.1.r, lst_size b2, Option.bind_some, if_neg (nI_ge hll (by omega)), has_if (by omega) (by omega), nI_add, spaR]
        by_cases hb : s.testBit l = true
        · rw [if_pos hb, if_pos hb]
          have hs2 : s ^^^ 2 ^ l < 256 := xor_lt hs (p2_lt (by omega))
          rw [shl1 (by omega), (sub_xor (p2_lt (by omega)) (sub_p2 (by omega) hb)).1]
          obtain ⟨I1, e1, w1⟩ := weave_ok hV3' hs2
          have hV1 := hV3'.kept (I' := I1) (fun x hx => w1.1 x (hM.ne hx (by decide) (by decide)) (hM.ne hx (by decide) (by decide)))
          obtain ⟨-, -, -, hv, z1, -, -, -, -, ⟨al, b1, b2⟩, -⟩ := hV1
          obtain ⟨dm, ed, hD⟩ := lst_get b2 h8 hll
          obtain ⟨I2, e2, w2⟩ := nholds_ok hM hA hll hD w1.2.1 (fun h k h1 h2 => (w1.2.2 h k h1 h2).1)
          have k2 : ∀ x, x ≠ 11 → x ≠ 13 → x ≠ 14 → x ≠ 15 → x ≠ 16 → I2 x = I x := fun x x1 x2 x3 x4 x5 => by rw [w2 x x1 x4 x5, w1.1 x x2 x3, k1 x x1 x2 x3 x4 x5]
          rw [bind_ok e1, orf_ok hv, ock_ok z1.r, orf_ok b1, ock_ok b2.1.r, ed, Option.bind_some, ockD_ok hD.1.r hk, bd2_ok e2, nx_or9, nx_or9, Nat.or_zero]
          cases hkb : keepB a l (s ^^^ 2 ^ l) with
          | true =>
            rw [if_neg (show ¬ bI true = 0 by decide), if_pos rfl]
            exact ih (l + 1) q _ I2 (by omega) hq k2
          | false =>
            rw [if_pos (show bI false = 0 from rfl), if_neg (by decide)]
            exact ih (l + 1) q _ I2 (by omega) hq k2
        · rw [if_neg hb, if_neg hb]
          exact ih (l + 1) q z I3 (by omega) hq k1
    obtain ⟨I1, e1, f1⟩ := lN (aN a) 0 FU 0 I (by omega) (by omega) (fun _ _ _ _ _ _ => rfl)
    have lM : ∀ (d l q z : Nat) (I3 : II), l + d = aN a → d + 1 ≤ q → (∀ x, x ≠ 37 → x ≠ 38 → x ≠ 39 → I3 x = I1 x) → ∃ I4, f_X9_spare_L19 FU (nI s) q (nI z) (nI l) I3 = some (nI (spaR a s d l z), I4) ∧ ∀ x, x ≠ 37 → x ≠ 38 → x ≠ 39 → I4 x = I1 x := by
      intro d
      induction d with
      | zero =>
        intro l q z I3 hl hq k1
        obtain ⟨q, rfl⟩ := pred1 hq
        refine ⟨I3, ?_, k1⟩
        have e28 : I3 28 = I 28 := by rw [k1 28 (by decide) (by decide) (by decide), f1 28 (by decide) (by decide) (by decide) (by decide) (by decide)]
        rw [f_X9_spare_L19, oix_ok (j := 0) rfl (by decide) (by decide), e28, hO.row.1, if_pos (nI_le (by omega) (by omega))]
        rfl
      | succ d ih =>
        intro l q z I3 hl hq k1
        obtain ⟨q, rfl⟩ := pred1 hq
        replace hq := Nat.le_of_succ_le_succ hq
        have hll : l < aN a := by omega
        have g : ∀ x, x ≠ 11 → x ≠ 13 → x ≠ 14 → x ≠ 15 → x ≠ 16 → x ≠ 37 → x ≠ 38 → x ≠ 39 → I3 x = I x := fun x x1 x2 x3 x4 x5 x6 x7 x8 => by rw [k1 x x6 x7 x8, f1 x x1 x2 x3 x4 x5]
        have e28 : I3 28 = I 28 := g 28 (by decide) (by decide) (by decide) (by decide) (by decide) (by decide) (by decide) (by decide)
        have r3 : RowIs (I3 28) a := by rw [e28]; exact hO.row
        have t3 : Tab I3 := hO.tab.of (g _ (by decide) (by decide) (by decide) (by decide) (by decide) (by decide) (by decide) (by decide)) (g _ (by decide) (by decide) (by decide) (by decide) (by decide) (by decide) (by decide) (by decide)) (g _ (by decide) (by decide) (by decide) (by decide) (by decide) (by decide) (by decide) (by decide)) (g _ (by decide) (by decide) (by decide) (by decide) (by decide) (by decide) (by decide) (by decide))
        rw [f_X9_spare_L19, oix_ok (j := 0) rfl (by decide) (by decide), e28, hO.row.1, if_neg (nI_ge hll (by omega)), has_ifM (by omega) (by omega), nI_add, spaR]
        by_cases hb : s.testBit l = true
        · rw [if_pos hb, if_pos hb]
          have hs2 : s ^^^ 2 ^ l < 256 := xor_lt hs (p2_lt (by omega))
          rw [shl1 (by omega), (sub_xor (p2_lt (by omega)) (sub_p2 (by omega) hb)).2]
          obtain ⟨I4, e4, w4⟩ := isFol_ok r3 hA t3 hs2 hll
          have k4 : ∀ x, x ≠ 37 → x ≠ 38 → x ≠ 39 → I4 x = I1 x := fun x x1 x2 x3 => by rw [w4 x x1 x2 x3, k1 x x1 x2 x3]
          rw [bd2_ok e4, nx_or9, nx_or9, Nat.or_zero]
          cases hkb : keepB a l (s ^^^ 2 ^ l) with
          | true =>
            rw [if_neg (show ¬ bI true = 0 by decide), if_pos rfl]
            exact ih (l + 1) q _ I4 (by omega) hq k4
          | false =>
            rw [if_pos (show bI false = 0 from rfl), if_neg (by decide)]
            exact ih (l + 1) q _ I4 (by omega) hq k4
        · rw [if_neg hb, if_neg hb, nx_or9, Nat.or_zero]
          exact ih (l + 1) q z I3 (by omega) hq k1
    obtain ⟨I2, e2, f2⟩ := lM (aN a) 0 FU 0 I1 (by omega) (by omega) (fun _ _ _ _ => rfl)
    refine Act.of (arm2 (r := nI (spaR a s (aN a) 0 0)) (I1 := I1) (I2 := I2) ?_ ?_) (hO.good2 f1 f2)
    · unfold f_X0_spare
      rw [h1, Option.bind_some, ngood]
      exact e1
    · unfold f_X9_spare
      rw [isSet_congr (f1 28 (by decide) (by decide) (by decide) (by decide) (by decide)), h2, Option.bind_some, if_neg (by decide)]
      exact e2
/-! the same -/
noncomputable def und (a : AS) (s x : Nat) : Nat → Nat → Bool
  | 0, _ => true
  | d + 1, l => (!x.testBit l || keepB a l s) && und a s x d (l + 1)
theorem isUnder_ok {S : SH} {I : II} {ow : Nat → Nat} {a : AS} {v s x : Nat} (hV : VN S I ow a v) (hs : s < 256) (hx : x < 256) : ∃ I2, f_X0_isUnder FU S (nI x) (nI s) I = some (bI (und a s x (aN a) 0), I2) ∧ ∀ y, y ≠ 11 → y ≠ 13 → y ≠ 14 → y ≠ 15 → y ≠ 16 → I2 y = I y := by
  have hA := hV.2.2.1
  have hM := hV.2.1
  have h8 := hA.1
  have F5 := FU5
  obtain ⟨I1, e1, w1⟩ := weave_ok hV hs
  have hV1 := hV.kept (I' := I1) (fun x hx => w1.1 x (hM.ne hx (by decide) (by decide)) (hM.ne hx (by decide) (by decide)))
  have loop : ∀ (d l q : Nat) (I3 : II), l + d = aN a → d + 2 ≤ q → (∀ y, y ≠ 11 → y ≠ 15 → y ≠ 16 → I3 y = I1 y) → ∃ I4, f_X0_isUnder_L10 FU S (nI x) (nI s) q (nI 1) (nI l) I3 = some (bI (und a s x d l), I4) ∧ ∀ y, y ≠ 11 → y ≠ 15 → y ≠ 16 → I4 y = I1 y := by
    intro d
    induction d with
    | zero =>
      intro l q I3 hl hq k1
      obtain ⟨q, rfl⟩ := pred1 (k := 1) (n := q) (by omega)
      have hV3 := hV1.kept (I' := I3) (fun x hx => k1 x (hM.ne hx (by decide) (by decide)) (hM.ne hx (by decide) (by decide)) (hM.ne hx (by decide) (by decide)))
      obtain ⟨-, -, -, hv, z1, -, -, -, -, ⟨al, b1, b2⟩, -⟩ := hV3
      refine ⟨I3, ?_, k1⟩
      rw [f_X0_isUnder_L10, orf_ok hv, ock_ok z1.r, orf_ok b1, ock_ok b2.1.r, lst_size b2, Option.bind_some, if_pos (nI_le (by omega) (by omega)), og_ok (Or.inr (by decide))]
      rfl
    | succ d ih =>
      intro l q I3 hl hq k1
      obtain ⟨q, rfl⟩ := pred1 (k := 1) (n := q) (by omega)
      have hll : l < aN a := by omega
      have hk := (hA.2.2.2.2.1 l hll).1
      have hV3 := hV1.kept (I' := I3) (fun x hx => k1 x (hM.ne hx (by decide) (by decide)) (hM.ne hx (by decide) (by decide)) (hM.ne hx (by decide) (by decide)))
      obtain ⟨-, -, -, hv, z1, -, -, -, -, ⟨al, b1, b2⟩, -⟩ := hV3
      rw [f_X0_isUnder_L10, orf_ok hv, ock_ok z1.r, orf_ok b1, ock_ok b2.1.r, lst_size b2, Option.bind_some, if_neg (nI_ge hll (by omega)), if_neg (by decide), has_if (by omega) (by omega), has_if (by omega) (by omega), nI_add, und]
      by_cases hbx : x.testBit l = true
      · rw [if_pos hbx]
        by_cases hbs : s.testBit l = true
        · rw [if_pos hbs, keep_own hA hll hbs, Bool.or_true, Bool.true_and]
          exact ih (l + 1) q I3 (by omega) (by omega) k1
        · rw [if_neg hbs]
          obtain ⟨dm, ed, hD⟩ := lst_get b2 h8 hll
          obtain ⟨I2, e2, w2⟩ := nholds_ok (s := s) hM hA hll hD (fun h hh => by rw [k1 13 (by decide) (by decide) (by decide)]; exact w1.2.1 h hh) (fun h k h1 h2 => by rw [k1 14 (by decide) (by decide) (by decide)]; exact (w1.2.2 h k h1 h2).1)
          have k2 : ∀ y, y ≠ 11 → y ≠ 15 → y ≠ 16 → I2 y = I1 y := fun y y1 y2 y3 => by rw [w2 y y1 y2 y3, k1 y y1 y2 y3]
          rw [orf_ok hv, ock_ok z1.r, orf_ok b1, ock_ok b2.1.r, ed, Option.bind_some, ockD_ok hD.1.r hk, bd2_ok e2, hbx]
          cases hkb : keepB a l s with
          | true =>
            rw [if_neg (show ¬ bI true = 0 by decide), Bool.or_true, Bool.true_and]
            exact ih (l + 1) q I2 (by omega) (by omega) k2
          | false =>
            rw [if_pos (show bI false = 0 from rfl)]
            obtain ⟨q, rfl⟩ := pred1 (k := 0) (n := q) (by omega)
            have hV2 := hV1.kept (I' := I2) (fun x hx => k2 x (hM.ne hx (by decide) (by decide)) (hM.ne hx (by decide) (by decide)) (hM.ne hx (by decide) (by decide)))
            obtain ⟨-, -, -, hv, z1, -, -, -, -, ⟨al, b1, b2⟩, -⟩ := hV2
            refine ⟨I2, ?_, k2⟩
            rw [f_X0_isUnder_L10, orf_ok hv, ock_ok z1.r, orf_ok b1, ock_ok b2.1.r, lst_size b2, Option.bind_some, if_pos (show nI 0 = 0 from rfl), ite_self, og_ok (Or.inl (by decide))]
            rfl
      · rw [if_neg hbx]
        have hbx' : x.testBit l = false := by simpa using hbx
        rw [hbx', Bool.not_false, Bool.true_or, Bool.true_and]
        exact ih (l + 1) q I3 (by omega) (by omega) k1
  obtain ⟨I2, e2, g2⟩ := loop (aN a) 0 FU I1 (by omega) (by omega) (fun _ _ _ _ => rfl)
  refine ⟨I2, ?_, fun y y1 y2 y3 y4 y5 => by rw [g2 y y1 y4 y5, w1.1 y y2 y3]⟩
  unfold f_X0_isUnder
  rw [bind_ok e1]
  exact e2
theorem allFollow_ok {I : II} {a : AS} {s x : Nat} (hR : RowIs (I 28) a) (hA : AOK a) (hT : Tab I) (hs : s < 256) (hx : x < 256) : ∃ I2, f_X9_allFollow FU (nI s) (nI x) I = some (bI (und a s x (aN a) 0), I2) ∧ ∀ y, y ≠ 37 → y ≠ 38 → y ≠ 39 → I2 y = I y := by
  have h8 := hA.1
  have F5 := FU5
  have loop : ∀ (d l q : Nat) (I3 : II), l + d = aN a → d + 2 ≤ q → (∀ y, y ≠ 37 → y ≠ 38 → y ≠ 39 → I3 y = I y) → ∃ I4, f_X9_allFollow_L5 FU (nI s) (nI x) q (nI 1) (nI l) I3 = some (bI (und a s x d l), I4) ∧ ∀ y, y ≠ 37 → y ≠ 38 → y ≠ 39 → I4 y = I y := by
    intro d
    induction d with
    | zero =>
      intro l q I3 hl hq k1
      obtain ⟨q, rfl⟩ := pred1 (k := 1) (n := q) (by omega)
      refine ⟨I3, ?_, k1⟩
      rw [f_X9_allFollow_L5, oix_ok (j := 0) rfl (by decide) (by decide), k1 28 (by decide) (by decide) (by decide), hR.1, if_pos (nI_le (by omega) (by omega)), og_ok (Or.inr (by decide))]
      rfl
    | succ d ih =>
      intro l q I3 hl hq k1
      obtain ⟨q, rfl⟩ := pred1 (k := 1) (n := q) (by omega)
      have hll : l < aN a := by omega
      have r3 : RowIs (I3 28) a := by rw [k1 28 (by decide) (by decide) (by decide)]; exact hR
      have t3 : Tab I3 := hT.of (k1 _ (by decide) (by decide) (by decide)) (k1 _ (by decide) (by decide) (by decide)) (k1 _ (by decide) (by decide) (by decide)) (k1 _ (by decide) (by decide) (by decide))
      rw [f_X9_allFollow_L5, oix_ok (j := 0) rfl (by decide) (by decide), r3.1, if_neg (nI_ge hll (by omega)), if_neg (by decide), has_ifM (by omega) (by omega), nI_add, und]
      by_cases hbx : x.testBit l = true
      · rw [if_pos hbx]
        obtain ⟨I2, e2, w2⟩ := isFol_ok r3 hA t3 hs hll
        have k2 : ∀ y, y ≠ 37 → y ≠ 38 → y ≠ 39 → I2 y = I y := fun y y1 y2 y3 => by rw [w2 y y1 y2 y3, k1 y y1 y2 y3]
        rw [bd2_ok e2, hbx]
        cases hkb : keepB a l s with
        | true =>
          rw [if_neg (show ¬ bI true = 0 by decide), Bool.or_true, Bool.true_and]
          exact ih (l + 1) q I2 (by omega) (by omega) k2
        | false =>
          rw [if_pos (show bI false = 0 from rfl)]
          obtain ⟨q, rfl⟩ := pred1 (k := 0) (n := q) (by omega)
          refine ⟨I2, ?_, k2⟩
          rw [f_X9_allFollow_L5, oix_ok (j := 0) rfl (by decide) (by decide), if_pos (show nI 0 = 0 from rfl), ite_self, og_ok (Or.inl (by decide))]
          rfl
      · rw [if_neg hbx]
        have hbx' : x.testBit l = false := by simpa using hbx
        rw [hbx', Bool.not_false, Bool.true_or, Bool.true_and]
        exact ih (l + 1) q I3 (by omega) (by omega) k1
  exact loop (aN a) 0 FU I (by omega) (by omega) (fun _ _ _ _ => rfl)
theorem act_27 {n : Nat} {S : SH} {I : II} {a1 a2 : Int32} (h : Inv n S I) : Act n (f_arm_27 FU a1 a2 S I) := by
  obtain ⟨ow, a, v, hO⟩ := h.op
  have hA := hO.aok
  have hM := hO.mrk
  unfold f_arm_27
  have bad : ∀ (X : Option (Int32 × II)) (Y : II → Option (Int32 × II)), X = f_X0_same_J21 FU S a1 a2 I → Y (EN I 1) = f_X9_same_J16 FU (EN I 1) → Act n (bd2 X fun r1 I1 => bd2 (Y I1) fun r2 I2 => og (r1 = r2) <| some (S, I2)) := by
    intro X Y hX hY
    refine Act.of (arm2 (r := -1000001) (I1 := EN I 1) ?_ ?_) (hO.bad (e := 1))
    · rw [hX]
      unfold f_X0_same_J21 f_X0_same_J22 f_X0_same_J50
      exact nbad hO.1 (by decide) (by decide)
    · rw [hY]
      unfold f_X9_same_J16
      exact mbad2 (by decide) (by decide)
  rcases set_cases hO a1 with ⟨h1, h2⟩ | ⟨s, -, hs, rfl, h1, h2⟩
  · refine bad _ _ ?_ ?_
    · unfold f_X0_same; rw [h1]; rfl
    · unfold f_X9_same; rw [isSetEN, h2]; rfl
  · rcases set_cases hO a2 with ⟨g1, g2⟩ | ⟨x, -, hx, rfl, g1, g2⟩
    · refine bad _ _ ?_ ?_
      · unfold f_X0_same; rw [h1, g1]; rfl
      · unfold f_X9_same; rw [isSetEN, isSetEN, h2, g2]; rfl
    · -- the class
      obtain ⟨I1, e1, f1⟩ := isUnder_ok (s := x) (x := s) hO.vn hx hs
      have hV1 := hO.vn.kept (I' := I1) (fun x hx => f1 x (hM.ne hx (by decide) (by decide)) (hM.ne hx (by decide) (by decide)) (hM.ne hx (by decide) (by decide)) (hM.ne hx (by decide) (by decide)) (hM.ne hx (by decide) (by decide)))
      obtain ⟨I2, e2, f2⟩ := isUnder_ok (s := s) (x := x) hV1 hs hx
      have hN : ∃ I3, f_X0_same FU S (nI s) (nI x) I = some (bI (und a x s (aN a) 0 && und a s x (aN a) 0), I3) ∧ ∀ y, y ≠ 11 → y ≠ 13 → y ≠ 14 → y ≠ 15 → y ≠ 16 → I3 y = I y := by
        unfold f_X0_same f_X0_same_J22
        rw [h1, Option.bind_some, if_neg (by decide), g1, Option.bind_some, if_neg (by decide), ngood, bd2_ok e1, bd2_ok e2]
        cases und a x s (aN a) 0 with
        | false => exact ⟨I1, by rw [if_pos (show bI false = 0 from rfl)]; rfl, f1⟩
        | true => exact ⟨I2, by rw [if_neg (show ¬ bI true = 0 by decide), if_bI, Bool.true_and], fun y y1 y2 y3 y4 y5 => by rw [f2 y y1 y2 y3 y4 y5, f1 y y1 y2 y3 y4 y5]⟩
      obtain ⟨I3, e3, f3⟩ := hN
      have r3 : RowIs (I3 28) a := by rw [f3 28 (by decide) (by decide) (by decide) (by decide) (by decide)]; exact hO.row
      have t3 : Tab I3 := hO.tab.of (f3 _ (by decide) (by decide) (by decide) (by decide) (by decide)) (f3 _ (by decide) (by decide) (by decide) (by decide) (by decide)) (f3 _ (by decide) (by decide) (by decide) (by decide) (by decide)) (f3 _ (by decide) (by decide) (by decide) (by decide) (by decide))
      obtain ⟨I4, e4, f4⟩ := allFollow_ok (s := s) (x := x) r3 hA t3 hs hx
      have r4 : RowIs (I4 28) a := by rw [f4 28 (by decide) (by decide) (by decide)]; exact r3
      have t4 : Tab I4 := t3.of (f4 _ (by decide) (by decide) (by decide)) (f4 _ (by decide) (by decide) (by decide)) (f4 _ (by decide) (by decide) (by decide)) (f4 _ (by decide) (by decide) (by decide))
      obtain ⟨I5, e5, f5⟩ := allFollow_ok (s := x) (x := s) r4 hA t4 hx hs
      have hMo : ∃ I6, f_X9_same FU (nI s) (nI x) I3 = some (bI (und a x s (aN a) 0 && und a s x (aN a) 0), I6) ∧ ∀ y, y ≠ 37 → y ≠ 38 → y ≠ 39 → I6 y = I3 y := by
        unfold f_X9_same
        rw [isSet_congr (f3 28 (by decide) (by decide) (by decide) (by decide) (by decide)), isSet_congr (f3 28 (by decide) (by decide) (by decide) (by decide) (by decide)), h2, Option.bind_some, if_neg (by decide), g2, Option.bind_some, if_neg (by decide), bd2_ok e4, bd2_ok e5]
        cases und a s x (aN a) 0 with
        | false => exact ⟨I4, by rw [if_pos (show bI false = 0 from rfl), Bool.and_false]; rfl, f4⟩
        | true => exact ⟨I5, by rw [if_neg (show ¬ bI true = 0 by decide), if_bI, Bool.and_true], fun y y1 y2 y3 => by rw [f5 y y1 y2 y3, f4 y y1 y2 y3]⟩
      obtain ⟨I6, e6, f6⟩ := hMo
      exact Act.of (arm2 (I1 := I3) (I2 := I6) e3 e6) (hO.good2 f3 f6)
