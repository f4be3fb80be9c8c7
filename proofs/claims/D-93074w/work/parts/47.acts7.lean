/-! PLAIN SIDE: writing the first rule, learning, counts -/
set_option maxRecDepth 100000
theorem upr_s {I : II} {a : Nat} {f : Nat → Int32} : upr I a f a = f := if_pos rfl
theorem upr_n {I : II} {a x : Nat} {f : Nat → Int32} (h : x ≠ a) : upr I a f x = I x := if_neg h
/-- how many halls choose both -/
def bct (R : Nat → Nat) : Nat → Nat → Int32 → Int32
  | 0, _, s => s
  | d + 1, k, s => bct R d (k + 1) (if R k = 3 then s + nI 1 else s + nI 0)
theorem boths_ok {S : SH} {I : II} {v tl : Nat} {R : Nat → Nat} (hv : S.2.2 0 1 = some v) (v1 : obw S v 2) (t1 : S.2.2 v 0 = some tl) (t2 : arw S tl 100 12) (hR : ∀ h, h < 12 → I tl h = nI (R h) ∧ R h ≤ 3) : f_X0_boths FU S I = some (bct R 12 0 (nI 0)) := by
  have loop : ∀ (d k q : Nat) (s : Int32), k + d = 12 → d + 1 ≤ q → f_X0_boths_L4 FU S I q s (nI k) = some (bct R d k s) := by
    intro d
    induction d with
    | zero =>
      intro k q s hk hq
      obtain ⟨q, rfl⟩ := pred1 hq
      obtain rfl : k = 12 := by omega
      rw [f_X0_boths_L4, if_pos (by decide)]
      rfl
    | succ d ih =>
      intro k q s hk hq
      obtain ⟨q, rfl⟩ := pred1 hq
      replace hq := Nat.le_of_succ_le_succ hq
      have hk12 : k < 12 := by omega
      obtain ⟨r1, r2⟩ := hR k hk12
      rw [f_X0_boths_L4, if_neg (nI_ge hk12 (by omega)), orf_ok hv, ock_ok v1.r, orf_ok t1, oarw_ok t2, oix_ok (j := k) rfl hk12 (by decide), r1, nI_add, ih _ _ _ (by omega) hq, ih _ _ _ (by omega) hq, bct]
      by_cases e : R k = 3
      · rw [if_pos (by rw [e]), if_pos e]
      · rw [if_neg (by rw [nI_eq (by omega) (by omega)]; exact e), if_neg e]
  unfold f_X0_boths
  exact loop 12 0 FU _ rfl (by have := FU5; omega)
theorem act_15 {n : Nat} {S : SH} {I : II} {a1 : Int32} (h : Inv n S I) : Act n (f_arm_15 FU a1 S I) := by
  obtain ⟨ow, a, v, hO⟩ := h.op
  have hA := hO.aok
  unfold f_arm_15
  rcases set_cases hO a1 with ⟨h1, h2⟩ | ⟨s, -, hs, rfl, h1, h2⟩
  · refine Act.of (arm2 (r := -1000001) (I1 := EN I 1) ?_ ?_) (hO.bad (e := 1))
    · unfold f_X0_write f_X0_write_J54
      rw [h1, Option.bind_some]
      exact nbad hO.1 (by decide) (by decide)
    · unfold f_X9_write
      rw [isSetEN, h2, Option.bind_some, if_pos (by decide)]
      exact mbad2 (by decide) (by decide)
  · obtain ⟨I1, e1, f1, r1, hMr⟩ := both_rul hO hs
    cases hr : rul a s with
    | none =>
      rw [hr] at e1
      obtain ⟨I2, e2, f2, -⟩ := hMr (EN I1 2) (fun x x1 x2 x3 => by rw [EN_x (by omega) (by omega), f1 x (by omega) (by omega) (by omega) (by omega) (by omega)])
      rw [hr] at e2
      refine Act.of (arm2 (r := -1000002) (I1 := EN I1 2) (I2 := EM I2 2) ?_ ?_) (hO.bad2 f1 f2)
      · unfold f_X0_write
        rw [h1, Option.bind_some, ngood, bd2_ok e1, if_neg (by decide)]
        unfold f_X0_write_J24 f_X0_write_J54
        exact nbad hO.1 (by decide) (by decide)
      · unfold f_X9_write
        rw [isSetEN, isSet_congr (f1 28 (by decide) (by decide) (by decide) (by decide) (by decide)), h2, Option.bind_some, if_neg (by decide), bd2_ok e2, if_pos (by decide)]
        exact mbad2 (by decide) (by decide)
    | some r =>
      rw [hr] at e1
      obtain ⟨hS, hM, -, hv, w1, w2, w3, w4, ⟨tl, t1, t2, t3, t4⟩, -⟩ := hO.vn
      have t9 : ow tl ≠ 9 := by rw [t3]; decide
      have n28 : tl ≠ 28 := hM.ne t9 (by decide) (by decide)
      have c0 : Int32.toNatClampNeg (nI 0) = 0 := by decide
      have c12 : Int32.toNatClampNeg (nI 12) = 12 := by decide
      have hr3 := r1 r hr
      have hcp : ∀ q, q < 12 → upr I1 tl (va_cpy (I1 16) (I1 tl) 0 0 12) tl q = nI (r q) := fun q hq => by rw [upr_s, sb_cpy0 hq]; exact (hr3 q hq).1
      obtain ⟨I2, e2, f2, r2⟩ := hMr (upr I1 tl (va_cpy (I1 16) (I1 tl) 0 0 12)) (fun x x1 x2 x3 => by rw [upr_n (hM.ne t9 x2 (by omega)).symm, f1 x (by omega) (by omega) (by omega) (by omega) (by omega)])
      rw [hr] at e2
      have lM : ∀ (d k q : Nat) (z : Int32) (I3 : II), k + d = 12 → d + 1 ≤ q → (∀ x, x ≠ 28 → I3 x = I2 x) → (∀ j, ¬ (10 ≤ j ∧ j < 22) → I3 28 j = I2 28 j) → (∀ j, j < k → I3 28 (10 + j) = nI (r j)) → ∃ I4, f_X9_write_L34 FU q z (nI k) I3 = some (bct r d k z, I4) ∧ (∀ x, x ≠ 28 → I4 x = I2 x) ∧ (∀ j, ¬ (10 ≤ j ∧ j < 22) → I4 28 j = I2 28 j) ∧ ∀ j, j < 12 → I4 28 (10 + j) = nI (r j) := by
        intro d
        induction d with
        | zero =>
          intro k q z I3 hk hq g1 g0 g2
          obtain ⟨q, rfl⟩ := pred1 hq
          obtain rfl : k = 12 := by omega
          refine ⟨I3, ?_, g1, g0, g2⟩
          rw [f_X9_write_L34, if_pos (by decide)]
          rfl
        | succ d ih =>
          intro k q z I3 hk hq g1 g0 g2
          obtain ⟨q, rfl⟩ := pred1 hq
          replace hq := Nat.le_of_succ_le_succ hq
          have hk12 : k < 12 := by omega
          obtain ⟨u1, u2, u3⟩ := r2 r hr k hk12
          rw [f_X9_write_L34, if_neg (nI_ge hk12 (by omega)), oix_ok (j := k) rfl hk12 (by decide), oix_ok (j := 10 + k) (by rw [nI_add]) (by omega) (by decide), oix_ok (j := k) rfl hk12 (by decide), up2_n (show (39 : Nat) ≠ 28 by decide), g1 39 (by decide), u1, nI_add, bct]
          have nx : ∀ y : Int32, ∃ I4, f_X9_write_L34 FU q y (nI (k + 1)) (up2 I3 28 (10 + k) (nI (r k))) = some (bct r d (k + 1) y, I4) ∧ (∀ x, x ≠ 28 → I4 x = I2 x) ∧ (∀ j, ¬ (10 ≤ j ∧ j < 22) → I4 28 j = I2 28 j) ∧ ∀ j, j < 12 → I4 28 (10 + j) = nI (r j) := fun y => ih (k + 1) q y _ (by omega) hq (fun x hx => by rw [up2_n hx]; exact g1 x hx) (fun j hj => by rw [up2_ne (by omega)]; exact g0 j hj) (fun j hj => by
            by_cases e : j = k
            · subst e; exact up2_eq
            · rw [up2_ne (by omega)]; exact g2 j (by omega))
          by_cases e : r k = 3
          · rw [if_pos (by rw [e]), if_pos e]; exact nx _
          · rw [if_neg (by rw [nI_eq (by omega) (by omega)]; exact e), if_neg e]; exact nx _
      obtain ⟨I4, e4, k1, k2, k3⟩ := lM 12 0 FU (nI 0) I2 rfl (by have := FU5; omega) (fun _ _ => rfl) (fun _ _ => rfl) (fun j hj => by omega)
      have hb := boths_ok (I := upr I1 tl (va_cpy (I1 16) (I1 tl) 0 0 12)) hv w1 t1 t2 (fun q hq => ⟨hcp q hq, (hr3 q hq).2.2⟩)
      refine Act.of (arm2 (r := bct r 12 0 (nI 0)) (I1 := upr I1 tl (va_cpy (I1 16) (I1 tl) 0 0 12)) (I2 := I4) ?_ ?_) (hO.told (R := r) (by omega) (fun q hq => (hr3 q hq).2) t1 t3 (fun x x1 x2 x3 => ?_) ?_ ?_ (fun k hk => ?_) k3 (fun q hq => ?_))
      · unfold f_X0_write
        rw [h1, Option.bind_some, ngood, bd2_ok e1, if_pos (show bI (some r).isNone = 0 from rfl)]
        unfold f_X0_write_J24
        rw [ngood, orf_ok hv, ock_ok w1.r, orf_ok t1, oarw_ok t2, og_ok (by decide), c0, c12, hb, Option.bind_some]
      · unfold f_X9_write
        rw [isSet_congr (show upr I1 tl (va_cpy (I1 16) (I1 tl) 0 0 12) 28 = I 28 by rw [upr_n n28.symm, f1 28 (by decide) (by decide) (by decide) (by decide) (by decide)]), h2, Option.bind_some, if_neg (by decide), bd2_ok e2, if_neg (show ¬ bI (some r).isSome = 0 from (show ¬ bI true = 0 by decide))]
        exact e4
      · obtain ⟨b1, b2, b3, b4, b5, b6, b7, b8, b9⟩ := nscr x1
        rw [k1 x x2, f2 x b7 b8 b9, upr_n x3, f1 x b2 b3 b4 b5 b6]
      · rw [k1 27 (by decide), f2 27 (by decide) (by decide) (by decide), upr_n (hM.ne t9 (by decide) (by decide)).symm, f1 27 (by decide) (by decide) (by decide) (by decide) (by decide)]
      · rw [k1 27 (by decide), f2 27 (by decide) (by decide) (by decide), upr_n (hM.ne t9 (by decide) (by decide)).symm, f1 27 (by decide) (by decide) (by decide) (by decide) (by decide)]
      · rw [k2 k hk, f2 28 (by decide) (by decide) (by decide), upr_n n28.symm, f1 28 (by decide) (by decide) (by decide) (by decide) (by decide)]
      · rw [k1 tl n28, f2 tl (hM.ne t9 (by decide) (by decide)) (hM.ne t9 (by decide) (by decide)) (hM.ne t9 (by decide) (by decide))]
        exact hcp q hq
/-- what a set of laws costs -/
def prc (a : AS) (s : Nat) : Nat → Nat → Int32 → Int32
  | 0, _, z => z
  | d + 1, l, z => prc a s d (l + 1) (if s.testBit l = true then z + nI (aP a l) else z + nI 0)
theorem prices_ok {S : SH} {I : II} {ow : Nat → Nat} {a : AS} {v s : Nat} (hV : Vil S I ow 1 a v) (hA : AOK a) (hs : s < 256) : f_X2_prices FU S v (nI s) I = some (prc a s (aN a) 0 (nI 0)) := by
  obtain ⟨w1, w2, w3, w4, -, ⟨al, b1, b2⟩, -⟩ := hV
  have h8 := hA.1
  have loop : ∀ (d l q : Nat) (z : Int32), l + d = aN a → d + 1 ≤ q → f_X2_prices_L4 FU S I v (nI s) q z (nI l) = some (prc a s d l z) := by
    intro d
    induction d with
    | zero =>
      intro l q z hl hq
      obtain ⟨q, rfl⟩ := pred1 hq
      rw [f_X2_prices_L4, ock_ok w1.r, orf_ok b1, ock_ok b2.1.r, lst_size b2, Option.bind_some, if_pos (nI_le (by omega) (by omega))]
      rfl
    | succ d ih =>
      intro l q z hl hq
      obtain ⟨q, rfl⟩ := pred1 hq
      replace hq := Nat.le_of_succ_le_succ hq
      have hll : l < aN a := by omega
      have hk := (hA.2.2.2.2.1 l hll).1
      obtain ⟨dm, g1, g2⟩ := lst_get b2 h8 hll
      rw [f_X2_prices_L4, ock_ok w1.r, orf_ok b1, ock_ok b2.1.r, lst_size b2, Option.bind_some, if_neg (nI_ge hll (by omega)), has_if (by omega) (by omega), orf_ok b1, ock_ok b2.1.r, g1, Option.bind_some, ockD_ok g2.1.r hk, g2.2.2.2.2.1, nI_add, ih _ _ _ (by omega) hq, ih _ _ _ (by omega) hq, prc]
      split <;> rfl
  unfold f_X2_prices
  exact loop (aN a) 0 FU _ (by omega) (by have := FU5; omega)
theorem priceOf_ok {I : II} {a : AS} {s : Nat} (hR : RowIs (I 28) a) (hA : AOK a) (hs : s < 256) : f_X9_priceOf FU (nI s) I = some (prc a s (aN a) 0 (nI 0)) := by
  have h8 := hA.1
  have loop : ∀ (d l q : Nat) (z : Int32), l + d = aN a → d + 1 ≤ q → f_X9_priceOf_L4 FU I (nI s) q z (nI l) = some (prc a s d l z) := by
    intro d
    induction d with
    | zero =>
      intro l q z hl hq
      obtain ⟨q, rfl⟩ := pred1 hq
      rw [f_X9_priceOf_L4, oix_ok (j := 0) rfl (by decide) (by decide), hR.1, if_pos (nI_le (by omega) (by omega))]
      rfl
    | succ d ih =>
      intro l q z hl hq
      obtain ⟨q, rfl⟩ := pred1 hq
      replace hq := Nat.le_of_succ_le_succ hq
      have hll : l < aN a := by omega
      rw [f_X9_priceOf_L4, oix_ok (j := 0) rfl (by decide) (by decide), hR.1, if_neg (nI_ge hll (by omega)), has_ifM (by omega) (by omega), oix_ok (j := 30 + l) (by rw [nI_add]) (by omega) (by decide), (hR.2.2.2.2.1 l hll).2.1, nI_add, ih _ _ _ (by omega) hq, ih _ _ _ (by omega) hq, prc]
      split <;> rfl
  unfold f_X9_priceOf
  exact loop (aN a) 0 FU _ (by omega) (by have := FU5; omega)
theorem act_37 {n : Nat} {S : SH} {I : II} {a1 : Int32} (h : Inv n S I) : Act n (f_arm_37 FU a1 S I) := by
  obtain ⟨ow, a, v, hO⟩ := h.op
  have hA := hO.aok
  have h8 := hA.1
  have hp : 2 ^ aN a ≤ 2 ^ 8 := Nat.pow_le_pow_right (by decide) h8
  have hp1 : 1 ≤ 2 ^ aN a := Nat.one_le_two_pow
  have es : (nI 1 <<< (nI (aN a) &&& 31)) - nI 1 = nI (2 ^ aN a - 1) := by
    rw [shl_ok (by omega) (by omega), Nat.one_mul, pk_sub hp1]
  obtain ⟨hS, hM, -, hv, hV⟩ := hO.vn
  obtain ⟨w1, w2, w3, w4, ⟨tl, t1, t2, t3, t4⟩, ⟨al, b1, b2⟩, -⟩ := id hV
  unfold f_arm_37
  rcases in_cases a1 0 5 (by decide) (by decide) with ⟨h1, h2⟩ | ⟨j, -, j2, rfl, h1, h2⟩
  · refine Act.of (arm2 (r := -1000001) (I1 := EN I 1) ?_ ?_) (hO.bad (e := 1))
    · unfold f_X0_count f_X0_count_J110
      rw [h1, Option.bind_some]
      exact nbad hO.1 (by decide) (by decide)
    · have hne : ∀ k, k ≤ 5 → a1 ≠ nI k := by
        intro k hk e
        rw [e] at h2
        unfold f_X9_within at h2
        rw [if_neg (nI_nlt (by omega) (by omega)), if_neg (nI_nlt (by omega) (by omega))] at h2
        revert h2; decide
      unfold f_X9_count
      rw [if_neg (hne 0 (by decide)), if_neg (hne 1 (by decide)), if_neg (hne 2 (by decide)), if_neg (hne 3 (by decide)), if_neg (hne 4 (by decide)), if_neg (hne 5 (by decide))]
      exact mbad2 (by decide) (by decide)
  · have hj : j = 0 ∨ j = 1 ∨ j = 2 ∨ j = 3 ∨ j = 4 ∨ j = 5 := by omega
    rcases hj with rfl | rfl | rfl | rfl | rfl | rfl
    · refine Act.of (arm2 (r := nI (aN a)) (I1 := I) ?_ ?_) hO.same
      · unfold f_X0_count; rw [h1, Option.bind_some, ngood, if_pos rfl, orf_ok hv, ock_ok w1.r, orf_ok b1, ock_ok b2.1.r, lst_size b2]; rfl
      · unfold f_X9_count; rw [if_pos rfl, oix_ok (j := 0) rfl (by decide) (by decide), hO.row.1]
    · refine Act.of (arm2 (r := prc a (2 ^ aN a - 1) (aN a) 0 (nI 0)) (I1 := I) ?_ ?_) hO.same
      · unfold f_X0_count; rw [h1, Option.bind_some, ngood, if_neg (by decide), if_pos rfl, orf_ok hv, orf_ok hv, ock_ok w1.r, orf_ok b1, ock_ok b2.1.r, lst_size b2, Option.bind_some, ock_ok w1.r, es, prices_ok hV hA (by omega)]; rfl
      · unfold f_X9_count; rw [if_neg (by decide), if_pos rfl, oix_ok (j := 0) rfl (by decide) (by decide), hO.row.1, es, priceOf_ok hO.row hA (by omega)]; rfl
    · refine Act.of (arm2 (r := bct (aR a) 12 0 (nI 0)) (I1 := I) ?_ ?_) hO.same
      · unfold f_X0_count; rw [h1, Option.bind_some, ngood, if_neg (by decide), if_neg (by decide), if_pos rfl, boths_ok hv w1 t1 t2 (fun q hq => ⟨t4 q hq, (hA.2.2.2.1 q hq).2⟩)]; rfl
      · have lM : ∀ (d k q : Nat) (z : Int32), k + d = 12 → d + 1 ≤ q → f_X9_count_L64 FU q z (nI k) I = some (bct (aR a) d k z, I) := by
          intro d
          induction d with
          | zero =>
            intro k q z hk hq
            obtain ⟨q, rfl⟩ := pred1 hq
            obtain rfl : k = 12 := by omega
            rw [f_X9_count_L64, if_pos (by decide)]
            rfl
          | succ d ih =>
            intro k q z hk hq
            obtain ⟨q, rfl⟩ := pred1 hq
            replace hq := Nat.le_of_succ_le_succ hq
            have hk12 : k < 12 := by omega
            have hr := hA.2.2.2.1 k hk12
            rw [f_X9_count_L64, if_neg (nI_ge hk12 (by omega)), oix_ok (j := 10 + k) (by rw [nI_add]) (by omega) (by decide), hO.row.2.2.2.1 k hk12, nI_add, ih _ _ _ (by omega) hq, ih _ _ _ (by omega) hq, bct]
            by_cases e : aR a k = 3
            · rw [if_pos (by rw [e]), if_pos e]
            · rw [if_neg (by rw [nI_eq (by omega) (by omega)]; exact e), if_neg e]
        unfold f_X9_count
        rw [if_neg (by decide), if_neg (by decide), if_pos rfl]
        exact lM 12 0 FU _ rfl (by have := FU5; omega)
    · refine Act.of (arm2 (r := nI (aT a)) (I1 := I) ?_ ?_) hO.same
      · unfold f_X0_count; rw [h1, Option.bind_some, ngood, if_neg (by decide), if_neg (by decide), if_neg (by decide), if_pos rfl, orf_ok hv, ock_ok w1.r, w3]
      · unfold f_X9_count; rw [if_neg (by decide), if_neg (by decide), if_neg (by decide), if_pos rfl, oix_ok (j := 1) rfl (by decide) (by decide), hO.row.2.1]
    · refine Act.of (arm2 (r := nI (aW a)) (I1 := I) ?_ ?_) hO.same
      · unfold f_X0_count; rw [h1, Option.bind_some, ngood, if_neg (by decide), if_neg (by decide), if_neg (by decide), if_neg (by decide), if_pos rfl, orf_ok hv, ock_ok w1.r, w4]
      · unfold f_X9_count; rw [if_neg (by decide), if_neg (by decide), if_neg (by decide), if_neg (by decide), if_pos rfl, oix_ok (j := 2) rfl (by decide) (by decide), hO.row.2.2.1]
    · refine Act.of (arm2 (r := I 27 27) (I1 := I) ?_ ?_) hO.same
      · unfold f_X0_count; rw [h1, Option.bind_some, ngood, if_neg (by decide), if_neg (by decide), if_neg (by decide), if_neg (by decide), if_neg (by decide), hO.2.2.2.2.2.2.1.1]
      · unfold f_X9_count; rw [if_neg (by decide), if_neg (by decide), if_neg (by decide), if_neg (by decide), if_neg (by decide), if_pos rfl]
