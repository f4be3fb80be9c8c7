/-! PLAIN SIDE: learning from what waits -/
set_option maxRecDepth 100000
theorem up2_com {I : II} {a b k j : Nat} {v w : Int32} (h : a ≠ b) : up2 (up2 I a k v) b j w = up2 (up2 I b j w) a k v := by
  funext x
  by_cases h1 : x = a
  · subst h1
    funext q
    rw [up2_n h, up2_at, up2_at, up2_n h]
  · by_cases h2 : x = b
    · subst h2
      funext q
      rw [up2_n h1, up2_at, up2_n h1, up2_at]
    · rw [up2_n h2, up2_n h1, up2_n h1, up2_n h2]
theorem EN_28 {I : II} {e k : Nat} {v : Int32} : EN (up2 I 28 k v) e = up2 (EN I e) 28 k v := by
  unfold EN
  rw [up2_n (show (21 : Nat) ≠ 28 by decide), up2_com (show (28 : Nat) ≠ 1 by decide), up2_com (show (28 : Nat) ≠ 21 by decide)]
theorem set_casesV {sh : SH} {I J : II} {ow : Nat → Nat} {a : AS} {v : Nat} (h : VN sh I ow a v) (hR : RowIs (J 28) a) (x : Int32) : (f_X0_isSet sh x I = some (nI 0) ∧ f_X9_isSet x J = some (nI 0)) ∨ ∃ s : Nat, s < 2 ^ aN a ∧ s < 256 ∧ x = nI s ∧ f_X0_isSet sh x I = some (nI 1) ∧ f_X9_isSet x J = some (nI 1) := by
  obtain ⟨hS, hM, hA, hv, v1, -, -, -, -, ⟨al, b1, b2⟩, -⟩ := h
  have h8 := hA.1
  have hp : 2 ^ aN a ≤ 2 ^ 8 := Nat.pow_le_pow_right (by decide) h8
  have hp1 : 1 ≤ 2 ^ aN a := Nat.one_le_two_pow
  have e : (nI 1 <<< (nI (aN a) &&& 31)) - nI 1 = nI (2 ^ aN a - 1) := by
    rw [shl_ok (by omega) (by omega), Nat.one_mul, pk_sub hp1]
  unfold f_X0_isSet f_X9_isSet
  rw [orf_ok hv, ock_ok v1.r, orf_ok b1, ock_ok b2.1.r, lst_size b2, Option.bind_some, oix_ok (j := 0) rfl (by decide) (by decide), hR.1, e]
  rcases in_cases x 0 (2 ^ aN a - 1) (by omega) (by omega) with ⟨h1, h2⟩ | ⟨j, -, h2, rfl, h3, h4⟩
  · left; rw [h1, h2]; exact ⟨rfl, rfl⟩
  · right; refine ⟨j, by omega, by omega, rfl, ?_⟩; rw [h3, h4]; exact ⟨rfl, rfl⟩
def lrn (a : AS) (r : Nat → Nat) : Nat → Nat → Int32
  | 0, _ => nI 0
  | d + 1, k => if 12 ≤ k then nI 1 + nI k else if aV a k = nI (r k) then lrn a r d (k + 1) else nI 1 + nI k
theorem act_36 {n : Nat} {S : SH} {I : II} {a1 : Int32} (h : Inv n S I) : Act n (f_arm_36 FU a1 S I) := by
  obtain ⟨ow, a, v, hO⟩ := h.op
  have hA := hO.aok
  obtain ⟨hS, hM, -, hv, w1, w2, w3, w4, ⟨tl, t1, t2, t3, t4⟩, ⟨al, b1, b2⟩, ⟨tp, c1, c2, c3, c4⟩, wl, y1, y2, y3, y4⟩ := hO.vn
  have v9 : ow v ≠ 9 := by rw [w2]; decide
  have n28 : v ≠ 28 := hM.ne v9 (by decide) (by decide)
  have nk : ∀ x (p : Nat × Nat), S.2.1 x = p → p.1 ≠ 2 → x ≠ v := fun x p hp hq e => hq (by rw [← hp, e]; exact w1.2)
  have ntl := nk tl _ t2.2 (by decide)
  have ntp := nk tp _ c2.2 (by decide)
  have nwl := nk wl _ y2.2 (by decide)
  have m28 : ∀ x, ow x = 1 → x ≠ 28 := fun x hx => hM.ne (by rw [hx]; decide) (by decide) (by decide)
  have R0 := hO.row
  -- the state with nothing that waits
  have hO' : InvO n S (up2 (up2 I v 5 (nI 0)) 28 2 (nI 0)) ow (aN a, aT a, 0, aR a, aK a, aP a, aB a, aX a, aV a) v := by
    refine hO.re (by omega) t1 c1 y1 (fun x x1 x2 x3 x4 x5 x6 x7 x8 => by rw [up2_n x4, up2_n x5]) ?_ ?_ (fun k hk => ?_) ⟨hA.2.1, by omega, hA.2.2.2.1, hA.2.2.2.2.2⟩ (fun k hk => ?_) ?_ up2_eq (fun q hq => ?_) (fun q hq => ?_) (fun q hq => ?_) ?_ ?_ (fun q hq => ?_) (fun q hq => ?_) (fun q hq => ?_)
    · rw [up2_n (by decide), up2_n (hM.ne v9 (by decide) (by decide)).symm]
    · rw [up2_n (by decide), up2_n (hM.ne v9 (by decide) (by decide)).symm]
    · rw [up2_n (show (21 : Nat) ≠ 28 by decide), up2_n (show (30 : Nat) ≠ 28 by decide), up2_n (hM.ne (b := 21) v9 (by decide) (by decide)).symm, up2_n (hM.ne (b := 30) v9 (by decide) (by decide)).symm]
      exact hO.2.2.2.2.2.1 k hk
    · rw [up2_ne (by omega), up2_n n28.symm]
    · rw [up2_ne (by omega), up2_n n28.symm]; exact R0.2.1
    · rw [up2_ne (by omega), up2_n n28.symm]; exact R0.2.2.2.1 q hq
    · rw [up2_ne (by omega), up2_n n28.symm]; exact R0.2.2.2.2.2.1 q hq
    · rw [up2_ne (by omega), up2_n n28.symm]; exact R0.2.2.2.2.2.2 q hq
    · rw [up2_n n28, up2_ne (by decide)]; exact w3
    · rw [up2_n n28, up2_eq]
    · rw [up2_n (m28 _ t3), up2_n ntl]; exact t4 q hq
    · rw [up2_n (m28 _ c3), up2_n ntp]; exact c4 q hq
    · rw [up2_n (m28 _ y3), up2_n nwl]; exact y4 q hq
  have hV' : VN S (up2 I v 5 (nI 0)) ow (aN a, aT a, 0, aR a, aK a, aP a, aB a, aX a, aV a) v := hO'.vn.kept (fun x hx => (up2_n (hM.ne hx (by decide) (by decide))).symm)
  have hN : f_X0_learn FU S a1 I = (f_X0_isSet S a1 (up2 I v 5 (nI 0))).bind fun r19 => bd2 (f_X0_need S r19 (nI 1) (up2 I v 5 (nI 0))) fun u23 I23 => oex u23 (fun _w23 => bd2 (f_X0_isOut FU S a1 I23) fun r29 I29 => if r29 = 0 then f_X0_learn_J40 FU S (nI (aW a)) (nI 1) I29 else f_X0_learn_J40 FU S (nI (aW a)) (nI 0) I29) (fun w23 => ock S w23 1 <| f_X0_learn_J90 FU S w23 I23) := by
    unfold f_X0_learn
    rw [orf_ok hv, ock_ok w1.r, orf_ok hv, ockw_ok w1, w4]
  unfold f_arm_36
  rcases set_casesV hV' hO'.row a1 with ⟨h1, h2⟩ | ⟨s, -, hs, rfl, h1, h2⟩
  · refine Act.of (arm2 (r := -1000001) (I1 := EN (up2 I v 5 (nI 0)) 1) (I2 := EM (EN (up2 (up2 I v 5 (nI 0)) 28 2 (nI 0)) 1) 1) ?_ ?_) (hO'.bad (e := 1))
    · rw [hN, h1, Option.bind_some]
      unfold f_X0_learn_J90
      exact nbad hO.1 (by decide) (by decide)
    · unfold f_X9_learn
      rw [oix_ok (j := 2) rfl (by decide) (by decide), oix_ok (j := 2) rfl (by decide) (by decide), ← EN_28, isSetEN, h2, Option.bind_some, if_pos (by decide)]
      exact mbad2 (by decide) (by decide)
  · obtain ⟨I1, e1, f1, r1⟩ := isOut_ok hV' hs
    have f1' : ∀ x, x ≠ 11 → x ≠ 13 → x ≠ 14 → x ≠ 15 → x ≠ 16 → up2 I1 28 2 (nI 0) x = up2 (up2 I v 5 (nI 0)) 28 2 (nI 0) x := fun x x1 x2 x3 x4 x5 => by
      by_cases e : x = 28
      · subst e
        funext q
        rw [up2_at, up2_at, f1 28 x1 x2 x3 x4 x5]
      · rw [up2_n e, up2_n e, f1 x x1 x2 x3 x4 x5]
    have hR' : RowIs (up2 I1 28 2 (nI 0) 28) (aN a, aT a, 0, aR a, aK a, aP a, aB a, aX a, aV a) := by rw [f1' 28 (by decide) (by decide) (by decide) (by decide) (by decide)]; exact hO'.row
    have hT' : Tab (up2 I1 28 2 (nI 0)) := hO'.tab.of (f1' _ (by decide) (by decide) (by decide) (by decide) (by decide)) (f1' _ (by decide) (by decide) (by decide) (by decide) (by decide)) (f1' _ (by decide) (by decide) (by decide) (by decide) (by decide)) (f1' _ (by decide) (by decide) (by decide) (by decide) (by decide))
    have i28 : f_X9_isSet (nI s) (up2 I1 28 2 (nI 0)) = some (nI 1) := by rw [isSet_congr (f1' 28 (by decide) (by decide) (by decide) (by decide) (by decide))]; exact h2
    cases hr : rul (aN a, aT a, 0, aR a, aK a, aP a, aB a, aX a, aV a) s with
    | none =>
      rw [hr] at e1
      obtain ⟨I2, e2, f2, -⟩ := fitsSome_ok (rowEN (e := 2) hR') hO'.aok (tabEN (e := 2) hT') hs
      rw [hr] at e2
      refine Act.of (arm2 (r := -1000002) (I1 := EN I1 2) (I2 := EM I2 2) ?_ ?_) (hO'.bad2 f1' f2)
      · rw [hN, h1, Option.bind_some, ngood, bd2_ok e1, if_neg (by decide)]
        unfold f_X0_learn_J40 f_X0_learn_J90
        exact nbad hO.1 (by decide) (by decide)
      · unfold f_X9_learn
        rw [oix_ok (j := 2) rfl (by decide) (by decide), oix_ok (j := 2) rfl (by decide) (by decide), ← EN_28, isSetEN, i28, Option.bind_some, if_neg (by decide), bd2_ok e2, if_pos (by decide)]
        exact mbad2 (by decide) (by decide)
    | some r =>
      rw [hr] at e1
      obtain ⟨I2, e2, f2, r2⟩ := fitsSome_ok hR' hO'.aok hT' hs
      rw [hr] at e2
      have hW := hA.2.2.1
      have lN : ∀ (d k q : Nat), k + d = aW a → d + 1 ≤ q → f_X0_learn_L46 FU S (nI (aW a)) q (nI k) I1 = some (lrn a r d k, I1) := by
        intro d
        induction d with
        | zero =>
          intro k q hk hq
          obtain ⟨q, rfl⟩ := pred1 hq
          rw [f_X0_learn_L46, if_pos (nI_le (by omega) (by omega))]
          rfl
        | succ d ih =>
          intro k q hk hq
          obtain ⟨q, rfl⟩ := pred1 hq
          replace hq := Nat.le_of_succ_le_succ hq
          rw [f_X0_learn_L46, if_neg (nI_ge (by omega) (by omega)), lrn]
          by_cases h12 : 12 ≤ k
          · rw [if_pos (nI_le h12 (by omega)), if_pos h12]
          · have ew : I1 wl k = aV a k := by
              rw [f1 wl (hM.ne (by rw [y3]; decide) (by decide) (by decide)) (hM.ne (by rw [y3]; decide) (by decide) (by decide)) (hM.ne (by rw [y3]; decide) (by decide) (by decide)) (hM.ne (by rw [y3]; decide) (by decide) (by decide)) (hM.ne (by rw [y3]; decide) (by decide) (by decide)), up2_n nwl]
              exact y4 k (by omega)
            rw [if_neg (nI_ge (by omega) (by omega)), if_neg h12, orf_ok hv, ock_ok w1.r, orf_ok y1, oarw_ok y2, oix_ok (j := k) rfl (by omega) (by decide), oix_ok (j := k) rfl (by omega) (by decide), ew, (r1 r hr k (by omega)).1, nI_add, ih _ _ (by omega) hq]
            split <;> rfl
      have lM : ∀ (d k q : Nat), k + d = aW a → d + 1 ≤ q → f_X9_learn_L46 FU (nI (aW a)) q (nI k) I2 = some (lrn a r d k, I2) := by
        intro d
        induction d with
        | zero =>
          intro k q hk hq
          obtain ⟨q, rfl⟩ := pred1 hq
          rw [f_X9_learn_L46, if_pos (nI_le (by omega) (by omega))]
          rfl
        | succ d ih =>
          intro k q hk hq
          obtain ⟨q, rfl⟩ := pred1 hq
          replace hq := Nat.le_of_succ_le_succ hq
          rw [f_X9_learn_L46, if_neg (nI_ge (by omega) (by omega)), lrn]
          by_cases h12 : 12 ≤ k
          · rw [if_pos (nI_le h12 (by omega)), if_pos h12]
          · have ew : I2 28 (90 + k) = aV a k := by
              rw [f2 28 (by decide) (by decide) (by decide)]
              exact hR'.2.2.2.2.2.2 k (by omega)
            rw [if_neg (nI_ge (by omega) (by omega)), if_neg h12, oix_ok (j := 90 + k) (by rw [nI_add]) (by omega) (by decide), oix_ok (j := k) rfl (by omega) (by decide), ew, (r2 r hr k (by omega)).1, nI_add, ih _ _ (by omega) hq]
            split <;> rfl
      have e28 : I1 28 2 = nI (aW a) := by
        rw [f1 28 (by decide) (by decide) (by decide) (by decide) (by decide), up2_n n28.symm]
        exact R0.2.2.1
      refine Act.of (arm2 (r := lrn a r (aW a) 0) (I1 := I1) (I2 := I2) ?_ ?_) (hO'.good2 f1' f2)
      · rw [hN, h1, Option.bind_some, ngood, bd2_ok e1, if_pos (show bI (some r).isNone = 0 from rfl)]
        unfold f_X0_learn_J40
        rw [ngood]
        exact lN (aW a) 0 FU (by omega) (by have := FU5; omega)
      · unfold f_X9_learn
        rw [oix_ok (j := 2) rfl (by decide) (by decide), oix_ok (j := 2) rfl (by decide) (by decide), i28, Option.bind_some, if_neg (by decide), bd2_ok e2, if_neg (show ¬ bI (some r).isSome = 0 from (show ¬ bI true = 0 by decide)), e28]
        exact lM (aW a) 0 FU (by omega) (by have := FU5; omega)
