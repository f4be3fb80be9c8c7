/-! PLAIN SIDE: the village changed but its laws; halls, forms, telling -/
set_option maxRecDepth 100000
theorem Vil.re {sh : SH} {I I' : II} {ow : Nat → Nat} {t : Nat} {a : AS} {v tl tp wl : Nat} (h : Vil sh I ow t a v) (ha : AOK a) (h0 : sh.2.2 v 0 = some tl) (h2 : sh.2.2 v 2 = some tp) (h4 : sh.2.2 v 4 = some wl) (e : ∀ x, (ow x = t ∨ ow x = 0) → x ≠ v → x ≠ tl → x ≠ tp → x ≠ wl → I' x = I x) {T W : Nat} {R B : Nat → Nat} {V' : Nat → Int32} (f3 : I' v 3 = nI T) (f5 : I' v 5 = nI W) (ft : ∀ h, h < 12 → I' tl h = nI (R h)) (fb : ∀ k, k < 50 → I' tp k = Int8.toInt32 (Int32.toInt8 (nI (B k)))) (fw : ∀ k, k < 20 → I' wl k = V' k) : Vil sh I' ow t (aN a, T, W, R, aK a, aP a, B, aX a, V') v := by
  obtain ⟨v1, v2, v3, v4, ⟨tl', t1, t2, t3, t4⟩, ⟨al, b1, b2⟩, ⟨tp', c1, c2, c3, c4⟩, wl', d1, d2, d3, d4⟩ := h
  have e1 : tl' = tl := by rw [h0] at t1; exact (Option.some.inj t1).symm
  have e2 : tp' = tp := by rw [h2] at c1; exact (Option.some.inj c1).symm
  have e3 : wl' = wl := by rw [h4] at d1; exact (Option.some.inj d1).symm
  subst e1 e2 e3
  have key : ∀ x, (ow x = t ∨ ow x = 0) → (sh.2.1 x).1 ≠ 2 → sh.2.1 x ≠ (100, 12) → sh.2.1 x ≠ (101, 50) → sh.2.1 x ≠ (100, 20) → I' x = I x := fun x hx q1 q2 q3 q4 => e x hx (fun e => q1 (by rw [e]; exact v1.2)) (fun e => q2 (by rw [e]; exact t2.2)) (fun e => q3 (by rw [e]; exact c2.2)) (fun e => q4 (by rw [e]; exact d2.2))
  have kc : ∀ x c, (ow x = t ∨ ow x = 0) → (sh.2.1 x).1 = c → c < 100 → c ≠ 2 → I' x = I x := by
    intro x c hx hc c1 c2
    refine key x hx (by rw [hc]; exact c2) ?_ ?_ ?_ <;> (intro q; rw [q] at hc; simp at hc; omega)
  have k36 : ∀ x, (ow x = t ∨ ow x = 0) → sh.2.1 x = (100, 36) → I' x = I x := fun x hx hc => key x hx (by rw [hc]; decide) (by rw [hc]; decide) (by rw [hc]; decide) (by rw [hc]; decide)
  refine ⟨v1, v2, f3, f5, ⟨tl', t1, t2, t3, ft⟩, ⟨al, b1, ?_⟩, ⟨tp', c1, c2, c3, fb⟩, wl', d1, d2, d3, fw⟩
  obtain ⟨l1, l2, l3, ea, l4, l5, l6⟩ := b2
  refine ⟨l1, l2, by rw [kc al 3 (Or.inl l2) l1.2 (by decide) (by decide)]; exact l3, ea, l4, l5, fun l hl => ?_⟩
  obtain ⟨d, w1, x1, x2, x3, x4, x5, cl, x6, y1, y2, y3, ff, ss, gg, y4, y5, y6, y7, y8, y9, o1, o2, o3, y10⟩ := l6 l hl
  have hk6 := (ha.2.2.2.2.1 l hl).1
  have ed := kc d _ (Or.inl x2) x1.2 (by omega) (by omega)
  refine ⟨d, w1, x1, x2, x3, by rw [ed]; exact x4, by rw [ed]; exact x5, cl, x6, y1, y2, by rw [kc cl 23 (Or.inr y2) y1.2 (by decide) (by decide)]; exact y3, ff, ss, gg, y4, y5, y6, y7, y8, y9, o1, o2, o3, fun i hi => ?_⟩
  rw [k36 ff (Or.inr o1) y7.2, k36 ss (Or.inr o2) y8.2, k36 gg (Or.inr o3) y9.2]
  exact y10 i hi
theorem InvO.re {n n' : Nat} {sh : SH} {I I' : II} {ow : Nat → Nat} {a : AS} {v tl tp wl : Nat} (h : InvO n sh I ow a v) (hn : n ≤ n') (h0 : sh.2.2 v 0 = some tl) (h2 : sh.2.2 v 2 = some tp) (h4 : sh.2.2 v 4 = some wl) (e : ∀ x, ¬ scr x → x ≠ 21 → x ≠ 30 → x ≠ 28 → x ≠ v → x ≠ tl → x ≠ tp → x ≠ wl → I' x = I x) (e2 : I' 27 2 = I 27 2) (e3 : I' 27 27 = I 27 27) (he : ∀ k, k < 6 → I' 21 k = I' 30 k) {T W : Nat} {R B : Nat → Nat} {V' : Nat → Int32} (hA : T ≤ 50 ∧ W ≤ 20 ∧ (∀ h, h < 12 → 1 ≤ R h ∧ R h ≤ 3) ∧ ∀ k, k < 50 → B k < 256) (e28 : ∀ k, (k = 0 ∨ (22 ≤ k ∧ k < 40) ∨ 110 ≤ k) → I' 28 k = I 28 k) (r1 : I' 28 1 = nI T) (r2 : I' 28 2 = nI W) (r3 : ∀ h, h < 12 → I' 28 (10 + h) = nI (R h)) (r4 : ∀ k, k < 50 → I' 28 (40 + k) = nI (B k)) (r5 : ∀ k, k < 20 → I' 28 (90 + k) = V' k) (f3 : I' v 3 = nI T) (f5 : I' v 5 = nI W) (ft : ∀ h, h < 12 → I' tl h = nI (R h)) (fb : ∀ k, k < 50 → I' tp k = Int8.toInt32 (Int32.toInt8 (nI (B k)))) (fw : ∀ k, k < 20 → I' wl k = V' k) : InvO n' sh I' ow (aN a, T, W, R, aK a, aP a, B, aX a, V') v := by
  have hM := h.mrk
  obtain ⟨v1, v2, v3, v4, ⟨tl', t1, t2, t3, t4⟩, ⟨al, b1, b2⟩, ⟨tp', c1, c2, c3, c4⟩, wl', d1, d2, d3, d4⟩ := h.2.2.2.2.2.2.2.2.2.2.2.1
  have e1 : tl' = tl := by rw [h0] at t1; exact (Option.some.inj t1).symm
  have e2' : tp' = tp := by rw [h2] at c1; exact (Option.some.inj c1).symm
  have e3' : wl' = wl := by rw [h4] at d1; exact (Option.some.inj d1).symm
  subst e1 e2' e3'
  have n1 : ∀ x, ow x ≠ 1 → x ≠ v ∧ x ≠ tl' ∧ x ≠ tp' ∧ x ≠ wl' := fun x hx => ⟨fun e => hx (by rw [e]; exact v2), fun e => hx (by rw [e]; exact t3), fun e => hx (by rw [e]; exact c3), fun e => hx (by rw [e]; exact d3)⟩
  have lo : ∀ x, x < 48 → ¬ (2 ≤ x ∧ x ≤ 6) → ow x ≠ 1 := fun x a1 a2 => by rw [hM.1 x a1 a2]; decide
  have ky : ∀ x, ¬ scr x → x < 48 → ¬ (2 ≤ x ∧ x ≤ 6) → x ≠ 28 → x ≠ 21 → x ≠ 30 → I' x = I x := fun x a1 a2 a3 a4 a5 a6 => e x a1 a5 a6 a4 (n1 x (lo x a2 a3)).1 (n1 x (lo x a2 a3)).2.1 (n1 x (lo x a2 a3)).2.2.1 (n1 x (lo x a2 a3)).2.2.2
  refine h.gen hn (fun x a1 b1 b2 _ _ _ a2 a3 => e x a1 b1 b2 a2 (n1 x a3).1 (n1 x a3).2.1 (n1 x a3).2.2.1 (n1 x a3).2.2.2) e2 he ?_ ?_ ?_ ?_
  · rw [ky 7 (by unfold scr; decide) (by decide) (by decide) (by decide) (by decide) (by decide), ky 8 (by unfold scr; decide) (by decide) (by decide) (by decide) (by decide) (by decide), ky 43 (by unfold scr; decide) (by decide) (by decide) (by decide) (by decide) (by decide), e3]
    exact h.2.2.2.2.2.2.1
  · obtain ⟨g1, g2, g3, g4, g5, g6⟩ := h.aok
    exact ⟨g1, hA.1, hA.2.1, hA.2.2.1, g5, hA.2.2.2⟩
  · obtain ⟨g1, g2, g3, g4, g5, g6, g7⟩ := h.row
    refine ⟨by rw [e28 0 (by omega)]; exact g1, r1, r2, r3, fun l hl => ?_, r4, r5⟩
    obtain ⟨q1, q2, q3⟩ := g5 l hl
    have h8 := h.aok.1
    have hl : l < aN a := hl
    exact ⟨by rw [e28 _ (by omega)]; exact q1, by rw [e28 _ (by omega)]; exact q2, fun i hi => by rw [e28 _ (by omega)]; exact q3 i hi⟩
  · refine h.2.2.2.2.2.2.2.2.2.2.2.1.re h.aok t1 c1 d1 (fun x hx x1 x2 x3 x4 => ?_) f3 f5 ft fb fw
    have hx9 : ow x ≠ 9 := by rcases hx with hx | hx <;> rw [hx] <;> decide
    refine e x (fun hs => ?_) (hM.ne hx9 (by decide) (by decide)) (hM.ne hx9 (by decide) (by decide)) (hM.ne hx9 (by decide) (by decide)) x1 x2 x3 x4
    unfold scr at hs
    exact hM.ne hx9 (b := x) (by omega) (by omega) rfl
theorem act_0 {n : Nat} {S : SH} {I : II} {a1 a2 : Int32} (h : Inv n S I) : Act n (f_arm_0 FU a1 a2 S I) := by
  obtain ⟨ow, a, v, hO⟩ := h.op
  unfold f_arm_0
  have bad : ∀ (X : Option (Int32 × II)) (Y : II → Option (Int32 × II)), X = f_X0_hall_J32 FU S a1 a2 I → Y (EN I 1) = f_X9_hall_J27 FU (EN I 1) → Act n (bd2 X fun r1 I1 => bd2 (Y I1) fun r2 I2 => og (r1 = r2) <| some (S, I2)) := by
    intro X Y hX hY
    refine Act.of (arm2 (r := -1000001) (I1 := EN I 1) ?_ ?_) (hO.bad (e := 1))
    · rw [hX]
      unfold f_X0_hall_J32 f_X0_hall_J33 f_X0_hall_J72
      exact nbad hO.1 (by decide) (by decide)
    · rw [hY]
      unfold f_X9_hall_J27
      exact mbad2 (by decide) (by decide)
  rcases hall_cases a1 with ⟨h1, h2⟩ | ⟨j, j1, rfl, h1, h2⟩
  · refine bad _ _ ?_ ?_
    · unfold f_X0_hall; rw [h1]; rfl
    · unfold f_X9_hall; rw [h2]; rfl
  · rcases in_cases a2 0 2 (by decide) (by decide) with ⟨g1, g2⟩ | ⟨p, p1, p2, rfl, g1, g2⟩
    · rcases in_cases a2 10 12 (by decide) (by decide) with ⟨k1, k2⟩ | ⟨p, p1, p2, rfl, k1, k2⟩
      · refine bad _ _ ?_ ?_
        · unfold f_X0_hall; rw [h1, g1, k1]; rfl
        · unfold f_X9_hall; rw [h2, g2, k2]; rfl
      · refine Act.of (arm2 (r := nI (hwn j (p - 10))) (I1 := I) ?_ ?_) hO.same
        · unfold f_X0_hall f_X0_hall_J28 f_X0_hall_J33
          rw [h1, Option.bind_some, if_neg (by decide), g1, Option.bind_some, if_pos (by decide), k1, Option.bind_some, if_neg (by decide), ngood, if_neg (nI_ne0 (by omega) (by omega)), if_pos (nI_le (by omega) (by omega)), pk_sub p1, (wn_ok j j1 (p - 10) (by omega)).2]
          rfl
        · unfold f_X9_hall f_X9_hall_J34
          rw [h2, Option.bind_some, if_neg (by decide), g2, Option.bind_some, if_pos (by decide), k2, Option.bind_some, if_neg (by decide), if_neg (nI_ne0 (by omega) (by omega)), if_pos (nI_le (by omega) (by omega)), pk_sub p1, (wn_ok j j1 (p - 10) (by omega)).1]
          rfl
    · by_cases hp : p = 0
      · subst hp
        refine Act.of (arm2 (r := nI (hsz j)) (I1 := I) ?_ ?_) hO.same
        · unfold f_X0_hall f_X0_hall_J28 f_X0_hall_J33
          rw [h1, Option.bind_some, if_neg (by decide), g1, Option.bind_some, if_neg (by decide), ngood, if_pos (by decide), (sz_ok j j1).2]
          rfl
        · unfold f_X9_hall f_X9_hall_J34
          rw [h2, Option.bind_some, if_neg (by decide), g2, Option.bind_some, if_neg (by decide), if_pos (by decide), (sz_ok j j1).1]
          rfl
      · refine Act.of (arm2 (r := nI (hwg j (p - 1))) (I1 := I) ?_ ?_) hO.same
        · unfold f_X0_hall f_X0_hall_J28 f_X0_hall_J33
          rw [h1, Option.bind_some, if_neg (by decide), g1, Option.bind_some, if_neg (by decide), ngood, if_neg (nI_ne0 (by omega) (by omega)), if_neg (nI_ge (by omega) (by omega)), pk_sub (by omega), (wg_ok j j1 (p - 1) (by omega)).2]
          rfl
        · unfold f_X9_hall f_X9_hall_J34
          rw [h2, Option.bind_some, if_neg (by decide), g2, Option.bind_some, if_neg (by decide), if_neg (nI_ne0 (by omega) (by omega)), if_neg (nI_ge (by omega) (by omega)), pk_sub (by omega), (wg_ok j j1 (p - 1) (by omega)).1]
          rfl
theorem act_1 {n : Nat} {S : SH} {I : II} {a1 a2 : Int32} (h : Inv n S I) : Act n (f_arm_1 FU a1 a2 S I) := by
  obtain ⟨ow, a, v, hO⟩ := h.op
  unfold f_arm_1
  have bad : ∀ (X : Option (Int32 × II)) (Y : II → Option (Int32 × II)), X = f_X0_moved_J21 S a1 a2 I → Y (EN I 1) = f_X9_moved_J16 (EN I 1) → Act n (bd2 X fun r1 I1 => bd2 (Y I1) fun r2 I2 => og (r1 = r2) <| some (S, I2)) := by
    intro X Y hX hY
    refine Act.of (arm2 (r := -1000001) (I1 := EN I 1) ?_ ?_) (hO.bad (e := 1))
    · rw [hX]
      unfold f_X0_moved_J21 f_X0_moved_J22 f_X0_moved_J52
      exact nbad hO.1 (by decide) (by decide)
    · rw [hY]
      unfold f_X9_moved_J16
      exact mbad2 (by decide) (by decide)
  rcases hall_cases a1 with ⟨h1, h2⟩ | ⟨j, j1, rfl, h1, h2⟩
  · refine bad _ _ ?_ ?_
    · unfold f_X0_moved; rw [h1]; rfl
    · unfold f_X9_moved; rw [h2]; rfl
  · rcases in_cases a2 0 2 (by decide) (by decide) with ⟨g1, g2⟩ | ⟨p, p1, p2, rfl, g1, g2⟩
    · refine bad _ _ ?_ ?_
      · unfold f_X0_moved; rw [h1, g1]; rfl
      · unfold f_X9_moved; rw [h2, g2]; rfl
    · have hz : hsz j ≤ 3 := by unfold hsz; split <;> omega
      by_cases hp : hsz j ≤ p
      · refine Act.of (arm2 (r := -1000002) (I1 := EN I 2) ?_ ?_) (hO.bad (e := 2))
        · unfold f_X0_moved f_X0_moved_J22
          rw [h1, Option.bind_some, if_neg (by decide), g1, Option.bind_some, if_neg (by decide), ngood, (sz_ok j j1).2, Option.bind_some, if_pos (nI_le hp (by omega))]
          unfold f_X0_moved_J40 f_X0_moved_J52
          exact nbad hO.1 (by decide) (by decide)
        · unfold f_X9_moved
          rw [h2, Option.bind_some, if_neg (by decide), g2, Option.bind_some, if_neg (by decide), (sz_ok j j1).1, Option.bind_some, if_neg (nI_nlt hp (by omega))]
          exact mbad2 (by decide) (by decide)
      · have hp8 : 2 ^ p < 8 := by
          have h3 : p = 0 ∨ p = 1 ∨ p = 2 := by omega
          rcases h3 with rfl | rfl | rfl <;> decide
        have e1 : nI 1 <<< (nI p &&& 31) = nI (2 ^ p) := by rw [shl_ok (by omega) (by omega), Nat.one_mul]
        refine Act.of (arm2 (r := nI (htn j (2 ^ p))) (I1 := I) ?_ ?_) hO.same
        · unfold f_X0_moved f_X0_moved_J22
          rw [h1, Option.bind_some, if_neg (by decide), g1, Option.bind_some, if_neg (by decide), ngood, (sz_ok j j1).2, Option.bind_some, if_neg (nI_ge (by omega) (by omega))]
          unfold f_X0_moved_J40
          rw [ngood, e1, (tn_ok j j1 _ hp8).2]
          rfl
        · unfold f_X9_moved
          rw [h2, Option.bind_some, if_neg (by decide), g2, Option.bind_some, if_neg (by decide), (sz_ok j j1).1, Option.bind_some, if_pos (nI_lt (by omega) (by omega)), e1, (tn_ok j j1 _ hp8).1]
          rfl
theorem act_29 {n : Nat} {S : SH} {I : II} {a1 : Int32} (h : Inv n S I) : Act n (f_arm_29 FU a1 S I) := by
  obtain ⟨ow, a, v, hO⟩ := h.op
  obtain ⟨q1, m, q2, q3, q4⟩ := hO.2.2.2.2.2.2.1
  unfold f_arm_29
  rcases sub_cases a1 m (by omega) with ⟨h1, h2⟩ | ⟨j, j1, rfl, h1, h2⟩
  · refine Act.of (arm2 (r := -1000002) (I1 := EN I 2) ?_ ?_) (hO.bad (e := 2))
    · unfold f_X0_trace f_X0_trace_J29
      rw [q1, q3, h1, Option.bind_some]
      exact nbad hO.1 (by decide) (by decide)
    · unfold f_X9_trace
      rw [EN_x (by decide) (by decide), q3, h2, Option.bind_some, if_pos (by decide)]
      exact mbad2 (by decide) (by decide)
  · refine Act.of (arm2 (r := I 8 j) (I1 := I) ?_ ?_) hO.same
    · unfold f_X0_trace
      rw [q1, q3, h1, Option.bind_some, ngood, oix_ok (j := j) rfl (by omega) (by decide)]
    · unfold f_X9_trace
      rw [q3, h2, Option.bind_some, if_neg (by decide), oix_ok (j := j) rfl (by omega) (by decide), q4 j j1]
