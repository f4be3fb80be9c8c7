/-! PLAIN SIDE: images, what is restored -/
set_option maxRecDepth 100000
theorem RowIs.cp {A B : Nat → Int32} {a : AS} (h : RowIs A a) (hA : AOK a) (e : ∀ k, k < 366 → B k = A k) : RowIs B a := by
  obtain ⟨h1, h2, h3, h4, h5, h6, h7⟩ := h
  have h8 := hA.1
  refine ⟨by rw [e 0 (by omega)]; exact h1, by rw [e 1 (by omega)]; exact h2, by rw [e 2 (by omega)]; exact h3, fun q hq => by rw [e _ (by omega)]; exact h4 q hq, fun l hl => ⟨by rw [e _ (by omega)]; exact (h5 l hl).1, by rw [e _ (by omega)]; exact (h5 l hl).2.1, fun i hi => ?_⟩, fun k hk => by rw [e _ (by omega)]; exact h6 k hk, fun k hk => by rw [e _ (by omega)]; exact h7 k hk⟩
  have hcN := (cN_le _ (hA.2.2.2.2.1 l hl).1).1
  rw [e _ (by omega)]
  exact (h5 l hl).2.2 i hi
theorem mimage_ok {I : II} : ∃ I', f_X9_image FU I = some (I 27 2 + nI 1, I') ∧ (∀ x, x ≠ 29 → x ≠ 27 → I' x = I x) ∧ (∀ k, k ≠ 2 → I' 27 k = I 27 k) ∧ I' 27 2 = I 27 2 + nI 1 ∧ ∀ k, k < 366 → I' 29 k = I 28 k := by
  have F5 := FU5
  have loop : ∀ (d k q : Nat) (I1 : II), k + d = 366 → d + 1 ≤ q → (∀ x, x ≠ 29 → I1 x = I x) → (∀ j, j < k → I1 29 j = I 28 j) → ∃ I', f_X9_image_L2 FU q (nI k) I1 = some (I 27 2 + nI 1, I') ∧ (∀ x, x ≠ 29 → x ≠ 27 → I' x = I x) ∧ (∀ k, k ≠ 2 → I' 27 k = I 27 k) ∧ I' 27 2 = I 27 2 + nI 1 ∧ ∀ k, k < 366 → I' 29 k = I 28 k := by
    intro d
    induction d with
    | zero =>
      intro k q I1 hk hq g1 g2
      obtain ⟨q, rfl⟩ := pred1 hq
      obtain rfl : k = 366 := by omega
      refine ⟨up2 I1 27 2 (I 27 2 + nI 1), ?_, fun x x1 x2 => by rw [up2_n x2]; exact g1 x x1, fun j hj => by rw [up2_ne hj, g1 27 (by decide)], up2_eq, fun j hj => by rw [up2_n (by decide)]; exact g2 j hj⟩
      rw [f_X9_image_L2, if_pos (by decide), g1 27 (by decide), up2_eq]
    | succ d ih =>
      intro k q I1 hk hq g1 g2
      obtain ⟨q, rfl⟩ := pred1 hq
      replace hq := Nat.le_of_succ_le_succ hq
      rw [f_X9_image_L2, if_neg (nI_ge (by omega) (by omega)), oix_ok (j := k) rfl (by omega) (by decide), oix_ok (j := k) rfl (by omega) (by decide), nI_add]
      refine ih (k + 1) q _ (by omega) hq (fun x x1 => by rw [up2_n x1]; exact g1 x x1) (fun j hj => ?_)
      by_cases e : j = k
      · subst e; rw [up2_eq, g1 28 (by decide)]
      · rw [up2_ne e]; exact g2 j (by omega)
  exact loop 366 0 FU I rfl (by omega) (fun _ _ => rfl) (fun j hj => by omega)
theorem mrestore_ok {I : II} : ∃ I', f_X9_restore_L16 FU FU (nI 0) I = some (I 29 0, I') ∧ (∀ x, x ≠ 28 → I' x = I x) ∧ ∀ k, k < 366 → I' 28 k = I 29 k := by
  have F5 := FU5
  have loop : ∀ (d k q : Nat) (I1 : II), k + d = 366 → d + 1 ≤ q → (∀ x, x ≠ 28 → I1 x = I x) → (∀ j, j < k → I1 28 j = I 29 j) → ∃ I', f_X9_restore_L16 FU q (nI k) I1 = some (I 29 0, I') ∧ (∀ x, x ≠ 28 → I' x = I x) ∧ ∀ k, k < 366 → I' 28 k = I 29 k := by
    intro d
    induction d with
    | zero =>
      intro k q I1 hk hq g1 g2
      obtain ⟨q, rfl⟩ := pred1 hq
      obtain rfl : k = 366 := by omega
      refine ⟨I1, ?_, g1, g2⟩
      rw [f_X9_restore_L16, if_pos (by decide), oix_ok (j := 0) rfl (by decide) (by decide), g2 0 (by omega)]
    | succ d ih =>
      intro k q I1 hk hq g1 g2
      obtain ⟨q, rfl⟩ := pred1 hq
      replace hq := Nat.le_of_succ_le_succ hq
      rw [f_X9_restore_L16, if_neg (nI_ge (by omega) (by omega)), oix_ok (j := k) rfl (by omega) (by decide), oix_ok (j := k) rfl (by omega) (by decide), nI_add]
      refine ih (k + 1) q _ (by omega) hq (fun x x1 => by rw [up2_n x1]; exact g1 x x1) (fun j hj => ?_)
      by_cases e : j = k
      · subst e; rw [up2_eq, g1 29 (by decide)]
      · rw [up2_ne e]; exact g2 j (by omega)
  exact loop 366 0 FU I rfl (by omega) (fun _ _ => rfl) (fun j hj => by omega)
theorem InvO.out {n : Nat} {sh : SH} {I : II} {ow : Nat → Nat} {a : AS} {v : Nat} (h : InvO n sh I ow a v) : Out sh I := h.2.2.2.1
theorem act_33 {n : Nat} {S : SH} {I : II} (h : Inv n S I) (hn : n < 64) : Act n (f_arm_33 FU S I) := by
  obtain ⟨ow, a, v, hO⟩ := h.op
  have hA := hO.aok
  have hM := hO.mrk
  have hS := hO.1
  have hsz := hO.sz
  have h48 := hO.h48
  have xA : exA = 1000000000 := rfl
  obtain ⟨h1, h2, h3, h4, h5, h6, h7, -, -, hR, hv, hV, hSh, im, i1, i2, i3, i4⟩ := id hO
  obtain ⟨S5, I5, ec, ⟨c1, c2⟩, c3, c4⟩ := copy_ok hA h4 (by omega) hV
  -- the new image
  have g5 : Grw S S5 := ⟨by omega, fun x hx => (c3 x hx).1, fun x k hx _ _ _ _ => by rw [(c3 x hx).2.1]⟩
  have g : Grw S (shR S5 0 2 (some S.1)) := ⟨by show S.1 ≤ S5.1; omega, fun x hx => (c3 x hx).1, fun x k hx h0 _ _ _ => by
    by_cases e : x = 0
    · subst e; rw [sR_j (by omega), (c3 0 hx).2.1]
    · rw [sR_n e, (c3 x hx).2.1]⟩
  have hv0 : obw S v 2 := hV.1
  have e03 : I5 0 3 = nI im := by rw [(c3 0 (by omega)).2.2]; exact i2
  have hN : f_X0_image FU S I = some (nI (im + 1), shR S5 0 2 (some S.1), up2 I5 0 3 (nI (im + 1))) := by
    unfold f_X0_image
    rw [ost_ok hS, orf_ok hv, ock_ok hv0.r, bd3_ok ec, og_ok (by omega), ost_ok (stN_grow hS g5), ost_ok (stN_grow hS g), up2_eq, e03, nI_add]
    exact omn3_ok (omn3_ok rfl (Nat.le_refl _)) (show S.1 ≤ S5.1 by omega)
  obtain ⟨I2, e2, m1, m2, m3, m4⟩ := mimage_ok (I := up2 I5 0 3 (nI (im + 1)))
  have e272 : up2 I5 0 3 (nI (im + 1)) 27 2 + nI 1 = nI (im + 1) := by rw [up2_n (by decide), (c3 27 (by omega)).2.2, i3, nI_add]
  rw [e272] at e2 m3
  -- what is as it was
  have fr : ∀ x, (x < S.1 ∨ exA ≤ x) → x ≠ 0 → x ≠ 29 → x ≠ 27 → I2 x = I x := fun x hx x0 x1 x2 => by rw [m1 x x1 x2, up2_n x0, (c3 x hx).2.2]
  have fr27 : ∀ k, k ≠ 2 → I2 27 k = I 27 k := fun k hk => by rw [m2 k hk, up2_n (by decide), (c3 27 (by omega)).2.2]
  generalize how : (fun x => if S.1 ≤ x ∧ x < exA then 2 else if ow x = 2 then 3 else ow x) = ow'
  have o1 : ∀ x, S.1 ≤ x → x < exA → ow' x = 2 := fun x x1 x2 => by rw [← how]; show (if _ then _ else _) = _; rw [if_pos ⟨x1, x2⟩]
  have o2 : ∀ x, (x < S.1 ∨ exA ≤ x) → ow x ≠ 2 → ow' x = ow x := fun x x1 x2 => by rw [← how]; show (if _ then _ else _) = _; rw [if_neg (by omega), if_neg x2]
  have hVn := c4 ow' 2 o1 (fun x x1 x2 => by rw [o2 x (Or.inl x1) (by rw [x2]; decide), x2])
  have o3 : ∀ x, x < 48 → ¬ (2 ≤ x ∧ x ≤ 6) → ow' x = 9 := fun x x1 x2 => by rw [o2 x (by omega) (by rw [hM.1 x x1 x2]; decide)]; exact hM.1 x x1 x2
  have lo : ∀ x, x < 48 → ¬ (2 ≤ x ∧ x ≤ 6) → x ≠ 0 → x ≠ 29 → x ≠ 27 → I2 x = I x := fun x x1 _ x3 x4 x5 => fr x (by omega) x3 x4 x5
  have mk : ∀ x, x < S.1 → ow x ≠ 9 → I2 x = I x := fun x x1 x2 => fr x (Or.inl x1) (hM.ne x2 (by decide) (by decide)) (hM.ne x2 (by decide) (by decide)) (hM.ne x2 (by decide) (by decide))
  have hI : InvO (n + 1) (shR S5 0 2 (some S.1)) I2 ow' a v := by
    refine ⟨stN_grow h1 g, StM_grow h2 g, ?_, h4.grow g (fun x x1 x2 => fr x (Or.inr x1) (by omega) (by omega) (by omega)), h5.of (lo _ (by decide) (by decide) (by decide) (by decide) (by decide)) (lo _ (by decide) (by decide) (by decide) (by decide) (by decide)) (lo _ (by decide) (by decide) (by decide) (by decide) (by decide)) (lo _ (by decide) (by decide) (by decide) (by decide) (by decide)), fun k hk => ?_, ?_, ⟨o3, fun x hx => by rw [o2 x (Or.inr hx) (by rw [hM.2 x hx]; decide)]; exact hM.2 x hx⟩, hA, ?_, ?_, ?_, fun s hs => ?_, im + 1, by omega, ?_, m3, Or.inr ⟨by omega, a, S.1, hA, ?_, sR_s, ?_⟩⟩
    · show S5.1 ≤ _; omega
    · rw [lo 21 (by decide) (by decide) (by decide) (by decide) (by decide), lo 30 (by decide) (by decide) (by decide) (by decide) (by decide)]; exact h6 k hk
    · rw [lo 7 (by decide) (by decide) (by decide) (by decide) (by decide), lo 8 (by decide) (by decide) (by decide) (by decide) (by decide), lo 43 (by decide) (by decide) (by decide) (by decide) (by decide), fr27 27 (by decide)]; exact h7
    · rw [lo 28 (by decide) (by decide) (by decide) (by decide) (by decide)]; exact hR
    · rw [sR_j (by decide), (c3 0 (by omega)).2.1]; exact hv
    · refine hV.grow hA (by show S.1 ≤ S5.1; omega) (fun x x1 x2 => ?_)
      have x9 : ow x ≠ 9 := by rcases x2 with x2 | x2 <;> rw [x2] <;> decide
      have x0 : x ≠ 0 := hM.ne x9 (by decide) (by decide)
      exact ⟨(c3 x (Or.inl x1)).1, by rw [sR_n x0, (c3 x (Or.inl x1)).2.1], mk x x1 x9, o2 x (Or.inl x1) (by rcases x2 with x2 | x2 <;> rw [x2] <;> decide)⟩
    · refine (hSh s hs).grow h1 hs g ?_ (fun x x1 x2 => ⟨mk x x1 (by omega), o2 x (Or.inl x1) (by omega)⟩) ?_ ?_ (fun k hk => ?_)
      · rw [sR_n (by omega), (c3 _ (by omega)).2.1]
      · rw [lo 44 (by decide) (by decide) (by decide) (by decide) (by decide)]
      · rw [lo 45 (by decide) (by decide) (by decide) (by decide) (by decide)]
      · rw [lo 46 (by decide) (by decide) (by decide) (by decide) (by decide)]
    · rw [m1 0 (by decide) (by decide), up2_eq]
    · refine hR.cp hA (fun k hk => ?_)
      rw [m4 k hk, up2_n (by decide), (c3 28 (by omega)).2.2]
    · refine hVn.grow hA (Nat.le_refl _) (fun x x1 x2 => ?_)
      have xlt : x < S5.1 := x1
      have x9 : ow' x ≠ 9 := by rcases x2 with x2 | x2 <;> rw [x2] <;> decide
      have hb : ∀ b, b < 48 → ¬ (2 ≤ b ∧ b ≤ 6) → x ≠ b := fun b b1 b2 e => x9 (by rw [e]; exact o3 b b1 b2)
      have x0 : x ≠ 0 := hb 0 (by decide) (by decide)
      exact ⟨rfl, sR_n x0, by rw [m1 x (hb 29 (by decide) (by decide)) (hb 27 (by decide) (by decide)), up2_n x0], rfl⟩
  exact Act.of3 hI (arm3 hN (show S.1 ≤ S5.1 by omega) (show S5.1 ≤ 36000 by omega) (stN_grow hS g) (StM_grow h2 g) e2)
theorem act_34 {n : Nat} {S : SH} {I : II} (h : Inv n S I) (hn : n < 64) : Act n (f_arm_34 FU S I) := by
  obtain ⟨ow, a, v, hO⟩ := h.op
  have hA := hO.aok
  have hM := hO.mrk
  have hS := hO.1
  have hsz := hO.sz
  have h48 := hO.h48
  have xA : exA = 1000000000 := rfl
  obtain ⟨h1, h2, h3, h4, h5, h6, h7, -, -, hR, hv, hV, hSh, im, i1, i2, i3, i4⟩ := id hO
  unfold f_arm_34
  rcases i4 with ⟨rfl, i4⟩ | ⟨ip, b, w, hB, hRb, hw, hVb⟩
  · refine hO.act3 (e := 2) (r := -1000002) hn ?_ ?_
    · unfold f_X0_restore
      rw [ost_ok hS, if_pos i4]
      unfold f_X0_restore_J13 f_X0_restore_J39
      exact omn3_ok (nbad3 hS (by decide) (by decide)) (Nat.le_refl _)
    · unfold f_X9_restore
      rw [EN_x (by decide) (by decide), i3, if_pos (by decide)]
      exact mbad2 (by decide) (by decide)
  · obtain ⟨S5, I5, ec, ⟨c1, c2⟩, c3, c4⟩ := copy_ok hB h4 (by omega) hVb
    have g5 : Grw S S5 := ⟨by omega, fun x hx => (c3 x hx).1, fun x k hx _ _ _ _ => by rw [(c3 x hx).2.1]⟩
    have g : Grw S (shR S5 0 1 (some S.1)) := ⟨by show S.1 ≤ S5.1; omega, fun x hx => (c3 x hx).1, fun x k hx h0 _ _ _ => by
      by_cases e : x = 0
      · subst e; rw [sR_j (by omega), (c3 0 hx).2.1]
      · rw [sR_n e, (c3 x hx).2.1]⟩
    generalize how : (fun x => if S.1 ≤ x ∧ x < exA then 1 else if ow x = 1 then 3 else ow x) = ow'
    have o1 : ∀ x, S.1 ≤ x → x < exA → ow' x = 1 := fun x x1 x2 => by rw [← how]; show (if _ then _ else _) = _; rw [if_pos ⟨x1, x2⟩]
    have o2 : ∀ x, (x < S.1 ∨ exA ≤ x) → ow x ≠ 1 → ow' x = ow x := fun x x1 x2 => by rw [← how]; show (if _ then _ else _) = _; rw [if_neg (by omega), if_neg x2]
    have o3 : ∀ x, x < 48 → ¬ (2 ≤ x ∧ x ≤ 6) → ow' x = 9 := fun x x1 x2 => by rw [o2 x (by omega) (by rw [hM.1 x x1 x2]; decide)]; exact hM.1 x x1 x2
    have hVn := c4 ow' 1 o1 (fun x x1 x2 => by rw [o2 x (Or.inl x1) (by rw [x2]; decide), x2])
    have hw0 : obw S w 2 := hVb.1
    -- the new village, after the change of the reference
    have hVn1 : ∀ I' : II, (∀ x, ow' x ≠ 9 → I' x = I5 x) → Vil (shR S5 0 1 (some S.1)) I' ow' 1 b S.1 := fun I' hI' => hVn.grow hB (Nat.le_refl _) (fun x x1 x2 => by
      have x9 : ow' x ≠ 9 := by rcases x2 with x2 | x2 <;> rw [x2] <;> decide
      have x0 : x ≠ 0 := fun e => x9 (by rw [e]; exact o3 0 (by decide) (by decide))
      exact ⟨rfl, sR_n x0, hI' x x9, rfl⟩)
    have hN : f_X0_restore FU S I = some (nI (aN b), shR S5 0 1 (some S.1), I5) := by
      obtain ⟨z1, -, -, -, -, ⟨al, b1, b2⟩, -⟩ := hVn1 I5 (fun _ _ => rfl)
      unfold f_X0_restore
      rw [ost_ok hS, if_neg (by rw [hw]; simp)]
      unfold f_X0_restore_J13
      rw [ngood3 hS, orf_ok hw, ock_ok hw0.r, bd3_ok ec, og_ok (by omega), ost_ok (stN_grow hS g5), ost_ok (stN_grow hS g), orf_ok (sR_s), ock_ok z1.r, orf_ok b1, ock_ok b2.1.r, lst_size b2, Option.bind_some]
      exact omn3_ok (omn3_ok rfl (Nat.le_refl _)) (show S.1 ≤ S5.1 by omega)
    obtain ⟨I2, e2, m1, m2⟩ := mrestore_ok (I := I5)
    have eM : f_X9_restore FU I5 = some (nI (aN b), I2) := by
      unfold f_X9_restore
      rw [(c3 27 (by omega)).2.2, i3, if_neg (nI_ne0 ip (by omega)), e2, (c3 29 (by omega)).2.2, hRb.1]
    have fr : ∀ x, (x < S.1 ∨ exA ≤ x) → x ≠ 28 → I2 x = I x := fun x hx x1 => by rw [m1 x x1, (c3 x hx).2.2]
    have lo : ∀ x, x < 48 → x ≠ 28 → I2 x = I x := fun x x1 x2 => fr x (by omega) x2
    have mk : ∀ x, x < S.1 → ow x ≠ 9 → I2 x = I x := fun x x1 x2 => fr x (Or.inl x1) (hM.ne x2 (by decide) (by decide))
    have hI : InvO (n + 1) (shR S5 0 1 (some S.1)) I2 ow' b S.1 := by
      refine ⟨stN_grow h1 g, StM_grow h2 g, ?_, h4.grow g (fun x x1 x2 => fr x (Or.inr x1) (by omega)), h5.of (lo _ (by decide) (by decide)) (lo _ (by decide) (by decide)) (lo _ (by decide) (by decide)) (lo _ (by decide) (by decide)), fun k hk => ?_, ?_, ⟨o3, fun x hx => by rw [o2 x (Or.inr hx) (by rw [hM.2 x hx]; decide)]; exact hM.2 x hx⟩, hB, ?_, sR_s, hVn1 I2 (fun x x9 => m1 x (fun e => x9 (by rw [e]; exact o3 28 (by decide) (by decide)))), fun s hs => ?_, im, by omega, ?_, ?_, Or.inr ⟨ip, b, w, hB, ?_, ?_, ?_⟩⟩
      · show S5.1 ≤ _; omega
      · rw [lo 21 (by decide) (by decide), lo 30 (by decide) (by decide)]; exact h6 k hk
      · rw [lo 7 (by decide) (by decide), lo 8 (by decide) (by decide), lo 43 (by decide) (by decide), lo 27 (by decide) (by decide)]; exact h7
      · refine hRb.cp hB (fun k hk => ?_)
        rw [m2 k hk, (c3 29 (by omega)).2.2]
      · refine (hSh s hs).grow h1 hs g ?_ (fun x x1 x2 => ⟨mk x x1 (by omega), o2 x (Or.inl x1) (by omega)⟩) ?_ ?_ (fun k hk => ?_)
        · rw [sR_n (by omega), (c3 _ (by omega)).2.1]
        · rw [lo 44 (by decide) (by decide)]
        · rw [lo 45 (by decide) (by decide)]
        · rw [lo 46 (by decide) (by decide)]
      · rw [lo 0 (by decide) (by decide)]; exact i2
      · rw [lo 27 (by decide) (by decide)]; exact i3
      · rw [lo 29 (by decide) (by decide)]; exact hRb
      · rw [sR_j (by decide), (c3 0 (by omega)).2.1]; exact hw
      · refine hVb.grow hB (by show S.1 ≤ S5.1; omega) (fun x x1 x2 => ?_)
        have x9 : ow x ≠ 9 := by rcases x2 with x2 | x2 <;> rw [x2] <;> decide
        have x0 : x ≠ 0 := hM.ne x9 (by decide) (by decide)
        exact ⟨(c3 x (Or.inl x1)).1, by rw [sR_n x0, (c3 x (Or.inl x1)).2.1], mk x x1 x9, o2 x (Or.inl x1) (by rcases x2 with x2 | x2 <;> rw [x2] <;> decide)⟩
    exact Act.of3 hI (arm3 hN (show S.1 ≤ S5.1 by omega) (show S5.1 ≤ 36000 by omega) (stN_grow hS g) (StM_grow h2 g) eM)
