/-! PLAIN SIDE: new villages, laws again, the list of laws -/
set_option maxRecDepth 100000
theorem x10i {sh : SH} {x0 k x1 : Nat} {x2 x3 : Int32} {I : II} (h : obw sh x0 (11 + k)) (hk : k < 6) : f_X10_init sh x0 x1 x2 x3 I = some (shR sh x0 0 (some x1), up2 (up2 I x0 1 x2) x0 2 x3) := by
  unfold f_X10_init
  rw [ockwD_ok h hk, ockwD_ok (show obw (shR sh x0 0 (some x1)) x0 (11 + k) from h) hk]
  exact omn2_ok rfl (Nat.le_refl _)
theorem x11i {sh : SH} {x0 k x1 : Nat} {x2 x3 : Int32} {I : II} (h : obw sh x0 (11 + k)) (hk : k < 6) : f_X11_init sh x0 x1 x2 x3 I = some (shR sh x0 0 (some x1), up2 (up2 I x0 1 x2) x0 2 x3) := by
  unfold f_X11_init
  rw [bd2_ok (x10i h hk), og_ok (by first | exact Nat.le_refl _ | exact Nat.le_succ _)]
  exact omn2_ok (omn2_ok rfl (Nat.le_refl _)) (Nat.le_refl _)
theorem x15i {sh : SH} {x0 k x1 : Nat} {x2 x3 : Int32} {I : II} (h : obw sh x0 (11 + k)) (hk : k < 6) : f_X15_init sh x0 x1 x2 x3 I = some (shR sh x0 0 (some x1), up2 (up2 I x0 1 x2) x0 2 x3) := by
  unfold f_X15_init
  rw [bd2_ok (x10i h hk), og_ok (by first | exact Nat.le_refl _ | exact Nat.le_succ _)]
  exact omn2_ok (omn2_ok rfl (Nat.le_refl _)) (Nat.le_refl _)
theorem x12i {sh : SH} {x0 k x1 : Nat} {x2 x3 : Int32} {I : II} (h : obw sh x0 (11 + k)) (hk : k < 6) : f_X12_init sh x0 x1 x2 x3 I = some (shR sh x0 0 (some x1), up2 (up2 I x0 1 x2) x0 2 x3) := by
  unfold f_X12_init
  rw [bd2_ok (x11i h hk), og_ok (by first | exact Nat.le_refl _ | exact Nat.le_succ _)]
  exact omn2_ok (omn2_ok rfl (Nat.le_refl _)) (Nat.le_refl _)
theorem x13i {sh : SH} {x0 k x1 : Nat} {x2 x3 : Int32} {I : II} (h : obw sh x0 (11 + k)) (hk : k < 6) : f_X13_init sh x0 x1 x2 x3 I = some (shR sh x0 0 (some x1), up2 (up2 I x0 1 x2) x0 2 x3) := by
  unfold f_X13_init
  rw [bd2_ok (x11i h hk), og_ok (by first | exact Nat.le_refl _ | exact Nat.le_succ _)]
  exact omn2_ok (omn2_ok rfl (Nat.le_refl _)) (Nat.le_refl _)
theorem x14i {sh : SH} {x0 k x1 : Nat} {x2 x3 : Int32} {I : II} (h : obw sh x0 (11 + k)) (hk : k < 6) : f_X14_init sh x0 x1 x2 x3 I = some (shR sh x0 0 (some x1), up2 (up2 I x0 1 x2) x0 2 x3) := by
  unfold f_X14_init
  rw [bd2_ok (x11i h hk), og_ok (by first | exact Nat.le_refl _ | exact Nat.le_succ _)]
  exact omn2_ok (omn2_ok rfl (Nat.le_refl _)) (Nat.le_refl _)
abbrev deS (S : SH) (k : Nat) : SH := shR (newS S (11 + k) 0) S.1 0 (some 7)
abbrev deI (S : SH) (J : II) (x y : Int32) : II := up2 (up2 (newI S J) S.1 1 x) S.1 2 y
theorem nwO {S : SH} {k : Nat} : obw (newS S (11 + k) 0) S.1 (11 + k) := ⟨Nat.lt_succ_self _, by rw [nS_kn]⟩
theorem another_ok {S : SH} {dm k : Nat} {J : II} (hD : obw S dm (11 + k)) (hk : k < 6) (h7 : S.2.2 dm 0 = some 7) (hl : S.1 < exA) : v_X10_another S dm J = some (S.1, deS S k, deI S J (J dm 1) (J dm 2)) := by
  have hne : dm ≠ S.1 := Nat.ne_of_lt hD.1
  have hD' : obw (newS S (11 + k) 0) dm (11 + k) := ⟨Nat.lt_succ_of_lt hD.1, by rw [nS_k hne]; exact hD.2⟩
  have h7' : (newS S (11 + k) 0).2.2 dm 0 = some 7 := by rw [nS_f hne]; exact h7
  have gen : ∀ (init : SH → Nat → Nat → Int32 → Int32 → II → Option (SH × II)), (∀ (sh : SH) (x0 x1 : Nat) (x2 x3 : Int32) (I : II), obw sh x0 (11 + k) → init sh x0 x1 x2 x3 I = some (shR sh x0 0 (some x1), up2 (up2 I x0 1 x2) x0 2 x3)) → (omn3 S <| onw S <| omn3 (newS S (11 + k) 0) <| ockD (newS S (11 + k) 0) dm <| orf ((newS S (11 + k) 0).2.2 dm 0) fun t5 => bd2 (init (newS S (11 + k) 0) S.1 t5 ((newI S J) dm 1) ((newI S J) dm 2) (newI S J)) fun S16 I16 => og (S.1 + 1 ≤ S16.1) <| omn3 S16 <| some (S.1, S16, I16)) = some (S.1, deS S k, deI S J (J dm 1) (J dm 2)) := by
    intro init hi
    rw [onw_ok hl, ockD_ok hD'.r hk, orf_ok h7', nI_x hne, bd2_ok (hi _ _ _ _ _ _ nwO), og_ok (by first | exact Nat.le_refl _ | exact Nat.le_succ _)]
    exact omn3_ok (omn3_ok (omn3_ok rfl (Nat.le_refl _)) (Nat.le_refl _)) (Nat.le_succ _)
  unfold v_X10_another
  rw [og_ok (Or.inl hD.1), hD.2]
  rcases k6 hk with rfl | rfl | rfl | rfl | rfl | rfl
  · rw [if_pos rfl]; exact gen f_X10_init (fun _ _ _ _ _ _ h => x10i h hk)
  · rw [if_neg (by decide), if_pos rfl]; exact gen f_X11_init (fun _ _ _ _ _ _ h => x11i h hk)
  · rw [if_neg (by decide), if_neg (by decide), if_pos rfl]; exact gen f_X12_init (fun _ _ _ _ _ _ h => x12i h hk)
  · rw [if_neg (by decide), if_neg (by decide), if_neg (by decide), if_pos rfl]; exact gen f_X13_init (fun _ _ _ _ _ _ h => x13i h hk)
  · rw [if_neg (by decide), if_neg (by decide), if_neg (by decide), if_neg (by decide), if_pos rfl]; exact gen f_X14_init (fun _ _ _ _ _ _ h => x14i h hk)
  · rw [if_neg (by decide), if_neg (by decide), if_neg (by decide), if_neg (by decide), if_neg (by decide), if_pos rfl]; exact gen f_X15_init (fun _ _ _ _ _ _ h => x15i h hk)
abbrev agS (S : SH) (k dm : Nat) : SH := shR (shR (deS S k) S.1 3 (S.2.2 dm 3)) S.1 4 (S.2.2 dm 4)
theorem again_ok {S : SH} {dm k : Nat} {J : II} (hD : obw S dm (11 + k)) (hk : k < 6) (h7 : S.2.2 dm 0 = some 7) (hl : S.1 < exA) : v_X10_again S dm J = some (S.1, agS S k dm, deI S J (J dm 1) (J dm 2)) := by
  have hne : dm ≠ S.1 := Nat.ne_of_lt hD.1
  unfold v_X10_again
  rw [og_ok (Or.inl hD.1), six hk hD.2]
  unfold f_X10_again
  have q1 : obw (deS S k) dm (11 + k) := ⟨Nat.lt_succ_of_lt hD.1, by
    show ((newS S (11 + k) 0).2.1 dm).1 = _
    rw [nS_k hne]; exact hD.2⟩
  have q2 : obw (deS S k) S.1 (11 + k) := nwO
  have r3 : ∀ j, (deS S k).2.2 dm j = S.2.2 dm j := fun j => by rw [sR_n hne, nS_f hne]
  have r4 : (shR (deS S k) S.1 3 (S.2.2 dm 3)).2.2 dm 4 = S.2.2 dm 4 := by rw [sR_n hne, r3]
  rw [bd3_ok (another_ok hD hk h7 hl), og_ok (by first | exact Nat.le_refl _ | exact Nat.le_succ _), ockD_ok q1.r hk, ockwD_ok q2 hk, r3 3, ockD_ok (show obw (shR (deS S k) S.1 3 (S.2.2 dm 3)) dm (11 + k) from q1).r hk, ockwD_ok (show obw (shR (deS S k) S.1 3 (S.2.2 dm 3)) S.1 (11 + k) from q2) hk, r4]
  exact omn3_ok (omn3_ok rfl (Nat.le_refl _)) (Nat.le_succ _)
theorem add_ok {S : SH} {J : II} {al d ea j k : Nat} (hal : obw S al 3) (hd : obw S d (11 + k)) (hk : k < 6) (h1 : S.2.2 al 1 = some ea) (hJ : J al 2 = nI j) (hj : j < 10) (ha : arw S ea 200 10) : f_J5_add S al d J = some (nI 1, shR S ea j (some d), up2 (up2 J al 0 (J al 0 + nI 1)) al 2 (nI (j + 1))) := by
  have e2 : (up2 J al 0 (J al 0 + nI 1)) al 2 = nI j := by rw [up2_ne (by decide)]; exact hJ
  have h2 : f_J5_add_2 S al d ea (nI j) (up2 J al 0 (J al 0 + nI 1)) = some (shR S ea j (some d), up2 (up2 J al 0 (J al 0 + nI 1)) al 2 (nI (j + 1))) := by
    unfold f_J5_add_2
    rw [oar_ok ha.r, if_neg (by rw [nI_eq (by omega) (by omega)]; omega)]
    unfold f_J5_add_2_J11
    rw [oarw_ok ha, ockD_ok hd.r hk, oix_ok (j := j) rfl hj (by decide), ockw_ok (show obw (shR S ea j (some d)) al 3 from hal), nI_add]
    exact omn2_ok rfl (Nat.le_refl _)
  unfold f_J5_add
  rw [ock_ok hal.r, ockw_ok hal, orf_ok h1, e2, bd2_ok h2, og_ok (by first | exact Nat.le_refl _ | exact Nat.le_succ _)]
  exact omn3_ok (omn3_ok rfl (Nat.le_refl _)) (Nat.le_refl _)
abbrev a0S (S : SH) (al d : Nat) : SH := shR (shR (newS S 200 10) al 1 (some S.1)) S.1 0 (some d)
theorem add0_ok {S : SH} {J : II} {al d k : Nat} (hal : obw S al 3) (hd : obw S d (11 + k)) (hk : k < 6) (h1 : S.2.2 al 1 = some (exA + 30)) (hJ : J al 2 = nI 0) (hx : S.2.1 (exA + 30) = (200, 0)) (hS : S.2.2 exS 0 = some (exA + 30)) (hl : S.1 < exA) : f_J5_add S al d J = some (nI 1, a0S S al d, up2 (newI S (up2 J al 0 (J al 0 + nI 1))) al 2 (nI 1)) := by
  have e2 : (up2 J al 0 (J al 0 + nI 1)) al 2 = nI 0 := by rw [up2_ne (by decide)]; exact hJ
  have har : ar S (exA + 30) 200 0 := ⟨Or.inr ⟨Nat.le_add_right _ _, by show exA + 30 < exA + 64; omega⟩, hx⟩
  have haln : al ≠ S.1 := Nat.ne_of_lt hal.1
  have hdn : d ≠ S.1 := Nat.ne_of_lt hd.1
  have hal' : obw (newS S 200 10) al 3 := ⟨Nat.lt_succ_of_lt hal.1, by rw [nS_k haln]; exact hal.2⟩
  have hd' : obw (newS S 200 10) d (11 + k) := ⟨Nat.lt_succ_of_lt hd.1, by rw [nS_k hdn]; exact hd.2⟩
  have hg2 : f_J5_grow_2 S al (nI 1) (up2 J al 0 (J al 0 + nI 1)) = some (S.1, shR (newS S 200 10) al 1 (some S.1), newI S (up2 J al 0 (J al 0 + nI 1))) := by
    unfold f_J5_grow_2
    rw [ock_ok hal.r, orf_ok h1, oar_ok har, if_neg (by decide), orf_ok h1, hS, og_ok (show sepB S (some (exA + 30)) (some (exA + 30)) = true by unfold sepB; simp), if_pos rfl, if_neg (by decide), onl_ok (by omega), onw_ok hl, ockw_ok hal']
    exact omn3_ok (omn3_ok rfl (Nat.le_refl _)) (Nat.le_succ _)
  have hg : f_J5_grow S al (up2 J al 0 (J al 0 + nI 1)) = some (S.1, shR (newS S 200 10) al 1 (some S.1), newI S (up2 J al 0 (J al 0 + nI 1))) := by
    unfold f_J5_grow
    rw [ock_ok hal.r, e2, nI_add, bd3_ok hg2, og_ok (by first | exact Nat.le_refl _ | exact Nat.le_succ _)]
    exact omn3_ok (omn3_ok rfl (Nat.le_refl _)) (Nat.le_succ _)
  have h2 : f_J5_add_2 S al d (exA + 30) (nI 0) (up2 J al 0 (J al 0 + nI 1)) = some (a0S S al d, up2 (newI S (up2 J al 0 (J al 0 + nI 1))) al 2 (nI 1)) := by
    unfold f_J5_add_2
    rw [oar_ok har, if_pos rfl, ock_ok hal.r, bd3_ok hg, og_ok (by first | exact Nat.le_refl _ | exact Nat.le_succ _)]
    unfold f_J5_add_2_J11
    rw [oarw_ok (show arw (shR (newS S 200 10) al 1 (some S.1)) S.1 200 10 from ⟨Nat.lt_succ_self _, nS_kn⟩), ockD_ok (show obw (shR (newS S 200 10) al 1 (some S.1)) d (11 + k) from hd').r hk, oix_ok (j := 0) rfl (by decide) (by decide), ockw_ok (show obw (shR (shR (newS S 200 10) al 1 (some S.1)) S.1 0 (some d)) al 3 from hal'), nI_add]
    exact omn2_ok (omn2_ok rfl (Nat.le_refl _)) (Nat.le_succ _)
  unfold f_J5_add
  rw [ock_ok hal.r, ockw_ok hal, orf_ok h1, e2, bd2_ok h2, og_ok (by first | exact Nat.le_refl _ | exact Nat.le_succ _)]
  exact omn3_ok (omn3_ok rfl (Nat.le_refl _)) (Nat.le_succ _)
/-! a new village -/
abbrev vS1 (s : SH) : SH := shR (newS (newS s 2 0) 100 12) s.1 0 (some (s.1 + 1))
abbrev vS2 (s : SH) (e : Option Nat) : SH := shR (shR (newS (vS1 s) 3 0) (s.1 + 2) 1 e) s.1 1 (some (s.1 + 2))
abbrev vS3 (s : SH) (e : Option Nat) : SH := shR (newS (vS2 s e) 101 50) s.1 2 (some (s.1 + 3))
abbrev vS4 (s : SH) (e : Option Nat) : SH := shR (newS (vS3 s e) 100 20) s.1 4 (some (s.1 + 4))
abbrev vI2 (s : SH) (I : II) : II := up2 (newI (vS1 s) (newI (newS s 2 0) (newI s I))) (s.1 + 2) 0 (nI 0)
abbrev vI4 (s : SH) (I : II) (e : Option Nat) : II := newI (vS3 s e) (newI (vS2 s e) (vI2 s I))
/-- what a new village is -/
def NV (s S : SH) (I J : II) : Prop := S.1 = s.1 + 5 ∧ (∀ x, (x < s.1 ∨ exA ≤ x) → S.2.1 x = s.2.1 x ∧ S.2.2 x = s.2.2 x ∧ J x = I x) ∧
  (S.2.1 s.1 = (2, 0) ∧ S.2.1 (s.1 + 1) = (100, 12) ∧ S.2.1 (s.1 + 2) = (3, 0) ∧ S.2.1 (s.1 + 3) = (101, 50) ∧ S.2.1 (s.1 + 4) = (100, 20)) ∧
  (S.2.2 s.1 0 = some (s.1 + 1) ∧ S.2.2 s.1 1 = some (s.1 + 2) ∧ S.2.2 s.1 2 = some (s.1 + 3) ∧ S.2.2 s.1 4 = some (s.1 + 4) ∧ S.2.2 (s.1 + 2) 1 = s.2.2 exS 0) ∧
  (J (s.1 + 2) 2 = nI 0 ∧ (∀ h, h < 12 → J (s.1 + 1) h = nI 3) ∧ J s.1 3 = nI 0 ∧ J s.1 5 = nI 0 ∧ (∀ k, J (s.1 + 3) k = 0) ∧ ∀ k, J (s.1 + 4) k = 0)
theorem vinit_ok {s : SH} {I : II} (hl : s.1 + 5 < exA) : ∃ S J, f_X2_init FU (newS s 2 0) s.1 (newI s I) = some (S, J) ∧ NV s S I J := by
  have F5 := FU5
  have xA : exA = 1000000000 := rfl
  have xS : exS = 1000000063 := rfl
  -- the kinds of cells
  have k1 : ∀ x, (newS (newS s 2 0) 100 12).2.1 x = if x = s.1 + 1 then (100, 12) else if x = s.1 then (2, 0) else s.2.1 x := fun x => rfl
  have k2 : ∀ e x, (vS2 s e).2.1 x = if x = s.1 + 1 + 1 then (3, 0) else if x = s.1 + 1 then (100, 12) else if x = s.1 then (2, 0) else s.2.1 x := fun e x => rfl
  have k3 : ∀ e x, (vS3 s e).2.1 x = if x = s.1 + 1 + 1 + 1 then (101, 50) else if x = s.1 + 1 + 1 then (3, 0) else if x = s.1 + 1 then (100, 12) else if x = s.1 then (2, 0) else s.2.1 x := fun e x => rfl
  have k4 : ∀ e x, (vS4 s e).2.1 x = if x = s.1 + 1 + 1 + 1 + 1 then (100, 20) else if x = s.1 + 1 + 1 + 1 then (101, 50) else if x = s.1 + 1 + 1 then (3, 0) else if x = s.1 + 1 then (100, 12) else if x = s.1 then (2, 0) else s.2.1 x := fun e x => rfl
  have hexS : (newS (vS1 s) 3 0).2.2 exS 0 = s.2.2 exS 0 := by
    rw [nS_f (show exS ≠ s.1 + 1 + 1 by omega), sR_n (show exS ≠ s.1 by omega), nS_f (show exS ≠ s.1 + 1 by omega), nS_f (show exS ≠ s.1 by omega)]
  generalize he : s.2.2 exS 0 = e at hexS
  -- the list
  have hj5 : f_J5_init (newS (vS1 s) 3 0) (s.1 + 2) (newI (vS1 s) (newI (newS s 2 0) (newI s I))) = some (shR (newS (vS1 s) 3 0) (s.1 + 2) 1 e, vI2 s I) := by
    have ho : obw (newS (vS1 s) 3 0) (s.1 + 2) 3 := ⟨show s.1 + 2 < s.1 + 1 + 1 + 1 by omega, by show ((newS (vS1 s) 3 0).2.1 (vS1 s).1).1 = 3; rw [nS_kn]⟩
    unfold f_J5_init f_J4_init f_J3_init
    rw [Option.bind_some, ockw_ok ho, Option.bind_some, ockw_ok ho, hexS]
    exact omn2_ok rfl (Nat.le_refl _)
  -- told
  have told : ∀ (d k q : Nat) (J : II), k + d = 12 → d + 1 ≤ q → (∀ x, x ≠ s.1 + 1 → J x = vI4 s I e x) → (∀ h, h < k → J (s.1 + 1) h = nI 3) → ∃ J', f_X2_init_L41 FU s.1 q (nI k) (vS4 s e) J = some (vS4 s e, J') ∧ (∀ x, x ≠ s.1 + 1 → J' x = vI4 s I e x) ∧ ∀ h, h < 12 → J' (s.1 + 1) h = nI 3 := by
    intro d
    induction d with
    | zero =>
      intro k q J hk hq g1 g2
      obtain ⟨q, rfl⟩ := pred1 hq
      obtain rfl : k = 12 := by omega
      exact ⟨J, by rw [f_X2_init_L41, if_pos (by decide)], g1, g2⟩
    | succ d ih =>
      intro k q J hk hq g1 g2
      obtain ⟨q, rfl⟩ := pred1 hq
      replace hq := Nat.le_of_succ_le_succ hq
      have hv : obw (vS4 s e) s.1 2 := ⟨show s.1 < s.1 + 1 + 1 + 1 + 1 + 1 by omega, by rw [k4, if_neg (by omega), if_neg (by omega), if_neg (by omega), if_neg (by omega), if_pos rfl]⟩
      have ht : (vS4 s e).2.2 s.1 0 = some (s.1 + 1) := by
        rw [sR_j (by decide), nS_f (show s.1 ≠ s.1 + 1 + 1 + 1 + 1 by omega), sR_j (by decide), nS_f (show s.1 ≠ s.1 + 1 + 1 + 1 by omega), sR_j (by decide), sR_n (show s.1 ≠ s.1 + 2 by omega), nS_f (show s.1 ≠ s.1 + 1 + 1 by omega), sR_s]
      have ha : arw (vS4 s e) (s.1 + 1) 100 12 := ⟨show s.1 + 1 < s.1 + 1 + 1 + 1 + 1 + 1 by omega, by rw [k4, if_neg (by omega), if_neg (by omega), if_neg (by omega), if_pos rfl]⟩
      rw [f_X2_init_L41, if_neg (nI_ge (by omega) (by omega)), ock_ok hv.r, orf_ok ht, oarw_ok ha, oix_ok (j := k) rfl (by omega) (by decide), nI_add]
      refine ih (k + 1) q _ (by omega) hq (fun x hx => by rw [up2_n hx]; exact g1 x hx) (fun h hh => ?_)
      by_cases ee : h = k
      · subst ee; exact up2_eq
      · rw [up2_ne ee]; exact g2 h (by omega)
  obtain ⟨J, eJ, j1, j2⟩ := told 12 0 FU (vI4 s I e) rfl (by omega) (fun _ _ => rfl) (fun h hh => by omega)
  have hv1 : obw (newS (newS s 2 0) 100 12) s.1 2 := ⟨show s.1 < s.1 + 1 + 1 by omega, by rw [k1, if_neg (by omega), if_pos rfl]⟩
  have hv2 : obw (shR (newS (vS1 s) 3 0) (s.1 + 2) 1 e) s.1 2 := ⟨show s.1 < s.1 + 1 + 1 + 1 by omega, by
    show ((vS2 s e).2.1 s.1).1 = 2
    rw [k2, if_neg (by omega), if_neg (by omega), if_pos rfl]⟩
  have hv3 : obw (newS (vS2 s e) 101 50) s.1 2 := ⟨show s.1 < s.1 + 1 + 1 + 1 + 1 by omega, by
    show ((vS3 s e).2.1 s.1).1 = 2
    rw [k3, if_neg (by omega), if_neg (by omega), if_neg (by omega), if_pos rfl]⟩
  have hv4 : obw (newS (vS3 s e) 100 20) s.1 2 := ⟨show s.1 < s.1 + 1 + 1 + 1 + 1 + 1 by omega, by
    show ((vS4 s e).2.1 s.1).1 = 2
    rw [k4, if_neg (by omega), if_neg (by omega), if_neg (by omega), if_neg (by omega), if_pos rfl]⟩
  have v4 : ∀ x, x ≠ s.1 + 1 + 1 + 1 + 1 → x ≠ s.1 + 1 + 1 + 1 → vI4 s I e x = vI2 s I x := fun x h1 h2 => (nI_x (sh := vS3 s e) h1).trans (nI_x (sh := vS2 s e) h2)
  have v2 : ∀ x, x ≠ s.1 + 1 + 1 → x ≠ s.1 + 1 → vI2 s I x = newI s I x := fun x h1 h2 => (up2_n h1).trans ((nI_x (sh := vS1 s) h1).trans (nI_x (sh := newS s 2 0) h2))
  refine ⟨vS4 s e, J, ?_, rfl, fun x hx => ⟨?_, ?_, ?_⟩, ⟨?_, ?_, ?_, ?_, ?_⟩, ⟨?_, ?_, ?_, ?_, ?_⟩, ?_, j2, ?_, ?_, fun k => ?_, fun k => ?_⟩
  · unfold f_X2_init
    rw [onw_ok (show s.1 + 1 < exA by omega), ockw_ok hv1, onw_ok (show s.1 + 1 + 1 < exA by omega)]
    have hb : ∀ (f : SH → II → Option (SH × II)), bd2 (f_J5_init (newS (shR (newS (newS s 2 0) 100 12) s.1 0 (some (newS s 2 0).1)) 3 0) (shR (newS (newS s 2 0) 100 12) s.1 0 (some (newS s 2 0).1)).1 (newI (shR (newS (newS s 2 0) 100 12) s.1 0 (some (newS s 2 0).1)) (newI (newS s 2 0) (newI s I)))) f = f (shR (newS (vS1 s) 3 0) (s.1 + 2) 1 e) (vI2 s I) := fun f => bd2_ok hj5
    rw [hb, og_ok (by first | exact Nat.le_refl _ | exact Nat.le_succ _), ockw_ok hv2, onw_ok (show s.1 + 1 + 1 + 1 < exA by omega)]
    refine omn2_ok (omn2_ok (omn2_ok (omn2_ok (z := (vS4 s e, J)) ?_ ?_) ?_) ?_) ?_
    · rw [ockw_ok (show obw (newS (shR (shR (newS (vS1 s) 3 0) (s.1 + 2) 1 e) s.1 1 (some (shR (newS (newS s 2 0) 100 12) s.1 0 (some (newS s 2 0).1)).1)) 101 50) s.1 2 from hv3), onw_ok (show s.1 + 1 + 1 + 1 + 1 < exA by omega)]
      refine omn2_ok (omn2_ok (z := (vS4 s e, J)) ?_ ?_) ?_
      · have hv4' := hv4
        refine (ockw_ok hv4').trans eJ
      · exact Nat.le_refl _
      · show s.1 + 1 + 1 + 1 + 1 ≤ s.1 + 1 + 1 + 1 + 1 + 1; omega
    · show s.1 + 1 + 1 + 1 ≤ s.1 + 1 + 1 + 1 + 1 + 1; omega
    · show s.1 + 1 + 1 + 1 ≤ s.1 + 1 + 1 + 1 + 1 + 1; omega
    · show s.1 + 1 + 1 ≤ s.1 + 1 + 1 + 1 + 1 + 1; omega
    · show s.1 + 1 ≤ s.1 + 1 + 1 + 1 + 1 + 1; omega
  · rw [k4, if_neg (by omega), if_neg (by omega), if_neg (by omega), if_neg (by omega), if_neg (by omega)]
  · rw [sR_n (by omega), nS_f (show x ≠ s.1 + 1 + 1 + 1 + 1 by omega), sR_n (by omega), nS_f (show x ≠ s.1 + 1 + 1 + 1 by omega), sR_n (by omega), sR_n (by omega), nS_f (show x ≠ s.1 + 1 + 1 by omega), sR_n (by omega), nS_f (show x ≠ s.1 + 1 by omega), nS_f (show x ≠ s.1 by omega)]
  · rw [j1 x (by omega), v4 x (by omega) (by omega), v2 x (by omega) (by omega), nI_x (show x ≠ s.1 by omega)]
  · rw [k4, if_neg (by omega), if_neg (by omega), if_neg (by omega), if_neg (by omega), if_pos rfl]
  · rw [k4, if_neg (by omega), if_neg (by omega), if_neg (by omega), if_pos rfl]
  · rw [k4, if_neg (by omega), if_neg (by omega), if_pos rfl]
  · rw [k4, if_neg (by omega), if_pos rfl]
  · rw [k4, if_pos rfl]
  · rw [sR_j (by decide), nS_f (show s.1 ≠ s.1 + 1 + 1 + 1 + 1 by omega), sR_j (by decide), nS_f (show s.1 ≠ s.1 + 1 + 1 + 1 by omega), sR_j (by decide), sR_n (show s.1 ≠ s.1 + 2 by omega), nS_f (show s.1 ≠ s.1 + 1 + 1 by omega), sR_s]
  · rw [sR_j (by decide), nS_f (show s.1 ≠ s.1 + 1 + 1 + 1 + 1 by omega), sR_j (by decide), nS_f (show s.1 ≠ s.1 + 1 + 1 + 1 by omega), sR_s]
  · rw [sR_j (by decide), nS_f (show s.1 ≠ s.1 + 1 + 1 + 1 + 1 by omega), sR_s]
  · rw [sR_s]
  · rw [sR_n (show s.1 + 2 ≠ s.1 by omega), nS_f (show s.1 + 2 ≠ s.1 + 1 + 1 + 1 + 1 by omega), sR_n (show s.1 + 2 ≠ s.1 by omega), nS_f (show s.1 + 2 ≠ s.1 + 1 + 1 + 1 by omega), sR_n (show s.1 + 2 ≠ s.1 by omega), sR_s, he]
  · rw [j1 _ (by omega), v4 _ (by omega) (by omega)]
    refine (up2_ne (by decide)).trans ?_
    show newI (vS1 s) _ (vS1 s).1 2 = _
    rw [nI_n]
    rfl
  · rw [j1 _ (by omega), v4 _ (by omega) (by omega), v2 _ (by omega) (by omega), nI_n]
    rfl
  · rw [j1 _ (by omega), v4 _ (by omega) (by omega), v2 _ (by omega) (by omega), nI_n]
    rfl
  · rw [j1 _ (by omega)]
    have h3 : vI4 s I e (s.1 + 3) = newI (vS2 s e) (vI2 s I) (s.1 + 3) := nI_x (sh := vS3 s e) (show s.1 + 3 ≠ s.1 + 1 + 1 + 1 + 1 by omega)
    rw [h3]
    show newI (vS2 s e) _ (vS2 s e).1 k = _
    rw [nI_n]
  · rw [j1 _ (by omega)]
    show newI (vS3 s e) _ (vS3 s e).1 k = _
    rw [nI_n]
