/-! PLAIN SIDE: whether all rules by a set keep a law, both -/
set_option maxRecDepth 100000
theorem nfind_b {sh : SH} {I : II} {P M : Nat → Nat} (hP : NP3 I P) (h11 : I 11 3 = nI 4095) (h15 : ∀ h, h < 12 → I 15 h = nI (2 * M h) ∧ M h < 8) : ∃ (b : Bool) (I' : II), f_X5_finds FU sh I = some (bI b, I') ∧ (∀ x, x ≠ 15 → x ≠ 16 → I' x = I x) ∧ (b = true ↔ ∃ r, Fit P M r) := by
  obtain ⟨b, I', e1, e2, e3⟩ := nfind_ok (sh := sh) (by decide) hP h11 h15
  refine ⟨(skR P M 4095 12 0 (fun _ => 0)).isSome, I', ?_, e2, skR_iff⟩
  rw [e1]
  cases ho : skR P M 4095 12 0 (fun _ => 0) with
  | none => rw [ho] at e3; have e3 : b = nI 0 := e3; rw [e3]; rfl
  | some z => rw [ho] at e3; rw [e3.1]; rfl
theorem seek_b {I : II} {P M : Nat → Nat} (hW : MW3 I P M) : ∃ (b : Bool) (I' : II), f_X9_seek FU 13 (nI 0) (nI 4095) I = some (bI b, I') ∧ (∀ x, x ≠ 39 → I' x = I x) ∧ (b = true ↔ ∃ r, Fit P M r) := by
  obtain ⟨b, I', e1, e2, -, e3⟩ := seek_ok (P := P) (M := M) (H := 4095) (by decide) 12 0 13 I (fun _ => 0) (by omega) (by omega) hW (fun k hk => by omega)
  refine ⟨(skR P M 4095 12 0 (fun _ => 0)).isSome, I', ?_, e2, skR_iff⟩
  rw [e1]
  cases ho : skR P M 4095 12 0 (fun _ => 0) with
  | none => rw [ho] at e3; have e3 : b = nI 0 := e3; rw [e3]; rfl
  | some z => rw [ho] at e3; rw [e3.1]; rfl
theorem canBe_ok {sh : SH} {I0 I1 : II} {ow : Nat → Nat} {cl kd i c e : Nat} {T P M : Nat → Nat} (hM : Mrk ow) (hC : Cas sh I0 ow cl kd T) (hk : kd < 6) (hi : i < cN kd) (hwP : ∀ q, P q < 512) (hwM : ∀ q, M q < 8) (w13 : ∀ h, h < 12 → I0 13 h = nI (2 * M h)) (w14 : ∀ h k, h < k → k < 12 → I0 14 (12 * h + k) = nI (P (12 * h + k))) (c1 : 1 ≤ c) (c3 : c ≤ 3) (e1 : 1 ≤ e) (e3 : e ≤ 3) (hf : ∀ x, x ≠ 11 → x ≠ 15 → x ≠ 16 → I1 x = I0 x) : ∃ (b : Bool) (I2 : II), f_X0_canBe FU sh cl (nI i) (nI c) (nI e) I1 = some (bI b, I2) ∧ (∀ x, x ≠ 11 → x ≠ 15 → x ≠ 16 → I2 x = I0 x) ∧ (b = true ↔ ∃ r, Fit P M r ∧ r (cH (cF kd + i)) = c ∧ (prd kd = true → r (cK (cF kd + i)) = e)) := by
  have hcN := (cN_le _ hk).1
  obtain ⟨q1, q2, q3, q4⟩ := cs_ok _ hk i hi
  obtain ⟨I5, e5, b1, b2, b3, b4⟩ := begin_ok (sh := sh) (I := I1) (H := 4095)
  have f5 : ∀ x, x ≠ 11 → x ≠ 15 → x ≠ 16 → I5 x = I0 x := fun x x1 x2 x3 => by rw [b1 x x1 x2, hf x x1 x2 x3]
  have n0 : ∀ x, ow x = 0 → x ≠ 11 ∧ x ≠ 15 ∧ x ≠ 16 := fun x hx => ⟨hM.ne (by rw [hx]; decide) (by decide) (by decide), hM.ne (by rw [hx]; decide) (by decide) (by decide), hM.ne (by rw [hx]; decide) (by decide) (by decide)⟩
  have hC5 : Cas sh I5 ow cl kd T := hC.kept (fun x hx => f5 x (n0 x hx).1 (n0 x hx).2.1 (n0 x hx).2.2)
  have e15 : ∀ h, h < 12 → I5 15 h = nI (2 * M h) := fun h hh => by rw [b4 h hh, hf 13 (by decide) (by decide) (by decide), w13 h hh]
  have hC6 : ∀ k z, Cas sh (up2 I5 15 k z) ow cl kd T := fun k z => hC5.kept (fun x hx => up2_n (n0 x hx).2.1)
  have hP5 : NP3 I5 P := fun x y h1 h2 => by rw [f5 14 (by decide) (by decide) (by decide)]; exact ⟨w14 x y h1 h2, hwP _⟩
  obtain ⟨y1, y2, y3, ff, ss, gg, y4, y5, y6, y7, y8, y9, o1, o2, o3, y10⟩ := id hC5
  have y2' := (y10 i hi).2.1
  unfold f_X0_canBe
  rw [bind_ok e5, ock_ok y1.r, orf_ok y4, oarw_ok y7, oix_ok (j := i) rfl (by omega) (by decide), (y10 i hi).1]
  generalize hH : cH (cF kd + i) = h at q2 q3 ⊢
  have m1 := (msk_ok _ (hwM h) (c - 1) (by omega)).1
  rw [show c - 1 + 1 = c by omega] at m1
  unfold f_X5_keep
  rw [oix_ok (j := h) rfl (by omega) (by decide), oix_ok (j := h) rfl (by omega) (by decide), e15 h q2, m1, Option.bind_some, isPair_ok (hC6 _ _) hk hi, bind_if]
  cases hp : prd kd with
  | false =>
    rw [if_neg (by decide)]
    unfold f_X0_canBe_J47
    obtain ⟨b, I6, e6, g6, i6⟩ := nfind_b (sh := sh) (I := up2 I5 15 h (nI (2 * (M h &&& 2 ^ (c - 1))))) (P := P) (M := upN M h (M h &&& 2 ^ (c - 1))) (fun x y h1 h2 => by rw [up2_n (by decide)]; exact hP5 x y h1 h2) (by rw [up2_n (by decide)]; exact b3) (fun x hx => by
      by_cases ex : x = h
      · subst ex; rw [up2_eq, upN_s]; exact ⟨rfl, and_lt8 (hwM x)⟩
      · rw [up2_ne ex, upN_n ex]; exact ⟨e15 x hx, hwM x⟩)
    rw [bd2_ok e6, og_ok (bI_01 b)]
    refine ⟨b, I6, rfl, fun x x1 x2 x3 => by rw [g6 x x2 x3, up2_n x2, f5 x x1 x2 x3], ?_⟩
    rw [i6]
    constructor
    · rintro ⟨r, hr⟩
      obtain ⟨r1, r2⟩ := (fit_keep q2 c1).mp hr
      exact ⟨r, r1, r2, fun hz => by cases hz⟩
    · rintro ⟨r, r1, r2, -⟩
      exact ⟨r, (fit_keep q2 c1).mpr ⟨r1, r2⟩⟩
  | true =>
    obtain ⟨k1, k2, k3⟩ := q3 hp
    rw [k3] at y2'
    generalize hK : cK (cF kd + i) = k at k1 k2 y2' ⊢
    have m2 := (msk_ok _ (hwM k) (e - 1) (by omega)).1
    rw [show e - 1 + 1 = e by omega] at m2
    rw [if_pos rfl, orf_ok y5, oarw_ok y8, oix_ok (j := i) rfl (by omega) (by decide), up2_n (n0 _ o2).2.1, y2', oix_ok (j := k) rfl (by omega) (by decide), oix_ok (j := k) rfl (by omega) (by decide), up2_ne (Ne.symm k2), e15 k k1, m2, Option.bind_some]
    unfold f_X0_canBe_J47
    obtain ⟨b, I6, e6, g6, i6⟩ := nfind_b (sh := sh) (I := up2 (up2 I5 15 h (nI (2 * (M h &&& 2 ^ (c - 1))))) 15 k (nI (2 * (M k &&& 2 ^ (e - 1))))) (P := P) (M := upN (upN M h (M h &&& 2 ^ (c - 1))) k (upN M h (M h &&& 2 ^ (c - 1)) k &&& 2 ^ (e - 1))) (fun x y h1 h2 => by rw [up2_n (by decide), up2_n (by decide)]; exact hP5 x y h1 h2) (by rw [up2_n (by decide), up2_n (by decide)]; exact b3) (fun x hx => by
      by_cases ek : x = k
      · subst ek; rw [up2_eq, upN_s, upN_n (Ne.symm k2)]; exact ⟨rfl, and_lt8 (hwM x)⟩
      · rw [up2_ne ek, upN_n ek]
        by_cases ex : x = h
        · subst ex; rw [up2_eq, upN_s]; exact ⟨rfl, and_lt8 (hwM x)⟩
        · rw [up2_ne ex, upN_n ex]; exact ⟨e15 x hx, hwM x⟩)
    rw [bd2_ok e6, og_ok (bI_01 b)]
    refine ⟨b, I6, rfl, fun x x1 x2 x3 => by rw [g6 x x2 x3, up2_n x2, up2_n x2, f5 x x1 x2 x3], ?_⟩
    rw [i6]
    constructor
    · rintro ⟨r, hr⟩
      obtain ⟨r1, r2⟩ := (fit_keep k1 e1).mp hr
      obtain ⟨r3, r4⟩ := (fit_keep q2 c1).mp r1
      exact ⟨r, r3, r4, fun _ => r2⟩
    · rintro ⟨r, r1, r2, r3⟩
      exact ⟨r, (fit_keep k1 e1).mpr ⟨(fit_keep q2 c1).mpr ⟨r1, r2⟩, r3 rfl⟩⟩
/-- one case with one pair of choices holds -/
def Hol (a : AS) (l : Nat) (P M : Nat → Nat) (i c e : Nat) : Prop := gob a l i c e = true ∨ ¬ ∃ r, Fit P M r ∧ r (cH (cF (aK a l) + i)) = c ∧ (prd (aK a l) = true → r (cK (cF (aK a l) + i)) = e)
theorem holds_ok {sh : SH} {I0 : II} {ow : Nat → Nat} {t : Nat} {a : AS} {l dm : Nat} {P M : Nat → Nat} (ht : t ≠ 9) (hM : Mrk ow) (hD : Dem sh I0 ow t a l dm) (hA : AOK a) (hl : l < aN a) (hwP : ∀ q, P q < 512) (hwM : ∀ q, M q < 8) (w13 : ∀ h, h < 12 → I0 13 h = nI (2 * M h)) (w14 : ∀ h k, h < k → k < 12 → I0 14 (12 * h + k) = nI (P (12 * h + k))) : ∃ (b : Bool) (I2 : II), f_X0_holds FU sh dm I0 = some (bI b, I2) ∧ (∀ x, x ≠ 11 → x ≠ 15 → x ≠ 16 → I2 x = I0 x) ∧ (b = true ↔ Keeps a l P M) := by
  have F5 := FU5
  have hk := (hA.2.2.2.2.1 l hl).1
  have hcN := (cN_le _ hk).1
  obtain ⟨x1, x2, x3, x4, x5, cl, x6, hC⟩ := id hD
  have nt : ∀ x, ow x = t ∨ ow x = 0 → x ≠ 11 ∧ x ≠ 15 ∧ x ≠ 16 := fun x hx => by
    have h9 : ow x ≠ 9 := by
      rcases hx with hx | hx
      · rw [hx]; exact ht
      · rw [hx]; decide
    exact ⟨hM.ne h9 (by decide) (by decide), hM.ne h9 (by decide) (by decide), hM.ne h9 (by decide) (by decide)⟩
  -- the choices of the second hall
  have l39 : ∀ (i c D : Nat) (k10 k26 : Int32 → Int32 → II → Option (Int32 × II)), i < cN (aK a l) → 1 ≤ c → c ≤ 3 → D = (if prd (aK a l) = true then 3 else 1) → ∀ (m d q : Nat) (I1 : II), d + m = D + 1 → 1 ≤ d → m + 2 ≤ q → (∀ x, x ≠ 11 → x ≠ 15 → x ≠ 16 → I1 x = I0 x) → ∃ (b : Bool) (I2 : II), f_X0_holds_L39 FU sh k10 k26 dm cl (nI i) (nI c) q (nI 1) (nI d) I1 = k26 (bI b) (nI (c + 1)) I2 ∧ (∀ x, x ≠ 11 → x ≠ 15 → x ≠ 16 → I2 x = I0 x) ∧ (b = true ↔ ∀ e, d ≤ e → e ≤ D → Hol a l P M i c e) := by
    intro i c D k10 k26 hi c1 c3 hDD m
    have hD3 : D ≤ 3 := by rw [hDD]; split <;> omega
    induction m with
    | zero =>
      intro d q I1 hd d1 hq g1
      obtain ⟨q, rfl⟩ := pred1 (k := 1) (n := q) (by omega)
      have hC1 : Cas sh I1 ow cl (aK a l) (aX a l) := hC.kept (fun x hx => g1 x (nt x (Or.inr hx)).1 (nt x (Or.inr hx)).2.1 (nt x (Or.inr hx)).2.2)
      refine ⟨true, I1, ?_, g1, ?_⟩
      · rw [f_X0_holds_L39, ock_ok hC1.1.r, isPair_ok hC1 hk hi, bind_if]
        unfold f_X0_holds_J55
        cases hp : prd (aK a l) with
        | true =>
          rw [hp] at hDD
          rw [if_pos rfl] at hDD ⊢
          rw [if_pos (by rw [nI_ltI (by omega) (by omega)]; omega), nI_add]
          rfl
        | false =>
          rw [hp] at hDD
          rw [if_neg (by decide)] at hDD ⊢
          rw [if_pos (by rw [nI_ltI (by omega) (by omega)]; omega), nI_add]
          rfl
      · exact ⟨fun _ e h1 h2 => by omega, fun _ => rfl⟩
    | succ m im =>
      intro d q I1 hd d1 hq g1
      obtain ⟨q, rfl⟩ := pred1 (k := 1) (n := q) (by omega)
      have hC1 : Cas sh I1 ow cl (aK a l) (aX a l) := hC.kept (fun x hx => g1 x (nt x (Or.inr hx)).1 (nt x (Or.inr hx)).2.1 (nt x (Or.inr hx)).2.2)
      have hD1 : Dem sh I1 ow t a l dm := hD.kept (fun x hx => g1 x (nt x hx).1 (nt x hx).2.1 (nt x hx).2.2)
      have one : f_X0_holds_L39 FU sh k10 k26 dm cl (nI i) (nI c) (q + 1) (nI 1) (nI d) I1 = if gob a l i c d = true then f_X0_holds_L39 FU sh k10 k26 dm cl (nI i) (nI c) q (nI 1) (nI (d + 1)) I1 else bd2 (f_X0_canBe FU sh cl (nI i) (nI c) (nI d) I1) fun r83 I83 => if r83 = 0 then f_X0_holds_L39 FU sh k10 k26 dm cl (nI i) (nI c) q (nI 1) (nI (d + 1)) I83 else f_X0_holds_L39 FU sh k10 k26 dm cl (nI i) (nI c) q (nI 0) (nI (d + 1)) I83 := by
        rw [f_X0_holds_L39, ock_ok hC1.1.r, isPair_ok hC1 hk hi, bind_if]
        unfold f_X0_holds_J55
        rw [vgoes_ok hD1 hA hl hi c1 c3 d1 (by omega), bind_if, nI_add]
        cases hp : prd (aK a l) with
        | true =>
          rw [hp] at hDD
          rw [if_pos rfl] at hDD ⊢
          rw [if_neg (nI_nlt (by omega) (by omega)), if_neg (by decide), nI_add]
        | false =>
          rw [hp] at hDD
          rw [if_neg (by decide)] at hDD ⊢
          rw [if_neg (nI_nlt (by omega) (by omega)), if_neg (by decide), nI_add]
      rw [one]
      by_cases hg : gob a l i c d = true
      · rw [if_pos hg]
        obtain ⟨b, I2, e2, g2, b2⟩ := im (d + 1) q I1 (by omega) (by omega) (by omega) g1
        refine ⟨b, I2, e2, g2, ?_⟩
        rw [b2]
        constructor
        · intro h e h1 h2
          by_cases ee : e = d
          · subst ee; exact Or.inl hg
          · exact h e (by omega) h2
        · intro h e h1 h2
          exact h e (by omega) h2
      · rw [if_neg hg]
        obtain ⟨b, I2, e2, g2, b2⟩ := canBe_ok (e := d) hM hC hk hi hwP hwM w13 w14 c1 c3 d1 (by omega) g1
        rw [bd2_ok e2]
        cases b with
        | false =>
          rw [if_pos (show bI false = 0 from rfl)]
          obtain ⟨b, I3, e3, g3, b3⟩ := im (d + 1) q I2 (by omega) (by omega) (by omega) g2
          refine ⟨b, I3, e3, g3, ?_⟩
          rw [b3]
          constructor
          · intro h e h1 h2
            by_cases ee : e = d
            · subst ee; exact Or.inr (fun hh => by have := b2.mpr hh; cases this)
            · exact h e (by omega) h2
          · intro h e h1 h2
            exact h e (by omega) h2
        | true =>
          rw [if_neg (show ¬ bI true = 0 by decide)]
          obtain ⟨q, rfl⟩ := pred1 (k := 0) (n := q) (by omega)
          have hC2 : Cas sh I2 ow cl (aK a l) (aX a l) := hC.kept (fun x hx => g2 x (nt x (Or.inr hx)).1 (nt x (Or.inr hx)).2.1 (nt x (Or.inr hx)).2.2)
          refine ⟨false, I2, ?_, g2, ?_⟩
          · rw [f_X0_holds_L39, ock_ok hC2.1.r, isPair_ok hC2 hk hi, bind_if]
            unfold f_X0_holds_J55
            rw [if_pos (show nI 0 = 0 from rfl), ite_self, ite_self, ite_self, nI_add]
            rfl
          · refine ⟨fun h => (by cases h), fun h => ?_⟩
            rcases h d (by omega) (by omega) with h | h
            · exact absurd h hg
            · exact absurd (b2.mp rfl) h
  -- the choices of the first one
  have l26 : ∀ (i : Nat) (k10 : Int32 → Int32 → II → Option (Int32 × II)), i < cN (aK a l) → ∀ (m c q : Nat) (I1 : II), c + m = 4 → 1 ≤ c → m + 2 ≤ q → (∀ x, x ≠ 11 → x ≠ 15 → x ≠ 16 → I1 x = I0 x) → ∃ (b : Bool) (I2 : II), f_X0_holds_L26 FU sh k10 dm cl (nI i) q (nI 1) (nI c) I1 = k10 (bI b) (nI (i + 1)) I2 ∧ (∀ x, x ≠ 11 → x ≠ 15 → x ≠ 16 → I2 x = I0 x) ∧ (b = true ↔ ∀ c', c ≤ c' → c' ≤ 3 → ∀ e, 1 ≤ e → e ≤ (if prd (aK a l) = true then 3 else 1) → Hol a l P M i c' e) := by
    intro i k10 hi m
    induction m with
    | zero =>
      intro c q I1 hc c1 hq g1
      obtain ⟨q, rfl⟩ := pred1 (k := 1) (n := q) (by omega)
      obtain rfl : c = 4 := by omega
      refine ⟨true, I1, ?_, g1, fun _ c' h1 h2 => by omega, fun _ => rfl⟩
      rw [f_X0_holds_L26, if_pos (by decide), nI_add]
      rfl
    | succ m im =>
      intro c q I1 hc c1 hq g1
      obtain ⟨q, rfl⟩ := pred1 (k := 1) (n := q) (by omega)
      rw [f_X0_holds_L26, if_neg (nI_nlt (by omega) (by omega)), if_neg (by decide)]
      obtain ⟨b, I2, e2, g2, b2⟩ := l39 i c _ k10 (f_X0_holds_L26 FU sh k10 dm cl (nI i) q) hi c1 (by omega) rfl (if prd (aK a l) = true then 3 else 1) 1 FU I1 (by omega) (by omega) (by split <;> omega) g1
      rw [e2]
      cases b with
      | true =>
        obtain ⟨b, I3, e3, g3, b3⟩ := im (c + 1) q I2 (by omega) (by omega) (by omega) g2
        refine ⟨b, I3, e3, g3, ?_⟩
        rw [b3]
        constructor
        · intro h c' h1 h2
          by_cases ee : c' = c
          · subst ee; exact b2.mp rfl
          · exact h c' (by omega) h2
        · intro h c' h1 h2
          exact h c' (by omega) h2
      | false =>
        obtain ⟨q, rfl⟩ := pred1 (k := 0) (n := q) (by omega)
        refine ⟨false, I2, ?_, g2, fun h => (by cases h), fun h => b2.mpr (h c (by omega) (by omega))⟩
        rw [f_X0_holds_L26, if_pos (show bI false = 0 from rfl), ite_self, nI_add]
  have l10 : ∀ (m i q : Nat) (I1 : II), i + m = cN (aK a l) → m + 2 ≤ q → (∀ x, x ≠ 11 → x ≠ 15 → x ≠ 16 → I1 x = I0 x) → ∃ (b : Bool) (I2 : II), f_X0_holds_L10 FU sh dm cl q (nI 1) (nI i) I1 = some (bI b, I2) ∧ (∀ x, x ≠ 11 → x ≠ 15 → x ≠ 16 → I2 x = I0 x) ∧ (b = true ↔ ∀ j, i ≤ j → j < cN (aK a l) → ∀ c', 1 ≤ c' → c' ≤ 3 → ∀ e, 1 ≤ e → e ≤ (if prd (aK a l) = true then 3 else 1) → Hol a l P M j c' e) := by
    intro m
    induction m with
    | zero =>
      intro i q I1 hi hq g1
      obtain ⟨q, rfl⟩ := pred1 (k := 1) (n := q) (by omega)
      have hC1 : Cas sh I1 ow cl (aK a l) (aX a l) := hC.kept (fun x hx => g1 x (nt x (Or.inr hx)).1 (nt x (Or.inr hx)).2.1 (nt x (Or.inr hx)).2.2)
      refine ⟨true, I1, ?_, g1, fun _ j h1 h2 => by omega, fun _ => rfl⟩
      rw [f_X0_holds_L10, ock_ok hC1.1.r, hC1.2.2.1, if_pos (nI_le (by omega) (by omega)), og_ok (Or.inr (by decide))]
      rfl
    | succ m im =>
      intro i q I1 hi hq g1
      obtain ⟨q, rfl⟩ := pred1 (k := 1) (n := q) (by omega)
      have hC1 : Cas sh I1 ow cl (aK a l) (aX a l) := hC.kept (fun x hx => g1 x (nt x (Or.inr hx)).1 (nt x (Or.inr hx)).2.1 (nt x (Or.inr hx)).2.2)
      rw [f_X0_holds_L10, ock_ok hC1.1.r, hC1.2.2.1, if_neg (nI_ge (by omega) (by omega)), if_neg (by decide)]
      obtain ⟨b, I2, e2, g2, b2⟩ := l26 i (f_X0_holds_L10 FU sh dm cl q) (by omega) 3 1 FU I1 (by omega) (by omega) (by omega) g1
      rw [e2]
      cases b with
      | true =>
        obtain ⟨b, I3, e3, g3, b3⟩ := im (i + 1) q I2 (by omega) (by omega) g2
        refine ⟨b, I3, e3, g3, ?_⟩
        rw [b3]
        constructor
        · intro h j h1 h2
          by_cases ee : j = i
          · subst ee; exact b2.mp rfl
          · exact h j (by omega) h2
        · intro h j h1 h2
          exact h j (by omega) h2
      | false =>
        obtain ⟨q, rfl⟩ := pred1 (k := 0) (n := q) (by omega)
        have hC2 : Cas sh I2 ow cl (aK a l) (aX a l) := hC.kept (fun x hx => g2 x (nt x (Or.inr hx)).1 (nt x (Or.inr hx)).2.1 (nt x (Or.inr hx)).2.2)
        refine ⟨false, I2, ?_, g2, fun h => (by cases h), fun h => b2.mpr (h i (by omega) (by omega))⟩
        rw [f_X0_holds_L10, ock_ok hC2.1.r, if_pos (show bI false = 0 from rfl), ite_self, og_ok (Or.inl (by decide))]
  obtain ⟨b, I2, e2, g2, b2⟩ := l10 (cN (aK a l)) 0 FU I0 (by omega) (by omega) (fun _ _ _ _ => rfl)
  refine ⟨b, I2, ?_, g2, ?_⟩
  · unfold f_X0_holds
    rw [ockD_ok x1.r hk, orf_ok x6]
    exact e2
  · rw [b2]
    constructor
    · intro h j hj r hr
      obtain ⟨q1, q2, q3, q4⟩ := cs_ok _ hk j hj
      obtain ⟨r1, r2, -⟩ := hr.1 _ q2
      cases hp : prd (aK a l) with
      | true =>
        obtain ⟨k1, -, -⟩ := q3 hp
        obtain ⟨s1, s2, -⟩ := hr.1 _ k1
        rcases h j (by omega) hj _ r1 r2 (r (cK (cF (aK a l) + j))) s1 (by rw [hp, if_pos rfl]; exact s2) with h | h
        · exact h
        · exact absurd ⟨r, hr, rfl, fun _ => rfl⟩ h
      | false =>
        rcases h j (by omega) hj _ r1 r2 1 (by omega) (by rw [hp, if_neg (by decide)]; omega) with h | h
        · unfold gob at h ⊢
          rw [hp, if_neg (by decide)] at h ⊢
          exact h
        · exact absurd ⟨r, hr, rfl, fun hz => (by rw [hp] at hz; cases hz)⟩ h
    · intro h j _ hj c' c1 c3 e e1 e3
      by_cases hx : ∃ r, Fit P M r ∧ r (cH (cF (aK a l) + j)) = c' ∧ (prd (aK a l) = true → r (cK (cF (aK a l) + j)) = e)
      · obtain ⟨r, hr, r1, r2⟩ := hx
        left
        have hg := h j hj r hr
        rw [r1] at hg
        cases hp : prd (aK a l) with
        | true => rwa [r2 hp] at hg
        | false =>
          unfold gob at hg ⊢
          rw [hp, if_neg (by decide)] at hg ⊢
          exact hg
      · exact Or.inr hx
/-! the reference -/
theorem b9 : ∀ j, j < 9 → (511).testBit j = true := by decide
theorem ncut {p x : Nat} (hp : p < 512) : nI p &&& (nI x ^^^ (-1)) = nI (p &&& (511 ^^^ x)) := by
  apply Int32.toBitVec_inj.1
  apply BitVec.eq_of_getLsbD_eq
  intro k hk
  rw [Int32.toBitVec_and, Int32.toBitVec_xor, BitVec.getLsbD_and, BitVec.getLsbD_xor, bvb x k hk, bvb p k hk, bvb _ k hk, m1b k hk, Nat.testBit_and, Nat.testBit_xor]
  by_cases h9 : k < 9
  · rw [b9 k h9, Bool.xor_comm true]
  · have : p.testBit k = false := Nat.testBit_lt_two_pow (Nat.lt_of_lt_of_le hp (Nat.le_trans (show 512 ≤ 2 ^ 9 by decide) (Nat.pow_le_pow_right (by decide) (by omega))))
    rw [this, Bool.false_and, Bool.false_and]
theorem cmp_bit {x j : Nat} (hj : j < 9) : (511 ^^^ x).testBit j = !x.testBit j := by rw [Nat.testBit_xor, b9 j hj]; simp
theorem cmp_lt {x : Nat} (hx : x < 512) : 511 ^^^ x < 512 := Nat.xor_lt_two_pow (n := 9) (by decide) hx
theorem flpN_ok : ∀ x, x < 512 → f_X9_flipped FU (nI x ^^^ (-1)) = some (nI (flp (511 ^^^ x))) := by decide +kernel
theorem isFol_ok {I : II} {a : AS} {s l : Nat} (hR : RowIs (I 28) a) (hA : AOK a) (hT : Tab I) (hs : s < 256) (hl : l < aN a) : ∃ I2, f_X9_isFollowing FU (nI s) (nI l) I = some (bI (keepB a l s), I2) ∧ ∀ x, x ≠ 37 → x ≠ 38 → x ≠ 39 → I2 x = I x := by
  have F5 := FU5
  have hk := (hA.2.2.2.2.1 l hl).1
  have hcN := (cN_le _ hk).1
  have hn8 := hA.1
  have hw := web_ok a s
  obtain ⟨I1, e1, g1⟩ := gather_ok hR hA hT hs
  have loop : ∀ (d i q : Nat) (I3 : II), i + d = cN (aK a l) → d + 1 ≤ q → (∀ x, x ≠ 37 → x ≠ 38 → x ≠ 39 → I3 x = I x) → MW3 I3 (web a s).1 (web a s).2 → ∃ (b : Bool) (I4 : II), f_X9_isFollowing_L7 FU (nI l) q (nI i) I3 = some (bI b, I4) ∧ (∀ x, x ≠ 37 → x ≠ 38 → x ≠ 39 → I4 x = I x) ∧ (b = true ↔ ∀ j, i ≤ j → j < cN (aK a l) → ∀ r, Fit (web a s).1 (web a s).2 r → gob a l j (r (cH (cF (aK a l) + j))) (r (cK (cF (aK a l) + j))) = true) := by
    intro d
    induction d with
    | zero =>
      intro i q I3 hi hq k1 k2
      obtain ⟨q, rfl⟩ := pred1 hq
      have hR3 : RowIs (I3 28) a := by rw [k1 28 (by decide) (by decide) (by decide)]; exact hR
      have hT3 : Tab I3 := hT.of (k1 _ (by decide) (by decide) (by decide)) (k1 _ (by decide) (by decide) (by decide)) (k1 _ (by decide) (by decide) (by decide)) (k1 _ (by decide) (by decide) (by decide))
      refine ⟨true, I3, ?_, k1, fun _ j h1 h2 => by omega, fun _ => rfl⟩
      rw [f_X9_isFollowing_L7, casesOf_ok hR3 hA hT3 hl, Option.bind_some, if_pos (nI_le (by omega) (by omega))]
      rfl
    | succ d ih =>
      intro i q I3 hi hq k1 k2
      obtain ⟨q, rfl⟩ := pred1 hq
      replace hq := Nat.le_of_succ_le_succ hq
      have hic : i < cN (aK a l) := by omega
      have hR3 : RowIs (I3 28) a := by rw [k1 28 (by decide) (by decide) (by decide)]; exact hR
      have hT3 : Tab I3 := hT.of (k1 _ (by decide) (by decide) (by decide)) (k1 _ (by decide) (by decide) (by decide)) (k1 _ (by decide) (by decide) (by decide)) (k1 _ (by decide) (by decide) (by decide))
      obtain ⟨q1, q2, q3, q4⟩ := cs_ok _ hk i hic
      have hx := (hA.2.2.2.2.1 l hl).2.2 i hic
      have hx9 := tmax_le hx
      have htab := (hR3.2.2.2.2.1 l hl).2.2 i hic
      -- how it ends, once it is known whether some rule breaks the case
      have fin : ∀ (b : Bool) (I4 : II), (b = true ↔ ∃ r, Fit (web a s).1 (web a s).2 r ∧ gob a l i (r (cH (cF (aK a l) + i))) (r (cK (cF (aK a l) + i))) = false) → (∀ x, x ≠ 37 → x ≠ 38 → x ≠ 39 → I4 x = I x) → MW3 I4 (web a s).1 (web a s).2 → ∃ (b' : Bool) (I5 : II), (if bI b = 0 then f_X9_isFollowing_L7 FU (nI l) q (nI (i + 1)) I4 else some (nI 0, I4)) = some (bI b', I5) ∧ (∀ x, x ≠ 37 → x ≠ 38 → x ≠ 39 → I5 x = I x) ∧ (b' = true ↔ ∀ j, i ≤ j → j < cN (aK a l) → ∀ r, Fit (web a s).1 (web a s).2 r → gob a l j (r (cH (cF (aK a l) + j))) (r (cK (cF (aK a l) + j))) = true) := by
        intro b I4 hb z1 z2
        cases b with
        | false =>
          rw [if_pos (show bI false = 0 from rfl)]
          obtain ⟨b', I5, e5, g5, b5⟩ := ih (i + 1) q I4 (by omega) hq z1 z2
          refine ⟨b', I5, e5, g5, ?_⟩
          rw [b5]
          constructor
          · intro h j h1 h2 r hr
            by_cases ee : j = i
            · subst ee
              cases hg : gob a l j (r (cH (cF (aK a l) + j))) (r (cK (cF (aK a l) + j))) with
              | true => rfl
              | false => have := hb.mpr ⟨r, hr, hg⟩; cases this
            · exact h j (by omega) h2 r hr
          · intro h j h1 h2
            exact h j (by omega) h2
        | true =>
          rw [if_neg (show ¬ bI true = 0 by decide)]
          refine ⟨false, I4, rfl, z1, fun h => (by cases h), fun h => ?_⟩
          obtain ⟨r, hr, hg⟩ := hb.mp rfl
          rw [h i (by omega) hic r hr] at hg
          cases hg
      rw [f_X9_isFollowing_L7, casesOf_ok hR3 hA hT3 hl, Option.bind_some, if_neg (nI_ge hic (by omega)), hallOf_ok hR3 hA hT3 hl hic, Option.bind_some, otherOf_ok hR3 hA hT3 hl hic, Option.bind_some, oix_ok (j := 110 + 32 * l + i) (by rw [pk_mul, nI_add, nI_add]) (by omega) (by decide), htab]
      unfold f_X9_isFollowing_J88 f_X9_isFollowing_J174
      rw [nI_add]
      generalize hH : cH (cF (aK a l) + i) = h at q2 q3 fin ⊢
      cases hp : prd (aK a l) with
      | false =>
        have hx8 : aX a l i < 8 := by
          unfold tmax at hx
          rw [if_neg (by rw [hp]; decide)] at hx
          exact hx
        obtain ⟨m1, m2⟩ := k2.1 h q2
        have hz : ∀ r : Nat → Nat, gob a l i (r h) (r (cK (cF (aK a l) + i))) = (aX a l i).testBit (r h - 1) := fun r => by unfold gob; rw [hp, if_neg (by decide)]
        obtain ⟨b, I6, e6, g6, b6⟩ := seek_b (I := up2 I3 37 h (nI ((web a s).2 h &&& (511 ^^^ aX a l i)))) (P := (web a s).1) (M := upN (web a s).2 h ((web a s).2 h &&& (511 ^^^ aX a l i))) ⟨fun x hx => by
          by_cases ex : x = h
          · subst ex; rw [up2_eq, upN_s]; exact ⟨rfl, and_lt8 m2⟩
          · rw [up2_ne ex, upN_n ex]; exact k2.1 x hx, fun x y h1 h2 => by rw [up2_n (by decide)]; exact k2.2 x y h1 h2⟩
        rw [q4 hp, if_neg (by decide), oix_ok (j := h) rfl q2 (by decide), if_neg (by decide), oix_ok (j := h) rfl q2 (by decide), m1, ncut (by omega), bd2_ok e6, oix_ok (j := h) rfl q2 (by decide)]
        refine fin b _ ?_ (fun x x1 x2 x3 => by rw [up2_n x1, g6 x x3, up2_n x1]; exact k1 x x1 x2 x3) ⟨fun x hx => ?_, fun x y h1 h2 => ?_⟩
        · rw [b6]
          constructor
          · rintro ⟨r, hr⟩
            obtain ⟨r1, r2⟩ := (fit_cutM q2).mp hr
            refine ⟨r, r1, ?_⟩
            obtain ⟨s1, s2, -⟩ := r1.1 h q2
            rw [cmp_bit (by omega)] at r2
            rw [hz]
            simpa using r2
          · rintro ⟨r, hr, hg⟩
            obtain ⟨s1, s2, -⟩ := hr.1 h q2
            refine ⟨r, (fit_cutM q2).mpr ⟨hr, ?_⟩⟩
            rw [cmp_bit (by omega)]
            rw [hz] at hg
            rw [hg]
            rfl
        · by_cases ex : x = h
          · subst ex; rw [up2_eq]; exact ⟨rfl, m2⟩
          · rw [up2_ne ex, g6 37 (by decide), up2_ne ex]; exact k2.1 x hx
        · rw [up2_n (by decide), g6 38 (by decide), up2_n (by decide)]; exact k2.2 x y h1 h2
      | true =>
        obtain ⟨u1, u2, u3⟩ := q3 hp
        rw [u3]
        generalize hK : cK (cF (aK a l) + i) = k at u1 u2 fin ⊢
        have hz : ∀ r : Nat → Nat, gob a l i (r h) (r k) = (aX a l i).testBit (3 * (r h - 1) + (r k - 1)) := fun r => by unfold gob; rw [hp, if_pos rfl]
        have ge0 : (0 : Int32) ≤ nI k := nI_pos' (by omega)
        rw [if_pos ge0]
        by_cases hlt : h < k
        · have em : (if nI k < nI h then nI k else nI h) = nI h := if_neg (nI_nlt (by omega) (by omega))
          have ex : (if nI h < nI k then nI k else nI h) = nI k := if_pos (by rw [nI_ltI (by omega) (by omega)]; exact hlt)
          obtain ⟨m1, m2⟩ := k2.2 h k hlt u1
          obtain ⟨b, I6, e6, g6, b6⟩ := seek_b (I := up2 I3 38 (12 * h + k) (nI ((web a s).1 (12 * h + k) &&& (511 ^^^ aX a l i)))) (P := upN (web a s).1 (12 * h + k) ((web a s).1 (12 * h + k) &&& (511 ^^^ aX a l i))) (M := (web a s).2) ⟨fun x hx => by rw [up2_n (by decide)]; exact k2.1 x hx, fun x y h1 h2 => by
            by_cases ex : 12 * x + y = 12 * h + k
            · rw [ex, up2_eq, upN_s]; exact ⟨rfl, and_lt9 m2⟩
            · rw [up2_ne ex, upN_n ex]; exact k2.2 x y h1 h2⟩
          rw [em, ex, oix_ok (j := 12 * h + k) (by rw [pk_mul, nI_add]) (by omega) (by decide), if_pos ge0, if_neg (nI_ge hlt (by omega)), oix_ok (j := 12 * h + k) (by rw [pk_mul, nI_add]) (by omega) (by decide), m1, ncut m2, bd2_ok e6, oix_ok (j := 12 * h + k) (by rw [pk_mul, nI_add]) (by omega) (by decide)]
          refine fin b _ ?_ (fun x x1 x2 x3 => by rw [up2_n x2, g6 x x3, up2_n x2]; exact k1 x x1 x2 x3) ⟨fun x hx => by rw [up2_n (by decide), g6 37 (by decide), up2_n (by decide)]; exact k2.1 x hx, fun x y h1 h2 => ?_⟩
          · rw [b6]
            constructor
            · rintro ⟨r, hr⟩
              obtain ⟨r1, r2⟩ := (fit_cutP hlt u1).mp hr
              refine ⟨r, r1, ?_⟩
              obtain ⟨s1, s2, -⟩ := r1.1 h q2
              obtain ⟨s3, s4, -⟩ := r1.1 k u1
              rw [cmp_bit (by omega)] at r2
              rw [hz]
              simpa using r2
            · rintro ⟨r, hr, hg⟩
              obtain ⟨s1, s2, -⟩ := hr.1 h q2
              obtain ⟨s3, s4, -⟩ := hr.1 k u1
              refine ⟨r, (fit_cutP hlt u1).mpr ⟨hr, ?_⟩⟩
              rw [cmp_bit (by omega)]
              rw [hz] at hg
              rw [hg]
              rfl
          · by_cases ex : 12 * x + y = 12 * h + k
            · rw [ex, up2_eq]; exact ⟨rfl, m2⟩
            · rw [up2_ne ex, g6 38 (by decide), up2_ne ex]; exact k2.2 x y h1 h2
        · have hlt' : k < h := by omega
          have em : (if nI k < nI h then nI k else nI h) = nI k := if_pos (by rw [nI_ltI (by omega) (by omega)]; exact hlt')
          have ex : (if nI h < nI k then nI k else nI h) = nI h := if_neg (nI_nlt (by omega) (by omega))
          obtain ⟨m1, m2⟩ := k2.2 k h hlt' q2
          obtain ⟨b, I6, e6, g6, b6⟩ := seek_b (I := up2 I3 38 (12 * k + h) (nI ((web a s).1 (12 * k + h) &&& flp (511 ^^^ aX a l i)))) (P := upN (web a s).1 (12 * k + h) ((web a s).1 (12 * k + h) &&& flp (511 ^^^ aX a l i))) (M := (web a s).2) ⟨fun x hx => by rw [up2_n (by decide)]; exact k2.1 x hx, fun x y h1 h2 => by
            by_cases ex : 12 * x + y = 12 * k + h
            · rw [ex, up2_eq, upN_s]; exact ⟨rfl, and_lt9 m2⟩
            · rw [up2_ne ex, upN_n ex]; exact k2.2 x y h1 h2⟩
          rw [em, ex, oix_ok (j := 12 * k + h) (by rw [pk_mul, nI_add]) (by omega) (by decide), if_pos ge0, if_pos (nI_le (by omega) (by omega)), flpN_ok _ hx9, Option.bind_some, oix_ok (j := 12 * k + h) (by rw [pk_mul, nI_add]) (by omega) (by decide), m1, nx_and9, bd2_ok e6, oix_ok (j := 12 * k + h) (by rw [pk_mul, nI_add]) (by omega) (by decide)]
          refine fin b _ ?_ (fun x x1 x2 x3 => by rw [up2_n x2, g6 x x3, up2_n x2]; exact k1 x x1 x2 x3) ⟨fun x hx => by rw [up2_n (by decide), g6 37 (by decide), up2_n (by decide)]; exact k2.1 x hx, fun x y h1 h2 => ?_⟩
          · rw [b6]
            constructor
            · rintro ⟨r, hr⟩
              obtain ⟨r1, r2⟩ := (fit_cutP hlt' q2).mp hr
              refine ⟨r, r1, ?_⟩
              obtain ⟨s1, s2, -⟩ := r1.1 h q2
              obtain ⟨s3, s4, -⟩ := r1.1 k u1
              rw [flp_bit _ (cmp_lt hx9) (r k - 1) (by omega) (r h - 1) (by omega), cmp_bit (by omega)] at r2
              rw [hz]
              simpa using r2
            · rintro ⟨r, hr, hg⟩
              obtain ⟨s1, s2, -⟩ := hr.1 h q2
              obtain ⟨s3, s4, -⟩ := hr.1 k u1
              refine ⟨r, (fit_cutP hlt' q2).mpr ⟨hr, ?_⟩⟩
              rw [flp_bit _ (cmp_lt hx9) (r k - 1) (by omega) (r h - 1) (by omega), cmp_bit (by omega)]
              rw [hz] at hg
              rw [hg]
              rfl
          · by_cases ex : 12 * x + y = 12 * k + h
            · rw [ex, up2_eq]; exact ⟨rfl, m2⟩
            · rw [up2_ne ex, g6 38 (by decide), up2_ne ex]; exact k2.2 x y h1 h2
  obtain ⟨b, I4, e4, g4, b4⟩ := loop (cN (aK a l)) 0 FU I1 (by omega) (by omega) (fun x x1 x2 x3 => g1.1 x x1 x2) (g1.mw hw)
  have hb : b = keepB a l s := by
    rw [Bool.eq_iff_iff, b4, keepB_iff]
    exact ⟨fun h j hj => h j (by omega) hj, fun h j _ hj => h j hj⟩
  refine ⟨I4, ?_, g4⟩
  unfold f_X9_isFollowing
  rw [bind_ok e1, e4, hb]
