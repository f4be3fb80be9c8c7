/-! PLAIN SIDE: the reference strikes the same; showing -/
set_option maxRecDepth 100000
def MSt (I : II) (s : SS) : Prop := (∀ h, h < 12 → I 41 h = nI (s.1 h)) ∧ (∀ k, k < s.2.2 → I 42 k = nI (s.2.1 k)) ∧ I 27 25 = nI s.2.2
def MFr (I I' : II) : Prop := (∀ x, x ≠ 41 → x ≠ 42 → x ≠ 27 → I' x = I x) ∧ ∀ k, k ≠ 25 → I' 27 k = I 27 k
theorem MFr.refl {I : II} : MFr I I := ⟨fun _ _ _ _ => rfl, fun _ _ => rfl⟩
theorem MFr.trans {I J K : II} (h : MFr I J) (g : MFr J K) : MFr I K := ⟨fun x x1 x2 x3 => by rw [g.1 x x1 x2 x3, h.1 x x1 x2 x3], fun k hk => by rw [g.2 k hk, h.2 k hk]⟩
theorem MFr.row {I I' : II} {a : AS} (h : MFr I I') (hR : RowIs (I 28) a) : RowIs (I' 28) a := by rw [h.1 28 (by decide) (by decide) (by decide)]; exact hR
theorem MFr.tab {I I' : II} (h : MFr I I') (hT : Tab I) : Tab I' := hT.of (h.1 _ (by decide) (by decide) (by decide)) (h.1 _ (by decide) (by decide) (by decide)) (h.1 _ (by decide) (by decide) (by decide)) (h.1 _ (by decide) (by decide) (by decide))
theorem isEmpty_ok {I : II} {L : Nat → Nat} (hL : ∀ h, h < 12 → I 41 h = nI (L h) ∧ L h < 16) : f_X9_isEmpty FU I = some (bI (empt L)) := by
  have F5 := FU5
  have loop : ∀ (d k q : Nat) (b : Bool), k + d = 12 → d + 1 ≤ q → f_X9_isEmpty_L4 FU I q (bI b) (nI k) = some (bI (b || exF L d k)) := by
    intro d
    induction d with
    | zero =>
      intro k q b hk hq
      obtain ⟨q, rfl⟩ := pred1 hq
      obtain rfl : k = 12 := by omega
      rw [f_X9_isEmpty_L4, if_pos (by decide), og_ok (bI_01 b), exF, Bool.or_false]
    | succ d ih =>
      intro k q b hk hq
      obtain ⟨q, rfl⟩ := pred1 hq
      replace hq := Nat.le_of_succ_le_succ hq
      have i1 := ih (k + 1) q true (by omega) hq
      have i0 := ih (k + 1) q false (by omega) hq
      rw [bI_t] at i1
      rw [bI_f] at i0
      obtain ⟨L1, L2⟩ := hL k (by omega)
      rw [f_X9_isEmpty_L4, if_neg (nI_ge (by omega) (by omega)), nI_add, i1, i0, oix_ok (j := k) rfl (by omega) (by decide), L1, exF]
      cases b with
      | true => rw [if_neg (show ¬ bI true = 0 by decide), Bool.true_or, Bool.true_or]
      | false =>
        rw [if_pos (show bI false = 0 from rfl)]
        by_cases h0 : L k = 0
        · rw [if_pos (by rw [h0]; rfl)]
          simp [h0]
        · rw [if_neg (nI_ne0 (by omega) (by omega))]
          simp [h0]
  have := loop 12 0 FU false rfl (by omega)
  rw [bI_f, Bool.false_or] at this
  exact this
theorem goesO_ok {I : II} {a : AS} {l i c : Nat} {oth : Bool} {L : Nat → Nat} (hR : RowIs (I 28) a) (hA : AOK a) (hT : Tab I) (hl : l < aN a) (hi : i < cN (aK a l)) (c1 : 1 ≤ c) (c3 : c ≤ 3) (hL : ∀ h, h < 12 → I 41 h = nI (L h) ∧ L h < 16) : f_X9_goesOn FU (nI l) (nI i) (bI oth) (nI c) I = some (bI (goF a l i oth L c)) := by
  have F5 := FU5
  have hk := (hA.2.2.2.2.1 l hl).1
  have hcN := (cN_le _ hk).1
  obtain ⟨q1, q2, q3, q4⟩ := cs_ok _ hk i hi
  unfold f_X9_goesOn
  rw [hasOther_ok hR hA hl, bind_if]
  unfold goF
  cases hp : prd (aK a l) with
  | false =>
    rw [if_neg (by decide), if_neg (by decide), mgoes_ok (d := 1) hR hA hl hi c1 c3 (fun h => by rw [hp] at h; cases h), Option.bind_some, og_ok (bI_01 _)]
  | true =>
    obtain ⟨k1, k2, k3⟩ := q3 hp
    rw [if_pos rfl, if_pos rfl]
    have loop : ∀ (x : Nat), x < 16 → ∀ (m e q : Nat) (b : Bool), e + m = 4 → 1 ≤ e → m + 1 ≤ q → f_X9_goesOn_L50 FU I (nI l) (nI i) (bI oth) (nI c) (nI x) q (bI b) (nI e) = some (bI (b || orF (fun e => x.testBit e && (if oth = true then gob a l i e c else gob a l i c e)) m)) := by
      intro x hx m
      induction m with
      | zero =>
        intro e q b he e1 hq
        obtain ⟨q, rfl⟩ := pred1 hq
        obtain rfl : e = 4 := by omega
        rw [f_X9_goesOn_L50, if_pos (by decide), og_ok (bI_01 b), orF, Bool.or_false]
      | succ m ih =>
        intro e q b he e1 hq
        obtain ⟨q, rfl⟩ := pred1 hq
        replace hq := Nat.le_of_succ_le_succ hq
        have i1 := ih (e + 1) q true (by omega) (by omega) hq
        have i0 := ih (e + 1) q false (by omega) (by omega) hq
        rw [bI_t] at i1
        rw [bI_f] at i0
        rw [f_X9_goesOn_L50, if_neg (nI_nlt (by omega) (by omega)), nI_add, i1, i0]
        cases b with
        | true => rw [if_neg (show ¬ bI true = 0 by decide), Bool.true_or, Bool.true_or]
        | false =>
          rw [if_pos (show bI false = 0 from rfl), has_ifM (by omega) (by omega), mgoes_ok (d := e) hR hA hl hi c1 c3 (fun _ => ⟨rfl, e1, by omega⟩), mgoes_ok (d := c) hR hA hl hi e1 (by omega) (fun _ => ⟨rfl, c1, c3⟩), bind_if, bind_if, orF, show 3 - m = e by omega]
          cases oth <;> cases x.testBit e <;> cases gob a l i c e <;> cases gob a l i e c <;> rfl
    cases oth with
    | false =>
      obtain ⟨L1, L2⟩ := hL _ k1
      rw [if_pos (show bI false = 0 from rfl), if_neg (by decide), otherOf_ok hR hA hT hl hi, Option.bind_some, k3, oix_ok (j := kCa a l i) rfl k1 (by decide), L1]
      have := loop _ L2 3 1 FU false (by omega) (by omega) (by omega)
      rw [show nI 0 = bI false from rfl, this, Bool.false_or]
      rfl
    | true =>
      obtain ⟨L1, L2⟩ := hL _ q2
      rw [if_neg (show ¬ bI true = 0 by decide), if_pos rfl, hallOf_ok hR hA hT hl hi, Option.bind_some, oix_ok (j := hCa a l i) rfl q2 (by decide), L1]
      have := loop _ L2 3 1 FU false (by omega) (by omega) (by omega)
      rw [show nI 0 = bI false from rfl, this, Bool.false_or]
      rfl
theorem mstrike_ok {I : II} {a : AS} {l i : Nat} {oth : Bool} {s : SS} (hR : RowIs (I 28) a) (hA : AOK a) (hT : Tab I) (hl : l < aN a) (hi : i < cN (aK a l)) (ho : oth = true → prd (aK a l) = true) (hS : SOK s) (hN : MSt I s) : ∃ I', f_X9_strike FU (nI l) (nI i) (bI oth) I = some I' ∧ MSt I' (skC a l i oth 3 s) ∧ MFr I I' := by
  have F5 := FU5
  have hk := (hA.2.2.2.2.1 l hl).1
  have hcN := (cN_le _ hk).1
  have hh := oth_lt hA hl hi ho
  obtain ⟨q1, q2, q3, q4⟩ := cs_ok _ hk i hi
  have loop : ∀ (m c q : Nat) (I1 : II) (s1 : SS), c + m = 4 → 1 ≤ c → m + 1 ≤ q → SOK s1 → MSt I1 s1 → MFr I I1 → ∃ I', f_X9_strike_L24 FU (nI l) (nI i) (bI oth) (nI (hOth a l i oth)) q (nI c) I1 = some I' ∧ MSt I' (skC a l i oth m s1) ∧ MFr I I' := by
    intro m
    induction m with
    | zero =>
      intro c q I1 s1 hc c1 hq hS1 hN1 hf
      obtain ⟨q, rfl⟩ := pred1 hq
      obtain rfl : c = 4 := by omega
      refine ⟨I1, ?_, hN1, hf⟩
      rw [f_X9_strike_L24, if_pos (by decide)]
    | succ m ih =>
      intro c q I1 s1 hc c1 hq hS1 hN1 hf
      obtain ⟨q, rfl⟩ := pred1 hq
      replace hq := Nat.le_of_succ_le_succ hq
      rw [f_X9_strike_L24, if_neg (nI_nlt (by omega) (by omega)), isEmpty_ok (fun h hh => ⟨hN1.1 h hh, hS1.1 h hh⟩), Option.bind_some]
      cases hem : empt s1.1 with
      | true =>
        rw [if_neg (show ¬ bI true = 0 by decide), skC_e hem]
        exact ⟨I1, rfl, hN1, hf⟩
      | false =>
        have hst : st1 a l i oth c s1 = if (s1.1 (hOth a l i oth)).testBit c = true then (if goF a l i oth s1.1 c = true then s1 else hit l (hOth a l i oth) c s1) else s1 := by
          unfold st1
          rw [if_neg (by rw [hem]; decide)]
        rw [if_pos (show bI false = 0 from rfl), oix_ok (j := hOth a l i oth) rfl hh (by decide), hN1.1 _ hh, has_ifM (by have := hS1.1 _ hh; omega) (by omega), goesO_ok (hf.row hR) hA (hf.tab hT) hl hi c1 (by omega) (fun h hh => ⟨hN1.1 h hh, hS1.1 h hh⟩), bind_if, nI_add, skC, show 3 - m = c by omega, hst]
        by_cases hb : (s1.1 (hOth a l i oth)).testBit c = true
        · rw [if_pos hb, if_pos hb]
          by_cases hg : goF a l i oth s1.1 c = true
          · rw [if_pos hg, if_pos hg]
            exact ih (c + 1) q I1 s1 (by omega) (by omega) hq hS1 hN1 hf
          · rw [if_neg hg, if_neg hg]
            obtain ⟨m1, m2, m3, m4⟩ := msk1 _ (hS1.1 _ hh) c (by omega) hb
            obtain ⟨hS2, h36⟩ := hS1.hit (l := l) hh c1 (by omega) hb
            generalize hOth a l i oth = h at hh hb m1 m2 m3 m4 hS2 ih ⊢
            rw [oix_ok (j := h) rfl hh (by decide), oix_ok (j := h) rfl hh (by decide), hN1.1 h hh, m1, up2_n (show (27 : Nat) ≠ 41 by decide), hN1.2.2, oix_ok (j := s1.2.2) rfl h36 (by decide), up2_n (show (27 : Nat) ≠ 42 by decide), up2_n (show (27 : Nat) ≠ 41 by decide), hN1.2.2, nI_add, pk_mul, pk_mul, nI_add, nI_add]
            refine ih (c + 1) q _ _ (by omega) (by omega) hq hS2 ⟨fun x hx => ?_, fun k hk => ?_, ?_⟩ ⟨fun x x1 x2 x3 => ?_, fun k hk => ?_⟩
            · rw [up2_n (by decide), up2_n (by decide)]
              show _ = nI (upN _ _ _ _)
              by_cases e : x = h
              · subst e; rw [up2_eq, upN_s]
              · rw [up2_ne e, upN_n e]; exact hN1.1 x hx
            · rw [up2_n (by decide)]
              show _ = nI (upN _ _ _ _)
              by_cases e : k = s1.2.2
              · subst e; rw [up2_eq, upN_s]
              · rw [up2_ne e, upN_n e, up2_n (by decide)]
                have hk' : k < s1.2.2 + 1 := hk
                exact hN1.2.1 k (by omega)
            · rw [up2_eq]; rfl
            · rw [up2_n x3, up2_n x2, up2_n x1]; exact hf.1 x x1 x2 x3
            · rw [up2_ne hk, up2_n (by decide), up2_n (by decide)]; exact hf.2 k hk
        · rw [if_neg hb, if_neg hb]
          exact ih (c + 1) q I1 s1 (by omega) (by omega) hq hS1 hN1 hf
  have hl3 := loop 3 1 FU I s (by omega) (by omega) (by omega) hS hN MFr.refl
  unfold f_X9_strike
  cases oth with
  | false =>
    rw [if_pos (show bI false = 0 from rfl), hallOf_ok hR hA hT hl hi, Option.bind_some]
    exact hl3
  | true =>
    obtain ⟨k1, k2, k3⟩ := q3 (ho rfl)
    rw [if_neg (show ¬ bI true = 0 by decide), otherOf_ok hR hA hT hl hi, Option.bind_some, k3]
    exact hl3
theorem mbegin_ok {I : II} : ∃ I', f_X9_begin FU I = some I' ∧ MSt I' ss0 ∧ MFr I I' := by
  have F5 := FU5
  have loop : ∀ (d k q : Nat) (I1 : II), k + d = 12 → d + 1 ≤ q → (∀ h, h < k → I1 41 h = nI 14) → MFr I I1 → ∃ I', f_X9_begin_L2 FU q (nI k) I1 = some I' ∧ MSt I' ss0 ∧ MFr I I' := by
    intro d
    induction d with
    | zero =>
      intro k q I1 hk hq g1 hf
      obtain ⟨q, rfl⟩ := pred1 hq
      obtain rfl : k = 12 := by omega
      refine ⟨_, by rw [f_X9_begin_L2, if_pos (by decide)], ⟨fun h hh => ?_, fun k hk => ?_, ?_⟩, fun x x1 x2 x3 => by rw [up2_n x3]; exact hf.1 x x1 x2 x3, fun k hk => by rw [up2_ne hk]; exact hf.2 k hk⟩
      · rw [up2_n (by decide)]; exact g1 h hh
      · exact absurd hk (by show ¬ k < 0; omega)
      · rw [up2_eq]; rfl
    | succ d ih =>
      intro k q I1 hk hq g1 hf
      obtain ⟨q, rfl⟩ := pred1 hq
      replace hq := Nat.le_of_succ_le_succ hq
      rw [f_X9_begin_L2, if_neg (nI_ge (by omega) (by omega)), oix_ok (j := k) rfl (by omega) (by decide), nI_add]
      refine ih (k + 1) q _ (by omega) hq (fun h hh => ?_) ⟨fun x x1 x2 x3 => by rw [up2_n x1]; exact hf.1 x x1 x2 x3, fun k hk => by rw [up2_n (by decide)]; exact hf.2 k hk⟩
      by_cases e : h = k
      · subst e; exact up2_eq
      · rw [up2_ne e]; exact g1 h (by omega)
  exact loop 12 0 FU I rfl (by omega) (fun h hh => by omega) MFr.refl
theorem showing_ok {I : II} {a : AS} {x : Nat} (hR : RowIs (I 28) a) (hA : AOK a) (hT : Tab I) (hx : x < 256) : ∃ I', f_X9_showing FU (nI x) I = some I' ∧ MSt I' (rnd a x 38 ss0) ∧ MFr I I' := by
  have F5 := FU5
  have h8 := hA.1
  obtain ⟨I1, e1, n1, f1⟩ := mbegin_ok (I := I)
  have l41 : ∀ (k6 k28 : Int32 → II → Option II) (x2 : Int32) (l : Nat), l < aN a → x.testBit l = true → ∀ (d i q : Nat) (I2 : II) (s : SS), i + d = cN (aK a l) → d + 1 ≤ q → SOK s → MSt I2 s → MFr I I2 → ∃ I3, f_X9_showing_L41 FU k6 k28 (nI x) x2 (nI l) q (nI i) I2 = k28 (nI (l + 1)) I3 ∧ MSt I3 (skL a l d i s) ∧ MFr I I3 := by
    intro k6 k28 x2 l hl hb d
    have hk := (hA.2.2.2.2.1 l hl).1
    have hcN := (cN_le _ hk).1
    induction d with
    | zero =>
      intro i q I2 s hi hq hS hN hf
      obtain ⟨q, rfl⟩ := pred1 hq
      refine ⟨I2, ?_, hN, hf⟩
      rw [f_X9_showing_L41, has_ifM (by omega) (by omega), if_pos hb, casesOf_ok (hf.row hR) hA (hf.tab hT) hl, Option.bind_some, if_pos (nI_le (by omega) (by omega)), nI_add]
    | succ d ih =>
      intro i q I2 s hi hq hS hN hf
      obtain ⟨q, rfl⟩ := pred1 hq
      replace hq := Nat.le_of_succ_le_succ hq
      have hic : i < cN (aK a l) := by omega
      obtain ⟨I3, e3, n3, f3⟩ := mstrike_ok (oth := false) (hf.row hR) hA (hf.tab hT) hl hic (fun h => (by cases h)) hS hN
      rw [bI_f] at e3
      have hf3 := hf.trans f3
      have hS3 := (skC_m (oth := false) hA hl hic (fun h => (by cases h)) 3 s (by omega) hS).1
      rw [f_X9_showing_L41, has_ifM (by omega) (by omega), if_pos hb, casesOf_ok (hf.row hR) hA (hf.tab hT) hl, Option.bind_some, if_neg (nI_ge hic (by omega)), e3, Option.bind_some, hasOther_ok (hf3.row hR) hA hl, bind_if, nI_add, skL]
      cases hp : prd (aK a l) with
      | false =>
        rw [if_neg (by decide)]
        have hsk : skI a l i s = skC a l i false 3 s := by unfold skI; rw [if_neg (by rw [hp]; decide)]
        rw [hsk]
        exact ih (i + 1) q I3 _ (by omega) hq hS3 n3 hf3
      | true =>
        rw [if_pos rfl]
        have hsk : skI a l i s = skC a l i true 3 (skC a l i false 3 s) := by unfold skI; rw [if_pos hp]
        rw [hsk]
        obtain ⟨I4, e4, n4, f4⟩ := mstrike_ok (oth := true) (hf3.row hR) hA (hf3.tab hT) hl hic (fun _ => hp) hS3 n3
        rw [bI_t] at e4
        rw [e4, Option.bind_some]
        exact ih (i + 1) q I4 _ (by omega) hq (skC_m (oth := true) hA hl hic (fun _ => hp) 3 _ (by omega) hS3).1 n4 (hf3.trans f4)
  have l28 : ∀ (k6 : Int32 → II → Option II) (x2 : Int32) (d l q : Nat) (I2 : II) (s : SS), l + d = aN a → d + 1 ≤ q → SOK s → MSt I2 s → MFr I I2 → ∃ I3, f_X9_showing_L28 FU k6 (nI x) x2 q (nI l) I2 = k6 x2 I3 ∧ MSt I3 (skA a x d l s) ∧ MFr I I3 := by
    intro k6 x2 d
    induction d with
    | zero =>
      intro l q I2 s hl hq hS hN hf
      obtain ⟨q, rfl⟩ := pred1 hq
      refine ⟨I2, ?_, hN, hf⟩
      rw [f_X9_showing_L28, oix_ok (j := 0) rfl (by decide) (by decide), (hf.row hR).1, if_pos (nI_le (by omega) (by omega))]
    | succ d ih =>
      intro l q I2 s hl hq hS hN hf
      obtain ⟨q, rfl⟩ := pred1 hq
      replace hq := Nat.le_of_succ_le_succ hq
      have hll : l < aN a := by omega
      have hk := (hA.2.2.2.2.1 l hll).1
      have hcN := (cN_le _ hk).1
      rw [f_X9_showing_L28, oix_ok (j := 0) rfl (by decide) (by decide), (hf.row hR).1, if_neg (nI_ge hll (by omega)), skA]
      by_cases hb : x.testBit l = true
      · rw [if_pos hb]
        obtain ⟨I3, e3, n3, f3⟩ := l41 k6 (f_X9_showing_L28 FU k6 (nI x) x2 q) x2 l hll hb (cN (aK a l)) 0 FU I2 s (by omega) (by omega) hS hN hf
        rw [e3]
        exact ih (l + 1) q I3 _ (by omega) hq (skL_m hA hll _ 0 s (by omega) hS).1 n3 f3
      · rw [if_neg hb]
        have e2 : f_X9_showing_L41 FU k6 (f_X9_showing_L28 FU k6 (nI x) x2 q) (nI x) x2 (nI l) FU (nI 0) I2 = f_X9_showing_L28 FU k6 (nI x) x2 q (nI (l + 1)) I2 := by
          rw [show FU = 4999 + 1 from rfl, f_X9_showing_L41, has_ifM (by omega) (by omega), if_neg hb, nI_add]
        rw [e2]
        exact ih (l + 1) q I2 s (by omega) hq hS hN hf
  have l6 : ∀ (f q : Nat) (x2 : Int32) (I2 : II) (s : SS), 37 ≤ s.2.2 + f → f + 1 ≤ q → x2 ≠ nI s.2.2 → SOK s → MSt I2 s → MFr I I2 → ∃ I3, f_X9_showing_L6 FU (nI x) q x2 I2 = some I3 ∧ MSt I3 (rnd a x f s) ∧ MFr I I3 := by
    intro f
    induction f with
    | zero =>
      intro q x2 I2 s hf hq hne hS
      have := hS.2
      omega
    | succ f ih =>
      intro q x2 I2 s hsf hq hne hS hN hf
      obtain ⟨q, rfl⟩ := pred1 hq
      replace hq := Nat.le_of_succ_le_succ hq
      rw [f_X9_showing_L6, hN.2.2, if_neg hne, isEmpty_ok (fun h hh => ⟨hN.1 h hh, hS.1 h hh⟩), Option.bind_some, rnd]
      cases hem : empt s.1 with
      | true =>
        rw [if_neg (show ¬ bI true = 0 by decide), if_pos rfl]
        exact ⟨I2, rfl, hN, hf⟩
      | false =>
        rw [if_pos (show bI false = 0 from rfl), if_neg (by decide)]
        obtain ⟨I3, e3, n3, f3⟩ := l28 (f_X9_showing_L6 FU (nI x) q) (nI s.2.2) (aN a) 0 FU I2 s (by omega) (by omega) hS hN hf
        have hm := skA_m (x := x) hA (aN a) 0 s (by omega) hS
        have h36 := hm.1.2
        have h36' := hS.2
        have hle2 := hm.2
        rw [e3]
        by_cases hle : (skA a x (aN a) 0 s).2.2 ≤ s.2.2
        · rw [if_pos hle]
          obtain ⟨q, rfl⟩ := pred1 (k := 0) (n := q) (by omega)
          refine ⟨I3, ?_, n3, f3⟩
          rw [f_X9_showing_L6, n3.2.2, if_pos (by congr 1; omega)]
        · rw [if_neg hle]
          exact ih q _ I3 _ (by omega) hq (fun e => by rw [nI_eq (by omega) (by omega)] at e; omega) hm.1 n3 f3
  obtain ⟨I3, e3, n3, f3⟩ := l6 38 FU (-1) I1 ss0 (by show 37 ≤ 0 + 38; omega) (by omega) (by decide) ss0_ok n1 f1
  refine ⟨I3, ?_, n3, f3⟩
  unfold f_X9_showing
  rw [bind_ok e1]
  exact e3
theorem rnd_m {a : AS} {x : Nat} (hA : AOK a) : ∀ f s, SOK s → SOK (rnd a x f s) := by
  intro f
  induction f with
  | zero => intro s hS; exact hS
  | succ f ih =>
    intro s hS
    have hm := skA_m (x := x) hA (aN a) 0 s (by omega) hS
    rw [rnd]
    split
    · exact hS
    · split
      · exact hm.1
      · exact ih _ hm.1
theorem neg_m2 {x : Int32} (h1 : ¬ x < -2) (h2 : x < 0) : x = -1 ∨ x = -2 := by
  rw [Int32.lt_iff_toInt_lt] at h1 h2
  have e2 : (-2 : Int32).toInt = -2 := by decide
  have e0 : (0 : Int32).toInt = 0 := by decide
  have e1 : (-1 : Int32).toInt = -1 := by decide
  rw [e2] at h1
  rw [e0] at h2
  have hc : x.toInt = -1 ∨ x.toInt = -2 := by omega
  rcases hc with hc | hc
  · left; apply Int32.toInt_inj.mp; rw [hc, e1]
  · right; apply Int32.toInt_inj.mp; rw [hc, e2]
theorem InvO.scr2 {n : Nat} {S : SH} {I I1 I2 : II} {ow : Nat → Nat} {a : AS} {v : Nat} (hO : InvO n S I ow a v) (f1 : NFr I I1) (f2 : MFr I1 I2) : InvO (n + 1) S I2 ow a v := by
  refine hO.sc (by omega) (fun x x1 => ?_) ?_ ?_
  · unfold scr at x1
    rw [f2.1 x (by omega) (by omega) (by omega), f1 x (by omega) (by omega) (by omega)]
  · rw [f2.2 2 (by decide), f1 27 (by decide) (by decide) (by decide)]
  · rw [f2.2 27 (by decide), f1 27 (by decide) (by decide) (by decide)]
theorem act_20 {n : Nat} {S : SH} {I : II} {a1 a2 : Int32} (h : Inv n S I) : Act n (f_arm_20 FU a1 a2 S I) := by
  obtain ⟨ow, a, v, hO⟩ := h.op
  have hA := hO.aok
  have hM := hO.mrk
  unfold f_arm_20
  have bad : ∀ (X : Option (Int32 × II)) (Y : II → Option (Int32 × II)), X = f_X0_show_J19 FU S a1 a2 I → Y (EN I 1) = f_X9_show_J14 FU (EN I 1) → Act n (bd2 X fun r1 I1 => bd2 (Y I1) fun r2 I2 => og (r1 = r2) <| some (S, I2)) := by
    intro X Y hX hY
    refine Act.of (arm2 (r := -1000001) (I1 := EN I 1) ?_ ?_) (hO.bad (e := 1))
    · rw [hX]
      unfold f_X0_show_J19 f_X0_show_J20 f_X0_show_J107
      exact nbad hO.1 (by decide) (by decide)
    · rw [hY]
      unfold f_X9_show_J14
      exact mbad2 (by decide) (by decide)
  rcases set_cases hO a1 with ⟨h1, h2⟩ | ⟨s, -, hs, rfl, h1, h2⟩
  · refine bad _ _ ?_ ?_
    · unfold f_X0_show; rw [h1]; rfl
    · unfold f_X9_show; rw [isSetEN, h2]; rfl
  · by_cases hlt : a2 < -2
    · refine bad _ _ ?_ ?_
      · unfold f_X0_show; rw [h1, Option.bind_some, if_neg (by decide), if_pos hlt]
      · unfold f_X9_show; rw [isSetEN, h2, Option.bind_some, if_neg (by decide), if_neg (Int32.not_le.mpr hlt)]
    · have hge : (-2 : Int32) ≤ a2 := Int32.not_lt.mp hlt
      obtain ⟨al, I1, b1, e1, n1, f1⟩ := shows_ok hO.vn hs
      obtain ⟨-, -, -, hv, z1, -⟩ := hO.vn
      have hSS := rnd_m (x := s) hA 38 ss0 ss0_ok
      have h36 := hSS.2
      generalize hss : rnd a s 38 ss0 = ss at n1 hSS h36
      have r1 : RowIs (I1 28) a := by rw [f1 28 (by decide) (by decide) (by decide)]; exact hO.row
      have t1 : Tab I1 := hO.tab.of (f1 _ (by decide) (by decide) (by decide)) (f1 _ (by decide) (by decide) (by decide)) (f1 _ (by decide) (by decide) (by decide)) (f1 _ (by decide) (by decide) (by decide))
      have e28 : I1 28 = I 28 := f1 28 (by decide) (by decide) (by decide)
      by_cases hneg : a2 < 0
      · obtain ⟨I2, e2, n2, f2⟩ := showing_ok r1 hA t1 hs
        rw [hss] at n2
        have hng : ¬ (0 : Int32) ≤ a2 := Int32.not_le.mpr hneg
        have hmN : ¬ nI ss.2.2 ≤ a2 := fun e => nI_pos (n := ss.2.2) (by omega) (Int32.lt_of_le_of_lt e hneg)
        rcases neg_m2 hlt hneg with rfl | rfl
        · refine Act.of (arm2 (r := nI ss.2.2) (I1 := I1) (I2 := I2) ?_ ?_) (hO.scr2 f1 f2)
          · unfold f_X0_show f_X0_show_J20 f_X0_show_J56
            rw [h1, Option.bind_some, if_neg (by decide), if_neg hlt, ngood, orf_ok hv, ock_ok z1.r, orf_ok b1, e1, Option.bind_some, n1.2.2.1, if_neg hmN, ngood, if_pos hneg, if_pos rfl, n1.2.2.1]
          · unfold f_X9_show
            rw [isSet_congr e28, h2, Option.bind_some, if_neg (by decide), if_pos hge, e2, Option.bind_some, if_neg hng, if_pos rfl, n2.2.2]
        · refine Act.of (arm2 (r := bI (empt ss.1)) (I1 := I1) (I2 := I2) ?_ ?_) (hO.scr2 f1 f2)
          · unfold f_X0_show f_X0_show_J20 f_X0_show_J56
            rw [h1, Option.bind_some, if_neg (by decide), if_neg hlt, ngood, orf_ok hv, ock_ok z1.r, orf_ok b1, e1, Option.bind_some, n1.2.2.1, if_neg hmN, ngood, if_pos hneg, if_neg (by decide), n1.2.2.2]
            exact if_bI
          · unfold f_X9_show
            rw [isSet_congr e28, h2, Option.bind_some, if_neg (by decide), if_pos hge, e2, Option.bind_some, if_neg hng, if_neg (by decide), isEmpty_ok (fun h hh => ⟨n2.1 h hh, hSS.1 h hh⟩), Option.bind_some]
            exact if_bI
      · obtain ⟨j, hj, rfl⟩ := nI_of hneg
        have hps : (0 : Int32) ≤ nI j := nI_pos' hj
        by_cases hjm : j < ss.2.2
        · obtain ⟨I2, e2, n2, f2⟩ := showing_ok r1 hA t1 hs
          rw [hss] at n2
          refine Act.of (arm2 (r := nI (ss.2.1 j)) (I1 := I1) (I2 := I2) ?_ ?_) (hO.scr2 f1 f2)
          · unfold f_X0_show f_X0_show_J20 f_X0_show_J56
            rw [h1, Option.bind_some, if_neg (by decide), if_neg hlt, ngood, orf_ok hv, ock_ok z1.r, orf_ok b1, e1, Option.bind_some, n1.2.2.1, if_neg (nI_ge hjm (by omega)), ngood, if_neg hneg, oix_ok (j := j) rfl (by omega) (by decide), n1.2.1 j hjm]
          · unfold f_X9_show
            rw [isSet_congr e28, h2, Option.bind_some, if_neg (by decide), if_pos hge, e2, Option.bind_some, if_pos hps, n2.2.2, if_neg (nI_ge hjm (by omega)), oix_ok (j := j) rfl (by omega) (by decide), n2.2.1 j hjm]
        · obtain ⟨I2, e2, n2, f2⟩ := showing_ok (rowEN (e := 2) r1) hA (tabEN (e := 2) t1) hs
          rw [hss] at n2
          refine Act.of (ow := ow) (a := a) (v := v) (arm2 (r := -1000002) (I1 := EN I1 2) (I2 := EM I2 2) ?_ ?_) ?_
          · unfold f_X0_show f_X0_show_J20 f_X0_show_J56 f_X0_show_J107
            rw [h1, Option.bind_some, if_neg (by decide), if_neg hlt, ngood, orf_ok hv, ock_ok z1.r, orf_ok b1, e1, Option.bind_some, n1.2.2.1, if_pos (nI_le (by omega) (by omega))]
            exact nbad hO.1 (by decide) (by decide)
          · unfold f_X9_show
            rw [isSetEN, isSet_congr e28, h2, Option.bind_some, if_neg (by decide), if_pos hge, e2, Option.bind_some, if_pos hps, n2.2.2, if_pos (nI_le (by omega) (by omega))]
            exact mbad2 (by decide) (by decide)
          · refine hO.err (by omega) (fun x x1 x2 x3 => ?_) ?_ ?_ (fun k hk => ?_)
            · unfold scr at x1
              rw [EM_x x3, f2.1 x (by omega) (by omega) (by omega), EN_x (by omega) x2, f1 x (by omega) (by omega) (by omega)]
            · rw [EM_x (by decide), f2.2 2 (by decide), EN_x (by decide) (by decide), f1 27 (by decide) (by decide) (by decide)]
            · rw [EM_x (by decide), f2.2 27 (by decide), EN_x (by decide) (by decide), f1 27 (by decide) (by decide) (by decide)]
            · rw [EM_x (by decide), EM_30, f2.1 21 (by decide) (by decide) (by decide), f2.1 30 (by decide) (by decide) (by decide), EN_21, EN_x (by decide) (by decide), f1 21 (by decide) (by decide) (by decide), f1 30 (by decide) (by decide) (by decide)]
              have h6 := hO.2.2.2.2.2.1
              by_cases e1 : k = 2
              · subst e1
                rw [if_pos rfl, if_pos rfl, h6 2 hk]
              · rw [if_neg e1, if_neg e1, h6 k hk]
