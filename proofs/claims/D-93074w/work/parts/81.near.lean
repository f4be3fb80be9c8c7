/-! PLAIN SIDE: in how many halls the told rule must be changed -/
set_option maxRecDepth 100000
/-- a rule that goes on from hall h -/
def CpF (P M : Nat → Nat) (H h : Nat) (r r' : Nat → Nat) : Prop := (∀ i, i < h → r' i = r i) ∧ ∀ k, h ≤ k → k < 12 → H.testBit k = true → 1 ≤ r' k ∧ r' k ≤ 3 ∧ can P M H r' k k (r' k) = true
/-- changes from hall h on -/
def ds (H : Nat) (R r : Nat → Nat) : Nat → Nat → Nat
  | 0, _ => 0
  | n + 1, h => (if H.testBit h = true ∧ r h ≠ R h then 1 else 0) + ds H R r n (h + 1)
theorem ds_le {H : Nat} {R r : Nat → Nat} : ∀ n h, ds H R r n h ≤ n := by
  intro n
  induction n with
  | zero => intro h; exact Nat.le_refl 0
  | succ n ih =>
    intro h
    rw [ds]
    have := ih (h + 1)
    split <;> omega
theorem ds_congr {H : Nat} {R r r' : Nat → Nat} : ∀ n h, (∀ k, h ≤ k → k < h + n → H.testBit k = true → r' k = r k) → ds H R r' n h = ds H R r n h := by
  intro n
  induction n with
  | zero => intro h _; rfl
  | succ n ih =>
    intro h hh
    rw [ds, ds, ih (h + 1) (fun k k1 k2 => hh k (by omega) (by omega))]
    by_cases hb : H.testBit h = true
    · rw [hh h (by omega) (by omega) hb]
    · simp [hb]
theorem ds_or {D y : Nat} {R r : Nat → Nat} (hd : Avo D y) : ∀ n h, ds (D ||| y) R r n h = ds D R r n h + ds y R r n h := by
  intro n
  induction n with
  | zero => intro h; rfl
  | succ n ih =>
    intro h
    rw [ds, ds, ds, ih, Nat.testBit_or]
    cases hD : D.testBit h with
    | true =>
      have hy : y.testBit h = false := by
        cases hy : y.testBit h with
        | false => rfl
        | true => rw [hd h hy] at hD; cases hD
      rw [hy]
      simp
      omega
    | false =>
      cases hy : y.testBit h with
      | true => simp; omega
      | false => simp
def Opt (ch few v : Nat) (Q : (Nat → Nat) → Prop) (D : (Nat → Nat) → Nat) : Prop := v ≤ few ∧ (v = few ∨ ∃ r, Q r ∧ v = ch + D r) ∧ ∀ r, Q r → v ≤ ch + D r
theorem Opt.trans {ch few v w : Nat} {Q1 Q2 : (Nat → Nat) → Prop} {D : (Nat → Nat) → Nat} (h1 : Opt ch few v Q1 D) (h2 : Opt ch v w Q2 D) : Opt ch few w (fun r => Q1 r ∨ Q2 r) D := by
  refine ⟨Nat.le_trans h2.1 h1.1, ?_, fun r hr => ?_⟩
  · rcases h2.2.1 with e | ⟨r, q, e⟩
    · rcases h1.2.1 with e' | ⟨r, q, e'⟩
      · exact Or.inl (by omega)
      · exact Or.inr ⟨r, Or.inl q, by omega⟩
    · exact Or.inr ⟨r, Or.inr q, e⟩
  · rcases hr with hr | hr
    · exact Nat.le_trans h2.1 (h1.2.2 r hr)
    · exact h2.2.2 r hr
theorem Opt.none {ch few : Nat} {Q : (Nat → Nat) → Prop} {D : (Nat → Nat) → Nat} (h : ∀ r, ¬ Q r) : Opt ch few few Q D := ⟨Nat.le_refl _, Or.inl rfl, fun r hr => absurd hr (h r)⟩
theorem Opt.cg {ch few v : Nat} {Q Q' : (Nat → Nat) → Prop} {D : (Nat → Nat) → Nat} (h : Opt ch few v Q D) (e : ∀ r, Q r ↔ Q' r) : Opt ch few v Q' D := by
  refine ⟨h.1, ?_, fun r hr => h.2.2 r ((e r).mpr hr)⟩
  rcases h.2.1 with h1 | ⟨r, q, h1⟩
  · exact Or.inl h1
  · exact Or.inr ⟨r, (e r).mp q, h1⟩
theorem nears_s {F d : Nat} {sh : SH} {x y : Int32} {t : Nat} {I : II} : f_X5_nears F (d + 1) sh x y t I = fb_X5_nears F (f_X5_nears F d) sh x y t I := rfl
def NRf (I I' : II) (h : Nat) : Prop := (∀ a, a ≠ 11 → a ≠ 15 → I' a = I a) ∧ (∀ k, k ≠ 4 → I' 11 k = I 11 k) ∧ ∀ q, q < 12 * (h + 1) → I' 15 q = I 15 q
theorem nears_ok {sh : SH} {P M R : Nat → Nat} {H tl : Nat} (hH : H < 4096) (ht : arw sh tl 100 12) (t11 : tl ≠ 11) (t15 : tl ≠ 15) (hR : ∀ k, k < 12 → 1 ≤ R k ∧ R k ≤ 3) : ∀ (n h d : Nat) (I : II) (r : Nat → Nat) (ch few : Nat), h + n = 12 → n + 1 ≤ d → ch ≤ h → few ≤ 13 → NP3 I P → I 11 3 = nI H → I 11 4 = nI few → (∀ k, k < 12 → I tl k = nI (R k)) → RowL I P M H r h → ∃ I' v, f_X5_nears FU d sh (nI h) (nI ch) tl I = some I' ∧ I' 11 4 = nI v ∧ Opt ch few v (CpF P M H h r) (fun r' => ds H R r' n h) ∧ NRf I I' h := by
  have F5 := FU5
  intro n
  induction n with
  | zero =>
    intro h d I r ch few hn hd hch hfew hP h11 h4 hT hL
    obtain ⟨d, rfl⟩ := pred1 hd
    obtain rfl : h = 12 := by omega
    rw [nears_s]
    unfold fb_X5_nears
    rw [h4]
    by_cases hlt : ch < few
    · rw [if_pos (nI_lt hlt (by omega)), if_pos rfl]
      exact ⟨_, ch, rfl, up2_eq, ⟨by omega, Or.inr ⟨r, ⟨fun _ _ => rfl, fun k k1 k2 => by omega⟩, rfl⟩, fun r' _ => Nat.le_add_right _ _⟩, fun a a1 a2 => up2_n a1, fun k hk => up2_ne hk, fun q _ => by rw [up2_n (by decide)]⟩
    · rw [if_neg (nI_nlt (by omega) (by omega))]
      exact ⟨I, few, rfl, h4, ⟨Nat.le_refl _, Or.inl rfl, fun r' _ => by show few ≤ ch + 0; omega⟩, fun _ _ _ => rfl, fun _ _ => rfl, fun _ _ => rfl⟩
  | succ n ih =>
    intro h d I r ch few hn hd hch hfew hP h11 h4 hT hL
    obtain ⟨d, rfl⟩ := pred1 hd
    replace hd := Nat.le_of_succ_le_succ hd
    have hh : h < 12 := by omega
    rw [nears_s]
    unfold fb_X5_nears
    rw [h4]
    by_cases hlt : ch < few
    · rw [if_pos (nI_lt hlt (by omega)), if_neg (by rw [nI_eq (by omega) (by omega)]; omega), h11, has_if (by omega) (by omega)]
      by_cases hb : H.testBit h = true
      · rw [if_pos hb, oarw_ok ht, oix_ok (j := h) rfl hh (by decide), hT h hh]
        obtain ⟨R1, R3⟩ := hR h hh
        -- one choice
        have try1 : ∀ (c δ f1 : Nat) (I1 : II) (k : II → Option II), 1 ≤ c → c ≤ 3 → δ = (if c = R h then 0 else 1) → f1 ≤ 13 → I1 11 4 = nI f1 → NRf I I1 h → ∃ I2 v, ((f_X5_isLeft sh (nI h) (nI c) I1).bind fun r56 => if r56 = 0 then k I1 else bd2 (f_X5_goesOn FU sh (nI h) (nI c) I1) fun r66 I66 => if r66 = 0 then k I66 else (f_X5_nears FU d sh (nI (h + 1)) (nI (ch + δ)) tl I66).bind fun I78 => k I78) = k I2 ∧ I2 11 4 = nI v ∧ v ≤ 13 ∧ Opt ch f1 v (fun r' => CpF P M H h r r' ∧ r' h = c) (fun r' => ds H R r' (n + 1) h) ∧ NRf I I2 h := by
          intro c δ f1 I1 k c1 c3 hδ hf1 h41 hfr
          have hL1 : RowL I1 P M H r h := fun k a1 a2 => (hL k a1 a2).kept (hfr.2.2 _ (by omega))
          have hP1 : NP3 I1 P := fun x y a1 a2 => by rw [hfr.1 14 (by decide) (by decide)]; exact hP x y a1 a2
          have h111 : I1 11 3 = nI H := by rw [hfr.2.1 3 (by decide)]; exact h11
          have hcanr : ∀ r', CpF P M H h r r' → r' h = c → can P M H r h h c = true := fun r' q1 q2 => by
            have := (q1.2 h (by omega) hh hb).2.2
            rw [q2, can_congr (r := r) (fun i hi _ => q1.1 i hi)] at this
            exact this
          rw [isLeft_ok hh c1 c3 hb hL1, bind_if]
          by_cases hcc : can P M H r h h c = true
          · rw [if_pos hcc]
            obtain ⟨g, I2, q1, q2, q3, q4, q5⟩ := goesOn_ok (sh := sh) hh c1 c3 hH hb hP1 h111 hL1
            rw [bd2_ok q1]
            have fr2 : NRf I I2 h := ⟨fun a a1 a2 => by rw [q2 a a2, hfr.1 a a1 a2], fun k hk => by rw [q2 11 (by decide), hfr.2.1 k hk], fun q hq => by rw [q3 q hq, hfr.2.2 q hq]⟩
            have h42 : I2 11 4 = nI f1 := by rw [q2 11 (by decide)]; exact h41
            cases g with
            | false =>
              obtain ⟨j, j1, j2, j3, j4⟩ := q5 rfl
              rw [if_pos (show bI false = 0 from rfl)]
              refine ⟨I2, f1, rfl, h42, hf1, Opt.none (fun r' hr' => ?_), fr2⟩
              obtain ⟨a1, a2, a3⟩ := hr'.1.2 j (by omega) j2 j3
              have hz : can P M H (upN r h c) (h + 1) j (r' j) = true := by
                rw [can_iff] at a3 ⊢
                refine ⟨a3.1, fun i hi hHi => ?_⟩
                have := a3.2 i (by omega) hHi
                have e : upN r h c i = r' i := by
                  by_cases e : i = h
                  · rw [e, upN_s, hr'.2]
                  · rw [upN_n e, hr'.1.1 i (by omega)]
                rw [e]; exact this
              rw [j4 (r' j) a1 a2] at hz
              cases hz
            | true =>
              rw [if_neg (show ¬ bI true = 0 by decide)]
              have hδ1 : δ ≤ 1 := by rw [hδ]; split <;> omega
              obtain ⟨I3, v, e3, e4, e5, e6⟩ := ih (h + 1) d I2 (upN r h c) (ch + δ) f1 (by omega) hd (by omega) hf1 (fun x y a1 a2 => by rw [fr2.1 14 (by decide) (by decide)]; exact hP x y a1 a2) (by rw [fr2.2.1 3 (by decide)]; exact h11) h42 (fun k hk => by rw [fr2.1 tl t11 t15]; exact hT k hk) q4
              rw [e3, Option.bind_some]
              have hv13 : v ≤ 13 := Nat.le_trans e5.1 hf1
              have hiff : ∀ r', CpF P M H (h + 1) (upN r h c) r' ↔ CpF P M H h r r' ∧ r' h = c := by
                intro r'
                constructor
                · rintro ⟨b1, b2⟩
                  have hc' : r' h = c := by rw [b1 h (by omega), upN_s]
                  have hlow : ∀ i, i < h → r' i = r i := fun i hi => by rw [b1 i (by omega), upN_n (by omega)]
                  refine ⟨⟨hlow, fun k k1 k2 hk => ?_⟩, hc'⟩
                  by_cases e : k = h
                  · subst e
                    rw [hc', can_congr (r := r) (fun i hi _ => hlow i hi)]
                    exact ⟨c1, c3, hcc⟩
                  · exact b2 k (by omega) k2 hk
                · rintro ⟨⟨b1, b2⟩, b3⟩
                  refine ⟨fun i hi => ?_, fun k k1 k2 hk => b2 k (by omega) k2 hk⟩
                  by_cases e : i = h
                  · rw [e, upN_s, b3]
                  · rw [upN_n e, b1 i (by omega)]
              have hds : ∀ r', r' h = c → ds H R r' (n + 1) h = δ + ds H R r' n (h + 1) := by
                intro r' hr'
                rw [ds, hr', hδ]
                by_cases e : c = R h
                · rw [if_neg (by simp [e]), if_pos e]
                · rw [if_pos ⟨hb, e⟩, if_neg e]
              refine ⟨I3, v, rfl, e4, hv13, ⟨e5.1, ?_, fun r' hr' => ?_⟩, ?_⟩
              · rcases e5.2.1 with e | ⟨r', w1, w2⟩
                · exact Or.inl e
                · have w3 := (hiff r').mp w1
                  refine Or.inr ⟨r', w3, ?_⟩
                  show v = ch + ds H R r' (n + 1) h
                  rw [hds r' w3.2, ← Nat.add_assoc]; exact w2
              · have := e5.2.2 r' ((hiff r').mpr hr')
                show v ≤ ch + ds H R r' (n + 1) h
                rw [hds r' hr'.2, ← Nat.add_assoc]; exact this
              · exact ⟨fun a a1 a2 => by rw [e6.1 a a1 a2, fr2.1 a a1 a2], fun k hk => by rw [e6.2.1 k hk, fr2.2.1 k hk], fun q hq => by rw [e6.2.2 q (by omega), fr2.2.2 q hq]⟩
          · rw [if_neg hcc]
            exact ⟨I1, f1, rfl, h41, hf1, Opt.none (fun r' hr' => hcc (hcanr r' hr'.1 hr'.2)), hfr⟩
        -- those that are not the told one
        have loop : ∀ (m c q f1 : Nat) (I1 : II), c + m = 4 → 1 ≤ c → m + 1 ≤ q → f1 ≤ 13 → I1 11 4 = nI f1 → NRf I I1 h → ∃ I' v, f_X5_nears_L84 FU (f_X5_nears FU d) sh (nI h) (nI ch) tl (nI (R h)) q (nI c) I1 = some I' ∧ I' 11 4 = nI v ∧ Opt ch f1 v (fun r' => CpF P M H h r r' ∧ c ≤ r' h ∧ r' h ≤ 3 ∧ r' h ≠ R h) (fun r' => ds H R r' (n + 1) h) ∧ NRf I I' h := by
          intro m
          induction m with
          | zero =>
            intro c q f1 I1 hc c1 hq hf1 h41 hfr
            obtain ⟨q, rfl⟩ := pred1 hq
            obtain rfl : c = 4 := by omega
            exact ⟨I1, f1, by rw [f_X5_nears_L84, if_pos (by decide)], h41, Opt.none (fun r' hr' => by omega), hfr⟩
          | succ m im =>
            intro c q f1 I1 hc c1 hq hf1 h41 hfr
            obtain ⟨q, rfl⟩ := pred1 hq
            replace hq := Nat.le_of_succ_le_succ hq
            rw [f_X5_nears_L84, if_neg (nI_nlt (by omega) (by omega))]
            by_cases hco : c = R h
            · rw [if_pos (by rw [hco]), nI_add]
              obtain ⟨I', v, e1, e2, e3, e4⟩ := im (c + 1) q f1 I1 (by omega) (by omega) hq hf1 h41 hfr
              refine ⟨I', v, e1, e2, e3.cg (fun r' => ?_), e4⟩
              constructor
              · rintro ⟨a1, a2, a3, a4⟩; exact ⟨a1, by omega, a3, a4⟩
              · rintro ⟨a1, a2, a3, a4⟩; exact ⟨a1, by omega, a3, a4⟩
            · rw [if_neg (by rw [nI_eq (by omega) (by omega)]; exact hco), nI_add, nI_add, nI_add]
              obtain ⟨I2, v, e1, e2, e2', e3, e4⟩ := try1 c 1 f1 I1 (f_X5_nears_L84 FU (f_X5_nears FU d) sh (nI h) (nI ch) tl (nI (R h)) q (nI (c + 1))) c1 (by omega) (by rw [if_neg hco]) hf1 h41 hfr
              rw [e1]
              obtain ⟨I', w, g1, g2, g3, g4⟩ := im (c + 1) q v I2 (by omega) (by omega) hq e2' e2 e4
              refine ⟨I', w, g1, g2, (e3.trans g3).cg (fun r' => ?_), g4⟩
              constructor
              · rintro (⟨a1, a2⟩ | ⟨a1, a2, a3, a4⟩)
                · exact ⟨a1, by omega, by omega, by rw [a2]; exact hco⟩
                · exact ⟨a1, by omega, a3, a4⟩
              · rintro ⟨a1, a2, a3, a4⟩
                by_cases e : r' h = c
                · exact Or.inl ⟨a1, e⟩
                · exact Or.inr ⟨a1, by omega, a3, a4⟩
        obtain ⟨I2, v, e1, e2, e2', e3, e4⟩ := try1 (R h) 0 few I (f_X5_nears_L84 FU (f_X5_nears FU d) sh (nI h) (nI ch) tl (nI (R h)) FU (nI 1)) R1 R3 (by rw [if_pos rfl]) hfew h4 ⟨fun _ _ _ => rfl, fun _ _ => rfl, fun _ _ => rfl⟩
        rw [show ch + 0 = ch from rfl] at e1
        rw [nI_add, e1]
        obtain ⟨I', w, g1, g2, g3, g4⟩ := loop 3 1 FU v I2 rfl (by omega) (by omega) e2' e2 e4
        refine ⟨I', w, g1, g2, (e3.trans g3).cg (fun r' => ?_), g4⟩
        constructor
        · rintro (⟨a1, a2⟩ | ⟨a1, a2, a3, a4⟩)
          · exact a1
          · exact a1
        · intro a1
          obtain ⟨b1, b2, -⟩ := a1.2 h (by omega) hh hb
          by_cases e : r' h = R h
          · exact Or.inl ⟨a1, e⟩
          · exact Or.inr ⟨a1, b1, b2, e⟩
      · rw [if_neg hb]
        have hb' : H.testBit h = false := by simpa using hb
        unfold f_X5_passes
        rw [nI_add]
        obtain ⟨I1, e1, p1, p2, p3⟩ := passes_loop (sh := sh) hh hb hL (11 - h) (h + 1) FU I (by omega) (by omega) (by omega) (fun _ _ => rfl) (fun _ _ => rfl) (fun j j1 j2 => by omega)
        rw [bind_ok e1]
        obtain ⟨I2, v, e2, e3, e4, e5⟩ := ih (h + 1) d I1 r ch few (by omega) hd (by omega) hfew (fun x y a1 a2 => by rw [p1 14 (by decide)]; exact hP x y a1 a2) (by rw [p1 11 (by decide)]; exact h11) (by rw [p1 11 (by decide)]; exact h4) (fun k hk => by rw [p1 tl t15]; exact hT k hk) p3
        rw [e2, Option.bind_some]
        have hdz : ∀ r', ds H R r' (n + 1) h = ds H R r' n (h + 1) := fun r' => by rw [ds, if_neg (by rw [hb']; simp), Nat.zero_add]
        refine ⟨I2, v, rfl, e3, ⟨e4.1, ?_, fun r' hr' => ?_⟩, fun a a1 a2 => by rw [e5.1 a a1 a2, p1 a a2], fun k hk => by rw [e5.2.1 k hk, p1 11 (by decide)], fun q hq => by rw [e5.2.2 q (by omega), p2 q hq]⟩
        · rcases e4.2.1 with e | ⟨r', w1, w2⟩
          · exact Or.inl e
          · refine Or.inr ⟨r', ⟨fun i hi => w1.1 i (by omega), fun k k1 k2 hk => ?_⟩, ?_⟩
            · have : k ≠ h := fun e => by rw [e, hb'] at hk; cases hk
              exact w1.2 k (by omega) k2 hk
            · show v = ch + ds H R r' (n + 1) h
              rw [hdz]; exact w2
        · have hz : ∀ i, i ≠ h → upN r' h (r h) i = r' i := fun i hi => upN_n hi
          have hq : CpF P M H (h + 1) r (upN r' h (r h)) := by
            refine ⟨fun i hi => ?_, fun k k1 k2 hk => ?_⟩
            · by_cases e : i = h
              · rw [e, upN_s]
              · rw [upN_n e]; exact hr'.1 i (by omega)
            · rw [hz k (by omega)]
              obtain ⟨a1, a2, a3⟩ := hr'.2 k (by omega) k2 hk
              refine ⟨a1, a2, ?_⟩
              rw [can_congr (r := r') (fun i hi hHi => hz i (fun e => by rw [e, hb'] at hHi; cases hHi))]
              exact a3
          have := e4.2.2 _ hq
          show v ≤ ch + ds H R r' (n + 1) h
          rw [hdz]
          have hd2 : ds H R (upN r' h (r h)) n (h + 1) = ds H R r' n (h + 1) := ds_congr n (h + 1) (fun k k1 k2 _ => hz k (by omega))
          have this : v ≤ ch + ds H R (upN r' h (r h)) n (h + 1) := this
          rw [hd2] at this
          exact this
    · rw [if_neg (nI_nlt (by omega) (by omega))]
      exact ⟨I, few, rfl, h4, ⟨Nat.le_refl _, Or.inl rfl, fun r' _ => by show few ≤ ch + ds H R r' (n + 1) h; omega⟩, fun _ _ _ => rfl, fun _ _ => rfl, fun _ _ => rfl⟩
/-! the halls together -/
def FtH (P M : Nat → Nat) (H : Nat) (r : Nat → Nat) : Prop := ∀ k, k < 12 → H.testBit k = true → 1 ≤ r k ∧ r k ≤ 3 ∧ can P M H r k k (r k) = true
theorem FtH.sub {P M : Nat → Nat} {D y : Nat} {r : Nat → Nat} (h : FtH P M (D ||| y) r) : FtH P M D r ∧ FtH P M y r := by
  have oD : ∀ x, D.testBit x = true → (D ||| y).testBit x = true := fun x hx => by rw [Nat.testBit_or, hx]; rfl
  have oy : ∀ x, y.testBit x = true → (D ||| y).testBit x = true := fun x hx => by rw [Nat.testBit_or, hx, Bool.or_true]
  refine ⟨fun k hk hb => ?_, fun k hk hb => ?_⟩
  · obtain ⟨a1, a2, a3⟩ := h k hk (oD k hb)
    rw [can_iff] at a3
    exact ⟨a1, a2, can_iff.mpr ⟨a3.1, fun i hi hbi => a3.2 i hi (oD i hbi)⟩⟩
  · obtain ⟨a1, a2, a3⟩ := h k hk (oy k hb)
    rw [can_iff] at a3
    exact ⟨a1, a2, can_iff.mpr ⟨a3.1, fun i hi hbi => a3.2 i hi (oy i hbi)⟩⟩
theorem FtH.join {P M : Nat → Nat} {D y : Nat} {r : Nat → Nat} (hD : Clo P D) (hd : Avo D y) (h1 : FtH P M D r) (h2 : FtH P M y r) : FtH P M (D ||| y) r := by
  intro k hk hb
  have hb' := hb
  rw [Nat.testBit_or, Bool.or_eq_true] at hb'
  have hrg : 1 ≤ r k ∧ r k ≤ 3 ∧ okm M k (r k) = true := by
    rcases hb' with hb' | hb'
    · obtain ⟨a1, a2, a3⟩ := h1 k hk hb'; exact ⟨a1, a2, (can_iff.mp a3).1⟩
    · obtain ⟨a1, a2, a3⟩ := h2 k hk hb'; exact ⟨a1, a2, (can_iff.mp a3).1⟩
  refine ⟨hrg.1, hrg.2.1, can_iff.mpr ⟨hrg.2.2, fun i hi hbi => ?_⟩⟩
  rw [Nat.testBit_or, Bool.or_eq_true] at hbi
  rcases hb' with hb' | hb' <;> rcases hbi with hbi | hbi
  · exact (can_iff.mp (h1 k hk hb').2.2).2 i hi hbi
  · obtain ⟨a1, a2, -⟩ := h2 i (by omega) hbi
    exact okp511 (cross511 hD hd hi hk (Or.inr ⟨hbi, hb'⟩)) a1 a2 hrg.1 hrg.2.1
  · obtain ⟨a1, a2, -⟩ := h1 i (by omega) hbi
    exact okp511 (cross511 hD hd hi hk (Or.inl ⟨hbi, hb'⟩)) a1 a2 hrg.1 hrg.2.1
  · exact (can_iff.mp (h2 k hk hb').2.2).2 i hi hbi
theorem FtH.cg {P M : Nat → Nat} {H : Nat} {r r' : Nat → Nat} (h : FtH P M H r) (e : ∀ k, H.testBit k = true → r' k = r k) : FtH P M H r' := by
  intro k hk hb
  obtain ⟨a1, a2, a3⟩ := h k hk hb
  rw [e k hb, can_congr (r := r) (fun i _ hbi => e i hbi)]
  exact ⟨a1, a2, a3⟩
/-- the least number of changes -/
def Least (P M R : Nat → Nat) (H X : Nat) : Prop := (∃ r, FtH P M H r ∧ X = ds H R r 12 0) ∧ ∀ r, FtH P M H r → X ≤ ds H R r 12 0
theorem Least.join {P M R : Nat → Nat} {D y X Y : Nat} (hD : Clo P D) (hd : Avo D y) (h1 : Least P M R D X) (h2 : Least P M R y Y) : Least P M R (D ||| y) (X + Y) := by
  obtain ⟨⟨r1, a1, a2⟩, a3⟩ := h1
  obtain ⟨⟨r2, b1, b2⟩, b3⟩ := h2
  refine ⟨⟨fun x => if y.testBit x = true then r2 x else r1 x, ?_, ?_⟩, fun r hr => ?_⟩
  · refine FtH.join hD hd (a1.cg (fun k hk => ?_)) (b1.cg (fun k hk => if_pos hk))
    show (if y.testBit k = true then r2 k else r1 k) = r1 k
    rw [if_neg (fun e => by rw [hd k e] at hk; cases hk)]
  · rw [ds_or hd, a2, b2]
    congr 1
    · refine (ds_congr 12 0 (fun k _ _ hk => ?_)).symm
      show (if y.testBit k = true then r2 k else r1 k) = r1 k
      rw [if_neg (fun e => by rw [hd k e] at hk; cases hk)]
    · exact (ds_congr 12 0 (fun k _ _ hk => if_pos hk)).symm
  · obtain ⟨c1, c2⟩ := hr.sub
    rw [ds_or hd]
    exact Nat.add_le_add (a3 r c1) (b3 r c2)
theorem nearest_ok {sh : SH} {I : II} {P M R r0 : Nat → Nat} {tl : Nat} (hW : WN I P M) (hP : ∀ q, P q < 512) (hM : ∀ q, M q < 8) (ht : arw sh tl 100 12) (t11 : tl ≠ 11) (t15 : tl ≠ 15) (hR : ∀ k, k < 12 → 1 ≤ R k ∧ R k ≤ 3) (hT : ∀ k, k < 12 → I tl k = nI (R k)) (h0 : FtH P M 4095 r0) : ∃ I' X, f_X5_nearest FU sh tl I = some (nI X, I') ∧ Least P M R 4095 X ∧ ∀ x, x ≠ 11 → x ≠ 15 → I' x = I x := by
  have F5 := FU5
  have hsub : ∀ y, y < 4096 → FtH P M y r0 := fun y hy k hk hb => by
    obtain ⟨a1, a2, a3⟩ := h0 k hk (all_bit k hk)
    rw [can_iff] at a3
    exact ⟨a1, a2, can_iff.mpr ⟨a3.1, fun i hi _ => a3.2 i hi (all_bit i (by omega))⟩⟩
  have loop : ∀ (d h q D X : Nat) (I1 : II), h + d = 12 → d + 1 ≤ q → D < 4096 → Clo P D → (∀ b, b < h → D.testBit b = true) → Least P M R D X → (∀ x, x ≠ 11 → x ≠ 15 → I1 x = I x) → ∃ I' X', f_X5_nearest_L7 FU sh tl q (nI X) (nI D) (nI h) I1 = some (nI X', I') ∧ Least P M R 4095 X' ∧ ∀ x, x ≠ 11 → x ≠ 15 → I' x = I x := by
    intro d
    induction d with
    | zero =>
      intro h q D X I1 hh hq hD hC hF hX g1
      obtain ⟨q, rfl⟩ := pred1 hq
      obtain rfl : h = 12 := by omega
      refine ⟨I1, X, ?_, by rw [← full12 hD hF]; exact hX, g1⟩
      rw [f_X5_nearest_L7, if_pos (by decide)]
    | succ d ih =>
      intro h q D X I1 hh hq hD hC hF hX g1
      obtain ⟨q, rfl⟩ := pred1 hq
      replace hq := Nat.le_of_succ_le_succ hq
      have h12 : h < 12 := by omega
      rw [f_X5_nearest_L7, if_neg (nI_ge h12 (by omega)), has_if (by omega) (by omega), nI_add]
      by_cases hb : D.testBit h = true
      · rw [if_pos hb]
        exact ih (h + 1) q D X I1 (by omega) hq hD hC (fun b hb2 => by
          by_cases e : b = h
          · rw [e]; exact hb
          · exact hF b (by omega)) hX g1
      · have hb' : D.testBit h = false := by simpa using hb
        have hW1 : WN I1 P M := hW.of (g1 13 (by decide) (by decide)) (g1 14 (by decide) (by decide))
        obtain ⟨y, e1, e2, e3, e4, e5⟩ := tied_ok (sh := sh) hW1 hP h12 hC hb'
        obtain ⟨I2, b0, b1, b2, b3, b4⟩ := begin_ok (sh := sh) (I := I1) (H := y)
        obtain ⟨I3, v, c1, c2, c3, c4⟩ := nears_ok (sh := sh) (P := P) (M := M) e2 ht t11 t15 hR 12 0 13 (up2 I2 11 4 (nI 13)) (fun _ => 0) 0 13 rfl (by omega) (by omega) (by omega) (fun x z a1 a2 => by rw [up2_n (by decide), b1 14 (by decide) (by decide)]; exact ⟨(hW1.2 x z a1 a2).1, hP _⟩) (by rw [up2_ne (by decide)]; exact b3) up2_eq (fun k hk => by rw [up2_n t11, b1 tl t11 t15, g1 tl t11 t15]; exact hT k hk) (rowL0 (fun k hk => by rw [up2_n (by decide), b4 k hk]; exact ⟨hW1.1 k hk, hM k⟩))
        have hL : Least P M R y v := by
          have hcp : ∀ r, FtH P M y r ↔ CpF P M y 0 (fun _ => 0) r := fun r => ⟨fun hr => ⟨fun i hi => by omega, fun k _ hk hb => hr k hk hb⟩, fun hr k hk hb => hr.2 k (by omega) hk hb⟩
          refine ⟨?_, fun r hr => ?_⟩
          · rcases c3.2.1 with e | ⟨r, w1, w2⟩
            · have h1 := c3.2.2 r0 ((hcp r0).mp (hsub y e2))
              have h1 : v ≤ 0 + ds y R r0 12 0 := h1
              have h2 := ds_le (H := y) (R := R) (r := r0) 12 0
              omega
            · have w2 : v = 0 + ds y R r 12 0 := w2
              exact ⟨r, (hcp r).mpr w1, by omega⟩
          · have h1 : v ≤ 0 + ds y R r 12 0 := c3.2.2 r ((hcp r).mp hr)
            omega
        rw [if_neg hb, e1, Option.bind_some, b0, Option.bind_some, c1, Option.bind_some, c2, nI_add, nx_or9]
        exact ih (h + 1) q (D ||| y) (X + v) I3 (by omega) hq (Nat.or_lt_two_pow (n := 12) hD e2) (clo_or hC e4) (fun b hb2 => by
          rw [Nat.testBit_or]
          by_cases e : b = h
          · rw [e, e3, Bool.or_true]
          · rw [hF b (by omega)]; rfl) (hX.join hC e5 hL) (fun x x1 x2 => by rw [c4.1 x x1 x2, up2_n x1, b1 x x1 x2, g1 x x1 x2])
  have hz : ∀ r, ds 0 R r 12 0 = 0 := fun r => by
    have : ∀ n h, ds 0 R r n h = 0 := by
      intro n
      induction n with
      | zero => intro h; rfl
      | succ n ih => intro h; rw [ds, ih, if_neg (by rw [Nat.zero_testBit]; simp)]
    exact this 12 0
  unfold f_X5_nearest
  exact loop 12 0 FU 0 0 I rfl (by omega) (by decide) (fun i k _ _ _ h => by rw [Nat.zero_testBit] at h; cases h) (fun b hb => by omega) ⟨⟨fun _ => 0, (fun k _ hb => (by rw [Nat.zero_testBit] at hb; cases hb)), (hz _).symm⟩, fun r _ => Nat.zero_le _⟩ (fun _ _ _ => rfl)
