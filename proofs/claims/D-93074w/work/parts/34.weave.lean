/-! PLAIN SIDE: what the class's cells hold stays where nothing is written; its list of laws; weaving -/
set_option maxRecDepth 100000
theorem Cas.kept {sh : SH} {I I' : II} {ow : Nat → Nat} {cl kd : Nat} {T : Nat → Nat} (h : Cas sh I ow cl kd T) (e : ∀ x, ow x = 0 → I' x = I x) : Cas sh I' ow cl kd T := by
  obtain ⟨h1, h2, h3, f, s, g, h4, h5, h6, h7, h8, h9, o1, o2, o3, h10⟩ := h
  exact ⟨h1, h2, by rw [e cl h2]; exact h3, f, s, g, h4, h5, h6, h7, h8, h9, o1, o2, o3, fun i hi => by rw [e f o1, e s o2, e g o3]; exact h10 i hi⟩
theorem Dem.kept {sh : SH} {I I' : II} {ow : Nat → Nat} {t : Nat} {a : AS} {l d : Nat} (h : Dem sh I ow t a l d) (e : ∀ x, ow x = t ∨ ow x = 0 → I' x = I x) : Dem sh I' ow t a l d := by
  obtain ⟨h1, h2, h3, h4, h5, cl, h6, h7⟩ := h
  exact ⟨h1, h2, h3, by rw [e d (Or.inl h2)]; exact h4, by rw [e d (Or.inl h2)]; exact h5, cl, h6, h7.kept (fun x hx => e x (Or.inr hx))⟩
theorem Lst.kept {sh : SH} {I I' : II} {ow : Nat → Nat} {t : Nat} {a : AS} {al : Nat} (h : Lst sh I ow t a al) (e : ∀ x, ow x = t ∨ ow x = 0 → I' x = I x) : Lst sh I' ow t a al := by
  obtain ⟨h1, h2, h3, ea, h4, h5, h6⟩ := h
  refine ⟨h1, h2, by rw [e al (Or.inl h2)]; exact h3, ea, h4, h5, fun l hl => ?_⟩
  obtain ⟨d, h7, h8⟩ := h6 l hl
  exact ⟨d, h7, h8.kept e⟩
theorem Vil.kept {sh : SH} {I I' : II} {ow : Nat → Nat} {t : Nat} {a : AS} {v : Nat} (h : Vil sh I ow t a v) (e : ∀ x, ow x = t ∨ ow x = 0 → I' x = I x) : Vil sh I' ow t a v := by
  obtain ⟨h1, h2, h3, h4, ⟨tl, a1, a2, a3, a4⟩, ⟨al, b1, b2⟩, ⟨tp, c1, c2, c3, c4⟩, wl, d1, d2, d3, d4⟩ := h
  exact ⟨h1, h2, by rw [e v (Or.inl h2)]; exact h3, by rw [e v (Or.inl h2)]; exact h4, ⟨tl, a1, a2, a3, by rw [e tl (Or.inl a3)]; exact a4⟩, ⟨al, b1, b2.kept e⟩, ⟨tp, c1, c2, c3, by rw [e tp (Or.inl c3)]; exact c4⟩, wl, d1, d2, d3, by rw [e wl (Or.inl d3)]; exact d4⟩
theorem lst_size {sh : SH} {I : II} {ow : Nat → Nat} {t : Nat} {a : AS} {al : Nat} (h : Lst sh I ow t a al) : f_J5_size sh al I = some (nI (aN a)) := by
  unfold f_J5_size
  rw [ock_ok h.1.r, h.2.2.1]
theorem lst_get {sh : SH} {I : II} {ow : Nat → Nat} {t : Nat} {a : AS} {al l : Nat} (h : Lst sh I ow t a al) (h8 : aN a ≤ 8) (hl : l < aN a) : ∃ d, f_J5_get sh al (nI l) I = some d ∧ Dem sh I ow t a l d := by
  obtain ⟨h1, h2, h3, ea, h4, h5, h6⟩ := h
  obtain ⟨d, h7, h9⟩ := h6 l hl
  refine ⟨d, ?_, h9⟩
  have h5 : arw sh ea 200 10 := by
    rcases h5 with ⟨h, -⟩ | ⟨h, -⟩
    · omega
    · exact h
  unfold f_J5_get f_J16_checkIndex f_J13_checkIndex f_J5_elementData
  rw [ock_ok h1.r, h3, if_neg (nI_pos (by omega)), if_pos (nI_lt hl (by omega)), Option.bind_some, Option.bind_some, ock_ok h1.r, orf_ok h4, oar_ok h5.r, oix_ok (j := l) rfl (by omega) (by decide), orf_ok h7]
  rfl
theorem isPair_ok {sh : SH} {I : II} {ow : Nat → Nat} {cl kd i : Nat} {T : Nat → Nat} (h : Cas sh I ow cl kd T) (hk : kd < 6) (hi : i < cN kd) : f_X23_isPair sh cl (nI i) I = some (bI (prd kd)) := by
  obtain ⟨h1, h2, h3, f, s, g, h4, h5, h6, h7, h8, h9, o1, o2, o3, h10⟩ := h
  have hcN := (cN_le _ hk).1
  obtain ⟨-, -, c3, c4⟩ := cs_ok _ hk i hi
  unfold f_X23_isPair
  rw [ock_ok h1.r, orf_ok h5, oarw_ok h8, oix_ok (j := i) rfl (by omega) (by decide), (h10 i hi).2.1]
  cases hp : prd kd with
  | true =>
    obtain ⟨k1, -, k3⟩ := c3 hp
    rw [k3, if_neg]
    · rfl
    · intro e
      have : nI (cK (cF kd + i)) < 0 := by rw [e]; decide
      exact nI_pos (by omega) this
  | false => rw [c4 hp, if_pos rfl]; rfl
theorem bind_if {α : Type} {b : Bool} {A B : Option α} : (some (bI b)).bind (fun r => if r = 0 then A else B) = if b = true then B else A := by
  cases b <;> rfl
/-- what the class has woven; nothing else is changed -/
def GN (I I1 : II) (w : (Nat → Nat) × (Nat → Nat)) : Prop := (∀ x, x ≠ 13 → x ≠ 14 → I1 x = I x) ∧ (∀ h, h < 12 → I1 13 h = nI (2 * w.2 h)) ∧ ∀ h k, h < k → k < 12 → I1 14 (12 * h + k) = nI (w.1 (12 * h + k)) ∧ I1 14 (12 * k + h) = nI (flp (w.1 (12 * h + k)))
theorem add_loop {sh : SH} {I : II} {ow : Nat → Nat} {cl kd : Nat} {T : Nat → Nat} (hM : Mrk ow) (hC : Cas sh I ow cl kd T) (hk : kd < 6) (hT : ∀ i, i < cN kd → T i < tmax kd) : ∀ (d i n : Nat) (I1 : II) (w : (Nat → Nat) × (Nat → Nat)), i + d = cN kd → d + 1 ≤ n → WOK w → GN I I1 w → ∃ I2, f_X6_add_L7 FU sh cl n (nI i) I1 = some I2 ∧ GN I I2 (glw kd T d i w) := by
  have hcN := (cN_le _ hk).1
  have m13 : ow 13 = 9 := hM.1 13 (by decide) (by decide)
  have m14 : ow 14 = 9 := hM.1 14 (by decide) (by decide)
  have ne : ∀ x, ow x = 0 → x ≠ 13 ∧ x ≠ 14 := fun x hx => ⟨fun e => (by rw [e, m13] at hx; cases hx), fun e => (by rw [e, m14] at hx; cases hx)⟩
  intro d
  induction d with
  | zero =>
    intro i n I1 w hi hn hw hg
    obtain ⟨n, rfl⟩ := pred1 hn
    refine ⟨I1, ?_, hg⟩
    rw [f_X6_add_L7, ock_ok hC.1.r, hg.1 cl (ne cl hC.2.1).1 (ne cl hC.2.1).2, hC.2.2.1, if_pos (nI_le (by omega) (by omega))]
  | succ d ih =>
    intro i n I1 w hi hn hw hg
    obtain ⟨n, rfl⟩ := pred1 hn
    replace hn := Nat.le_of_succ_le_succ hn
    have hic : i < cN kd := by omega
    have hC1 : Cas sh I1 ow cl kd T := hC.kept (fun x hx => hg.1 x (ne x hx).1 (ne x hx).2)
    have hip := isPair_ok hC1 hk hic
    obtain ⟨h1, h2, h3, f, s, g, h4, h5, h6, h7, h8, h9, o1, o2, o3, h10⟩ := hC1
    obtain ⟨q1, q2, q3⟩ := h10 i hic
    obtain ⟨c1, c2, c3, c4⟩ := cs_ok _ hk i hic
    have hx := hT i hic
    rw [f_X6_add_L7, ock_ok h1.r, h3, if_neg (nI_ge hic (by omega)), orf_ok h4, oarw_ok h7, oix_ok (j := i) rfl (by omega) (by decide), hip, bind_if, q1, nI_add, glw]
    generalize hH : cH (cF kd + i) = h at c2 c3 ⊢
    cases hp : prd kd with
    | true =>
      obtain ⟨k1, k2, k3⟩ := c3 hp
      have hx9 : T i < 512 := tmax_le hx
      have hgx : gx kd (T i) = T i := if_pos hp
      rw [hgx] at q3
      rw [k3] at q2
      generalize hK : cK (cF kd + i) = k at k1 k2 q2
      rw [if_pos rfl, orf_ok h5, oarw_ok h8, oix_ok (j := i) rfl (by omega) (by decide), q2]
      rw [oix_ok (j := 12 * h + k) (by rw [pk_mul, nI_add]) (by omega) (by decide), orf_ok h6, oarw_ok h9, oix_ok (j := i) rfl (by omega) (by decide), oix_ok (j := 12 * h + k) (by rw [pk_mul, nI_add]) (by omega) (by decide), oix_ok (j := 12 * k + h) (by rw [pk_mul, nI_add]) (by omega) (by decide), orf_ok h6, oarw_ok h9, oix_ok (j := i) rfl (by omega) (by decide), up2_n (ne g o3).2, q3, (flp_ok _ hx9).1, Option.bind_some, oix_ok (j := 12 * k + h) (by rw [pk_mul, nI_add]) (by omega) (by decide), up2_ne (show 12 * k + h ≠ 12 * h + k by omega)]
      by_cases hlt : h < k
      · obtain ⟨w1, w2⟩ := hg.2.2 h k hlt k1
        have hgs : gst kd i (T i) w = (upN w.1 (12 * h + k) (w.1 (12 * h + k) &&& T i), w.2) := by
          unfold gst
          rw [if_pos hp, hH, hK, if_pos hlt]
        rw [w1, w2, nx_and9, nx_and9]
        refine ih (i + 1) n _ _ (by omega) hn (wok_gst hw) ?_
        rw [hgs]
        refine ⟨fun x x1 x2 => by rw [up2_n x2, up2_n x2]; exact hg.1 x x1 x2, fun q hq => by rw [up2_n (by decide), up2_n (by decide)]; exact hg.2.1 q hq, fun x y hxy hy => ?_⟩
        show _ = nI (upN _ _ _ _) ∧ _ = nI (flp (upN _ _ _ _))
        by_cases e : 12 * x + y = 12 * h + k
        · have ex : x = h := by omega
          have ey : y = k := by omega
          subst ex ey
          rw [upN_s, up2_ne (by omega), up2_eq, up2_eq, flp_and (hw.1 _) hx9]
          exact ⟨rfl, rfl⟩
        · rw [upN_n e, up2_ne (by omega), up2_ne e, up2_ne (by omega), up2_ne (by omega)]
          exact hg.2.2 x y hxy hy
      · have hlt' : k < h := by omega
        obtain ⟨w1, w2⟩ := hg.2.2 k h hlt' c2
        have hgs : gst kd i (T i) w = (upN w.1 (12 * k + h) (w.1 (12 * k + h) &&& flp (T i)), w.2) := by
          unfold gst
          rw [if_pos hp, hH, hK, if_neg hlt]
        rw [w1, w2, nx_and9, nx_and9]
        refine ih (i + 1) n _ _ (by omega) hn (wok_gst hw) ?_
        rw [hgs]
        refine ⟨fun x x1 x2 => by rw [up2_n x2, up2_n x2]; exact hg.1 x x1 x2, fun q hq => by rw [up2_n (by decide), up2_n (by decide)]; exact hg.2.1 q hq, fun x y hxy hy => ?_⟩
        show _ = nI (upN _ _ _ _) ∧ _ = nI (flp (upN _ _ _ _))
        by_cases e : 12 * x + y = 12 * k + h
        · have ex : x = k := by omega
          have ey : y = h := by omega
          subst ex ey
          rw [upN_s, up2_eq, up2_ne (by omega), up2_eq, flp_and (hw.1 _) (flp_lt _ hx9), flp_flp _ hx9]
          exact ⟨rfl, rfl⟩
        · rw [upN_n e, up2_ne e, up2_ne (by omega), up2_ne (by omega), up2_ne (by omega)]
          exact hg.2.2 x y hxy hy
    | false =>
      have hx8 : T i < 8 := by
        unfold tmax at hx
        rw [if_neg (by rw [hp]; decide)] at hx
        exact hx
      have hgx : gx kd (T i) = spr (T i) := if_neg (by rw [hp]; decide)
      rw [hgx] at q3
      rw [if_neg (by decide), oix_ok (j := h) rfl c2 (by decide), orf_ok h6, oarw_ok h9, oix_ok (j := i) rfl (by omega) (by decide), q3, (spr_ok _ hx8).1, Option.bind_some, oix_ok (j := h) rfl c2 (by decide), hg.2.1 h c2, nx_and9, (and2 _ (hw.2 h) _ hx8).1]
      have hgs : gst kd i (T i) w = (w.1, upN w.2 h (w.2 h &&& T i)) := by
        unfold gst
        rw [if_neg (by rw [hp]; decide), hH]
      refine ih (i + 1) n _ _ (by omega) hn (wok_gst hw) ?_
      rw [hgs]
      refine ⟨fun x x1 x2 => by rw [up2_n x1]; exact hg.1 x x1 x2, fun q hq => ?_, fun x y hxy hy => by rw [up2_n (by decide)]; exact hg.2.2 x y hxy hy⟩
      show _ = nI (2 * upN _ _ _ _)
      by_cases e : q = h
      · subst e
        rw [up2_eq, upN_s]
      · rw [up2_ne e, upN_n e]
        exact hg.2.1 q hq
theorem clear_ok {sh : SH} {I : II} : ∃ I', f_X6_clear FU sh I = some I' ∧ GN I I' (fun _ => 511, fun _ => 7) := by
  have l2 : ∀ (d k n : Nat) (I1 : II), k + d = 144 → d + 1 ≤ n → (∀ x, x ≠ 13 → x ≠ 14 → I1 x = I x) → (∀ h, h < 12 → I1 13 h = nI 14) → (∀ q, q < k → I1 14 q = nI 511) → ∃ I', f_X6_clear_L24 FU sh n (nI k) I1 = some I' ∧ GN I I' (fun _ => 511, fun _ => 7) := by
    intro d
    induction d with
    | zero =>
      intro k n I1 hk hn g1 g2 g3
      obtain ⟨n, rfl⟩ := pred1 hn
      obtain rfl : k = 144 := by omega
      refine ⟨I1, ?_, g1, g2, fun x y h1 h2 => ⟨g3 _ (by omega), ?_⟩⟩
      · rw [f_X6_clear_L24, if_pos (by decide)]
      · show _ = nI (flp 511)
        rw [flp_511]
        exact g3 _ (by omega)
    | succ d ih =>
      intro k n I1 hk hn g1 g2 g3
      obtain ⟨n, rfl⟩ := pred1 hn
      replace hn := Nat.le_of_succ_le_succ hn
      rw [f_X6_clear_L24, if_neg (nI_ge (by omega) (by omega)), oix_ok (j := k) rfl (by omega) (by decide), nI_add]
      refine ih (k + 1) n _ (by omega) hn (fun x x1 x2 => by rw [up2_n x2]; exact g1 x x1 x2) (fun h hh => by rw [up2_n (by decide)]; exact g2 h hh) (fun q hq => ?_)
      by_cases e : q = k
      · subst e; exact up2_eq
      · rw [up2_ne e]; exact g3 q (by omega)
  have l1 : ∀ (d k n : Nat) (I1 : II), k + d = 12 → d + 1 ≤ n → (∀ x, x ≠ 13 → x ≠ 14 → I1 x = I x) → (∀ h, h < k → I1 13 h = nI 14) → ∃ I', f_X6_clear_L2 FU sh n (nI k) I1 = some I' ∧ GN I I' (fun _ => 511, fun _ => 7) := by
    intro d
    induction d with
    | zero =>
      intro k n I1 hk hn g1 g2
      obtain ⟨n, rfl⟩ := pred1 hn
      obtain rfl : k = 12 := by omega
      rw [f_X6_clear_L2, if_pos (by decide)]
      exact l2 144 0 FU I1 rfl (by have := FU5; omega) g1 g2 (fun q hq => by omega)
    | succ d ih =>
      intro k n I1 hk hn g1 g2
      obtain ⟨n, rfl⟩ := pred1 hn
      replace hn := Nat.le_of_succ_le_succ hn
      rw [f_X6_clear_L2, if_neg (nI_ge (by omega) (by omega)), oix_ok (j := k) rfl (by omega) (by decide), nI_add]
      refine ih (k + 1) n _ (by omega) hn (fun x x1 x2 => by rw [up2_n x1]; exact g1 x x1 x2) (fun q hq => ?_)
      by_cases e : q = k
      · subst e; exact up2_eq
      · rw [up2_ne e]; exact g2 q (by omega)
  exact l1 12 0 FU I rfl (by have := FU5; omega) (fun _ _ _ => rfl) (fun q hq => by omega)
/-- the village that is at hand -/
def VN (sh : SH) (I : II) (ow : Nat → Nat) (a : AS) (v : Nat) : Prop := stN sh ∧ Mrk ow ∧ AOK a ∧ sh.2.2 0 1 = some v ∧ Vil sh I ow 1 a v
theorem VN.kept {sh : SH} {I I' : II} {ow : Nat → Nat} {a : AS} {v : Nat} (h : VN sh I ow a v) (e : ∀ x, ow x ≠ 9 → I' x = I x) : VN sh I' ow a v := ⟨h.1, h.2.1, h.2.2.1, h.2.2.2.1, h.2.2.2.2.kept (fun x hx => e x (by rcases hx with hx | hx <;> rw [hx] <;> decide))⟩
theorem Mrk.ne {ow : Nat → Nat} (h : Mrk ow) {x b : Nat} (hx : ow x ≠ 9) (hb : b < 48) (hb2 : ¬ (2 ≤ b ∧ b ≤ 6)) : x ≠ b := fun e => hx (by rw [e]; exact h.1 b hb hb2)
theorem weave_ok {sh : SH} {I : II} {ow : Nat → Nat} {a : AS} {v s : Nat} (h : VN sh I ow a v) (hs : s < 256) : ∃ I', f_X0_weave FU sh (nI s) I = some I' ∧ GN I I' (web a s) := by
  obtain ⟨hS, hM, hA, hv, hV⟩ := h
  obtain ⟨I0', e0, g0⟩ := clear_ok (sh := sh) (I := I)
  unfold f_X0_weave
  rw [bind_ok e0]
  have h8 := hA.1
  have loop : ∀ (d l n : Nat) (I1 : II) (w : (Nat → Nat) × (Nat → Nat)), l + d = aN a → d + 1 ≤ n → WOK w → GN I I1 w → ∃ I2, f_X0_weave_L12 FU sh (nI s) n (nI l) I1 = some I2 ∧ GN I I2 (gal a s d l w) := by
    intro d
    induction d with
    | zero =>
      intro l n I1 w hl hn hw hg
      obtain ⟨n, rfl⟩ := pred1 hn
      have hV1 : Vil sh I1 ow 1 a v := hV.kept (fun x hx => hg.1 x (hM.ne (by rcases hx with hx | hx <;> rw [hx] <;> decide) (by decide) (by decide)) (hM.ne (by rcases hx with hx | hx <;> rw [hx] <;> decide) (by decide) (by decide)))
      obtain ⟨v1, -, -, -, -, ⟨al, b1, b2⟩, -⟩ := hV1
      refine ⟨I1, ?_, hg⟩
      rw [f_X0_weave_L12, orf_ok hv, ock_ok v1.r, orf_ok b1, ock_ok b2.1.r, lst_size b2, Option.bind_some, if_pos (nI_le (by omega) (by omega))]
    | succ d ih =>
      intro l n I1 w hl hn hw hg
      obtain ⟨n, rfl⟩ := pred1 hn
      replace hn := Nat.le_of_succ_le_succ hn
      have hll : l < aN a := by omega
      have hV1 : Vil sh I1 ow 1 a v := hV.kept (fun x hx => hg.1 x (hM.ne (by rcases hx with hx | hx <;> rw [hx] <;> decide) (by decide) (by decide)) (hM.ne (by rcases hx with hx | hx <;> rw [hx] <;> decide) (by decide) (by decide)))
      obtain ⟨v1, -, -, -, -, ⟨al, b1, b2⟩, -⟩ := hV1
      rw [f_X0_weave_L12, orf_ok hv, ock_ok v1.r, orf_ok b1, ock_ok b2.1.r, lst_size b2, Option.bind_some, if_neg (nI_ge hll (by omega)), has_if (by omega) (by omega), nI_add, gal]
      by_cases hb : s.testBit l = true
      · rw [if_pos hb, if_pos hb]
        obtain ⟨d9, e9, hd9⟩ := lst_get b2 h8 hll
        have hk := (hA.2.2.2.2.1 l hll).1
        have hcN := (cN_le _ hk).1
        obtain ⟨d1, d2, d3, d4, d5, cl, d6, d7⟩ := hd9
        obtain ⟨I2, e2, g2⟩ := add_loop (sh := sh) (I := I) hM (d7.kept (fun x hx => (hg.1 x (hM.ne (by rw [hx]; decide) (by decide) (by decide)) (hM.ne (by rw [hx]; decide) (by decide) (by decide))).symm)) hk (hA.2.2.2.2.1 l hll).2.2 (cN (aK a l)) 0 FU I1 w (by omega) (by have := FU5; omega) hw hg
        rw [orf_ok hv, ock_ok v1.r, orf_ok b1, ock_ok b2.1.r, e9, Option.bind_some, ockD_ok d1.r hk]
        unfold f_X6_add
        rw [ockD_ok d1.r hk, orf_ok d6, e2, Option.bind_some]
        exact ih (l + 1) n I2 _ (by omega) hn (wok_glw _ _ _ hw) g2
      · rw [if_neg hb, if_neg hb]
        exact ih (l + 1) n I1 w (by omega) hn hw hg
  exact loop (aN a) 0 FU I0' _ (by omega) (by have := FU5; omega) ⟨fun _ => (show (511 : Nat) < 512 by decide), fun _ => (show (7 : Nat) < 8 by decide)⟩ g0
