/-! PLAIN SIDE: what goes together by a set of laws -/
set_option maxRecDepth 100000
theorem cs_ok : ∀ k, k < 6 → ∀ i, i < cN k → cF k + i < 90 ∧ cH (cF k + i) < 12 ∧ (prd k = true → cK (cF k + i) < 12 ∧ cH (cF k + i) ≠ cK (cF k + i) ∧ cKi (cF k + i) = nI (cK (cF k + i))) ∧ (prd k = false → cKi (cF k + i) = -1) := by decide +kernel
theorem cN_le : ∀ k, k < 6 → cN k ≤ 32 ∧ 1 ≤ cN k ∧ cF (k + 1) - cF k = cN k ∧ cF k ≤ cF (k + 1) ∧ cF (k + 1) ≤ 90 := by decide +kernel
theorem ext9 {x y : Nat} (hx : x < 512) (hy : y < 512) (h : ∀ c, c < 3 → ∀ d, d < 3 → x.testBit (3 * c + d) = y.testBit (3 * c + d)) : x = y := by
  apply Nat.eq_of_testBit_eq
  intro j
  by_cases hj : j < 9
  · have e : j = 3 * (j / 3) + j % 3 := by omega
    rw [e]
    exact h (j / 3) (by omega) (j % 3) (by omega)
  · have hp : 2 ^ 9 ≤ 2 ^ j := Nat.pow_le_pow_right (by decide) (by omega)
    rw [Nat.testBit_lt_two_pow (Nat.lt_of_lt_of_le hx hp), Nat.testBit_lt_two_pow (Nat.lt_of_lt_of_le hy hp)]
theorem and_lt9 {x y : Nat} (hx : x < 512) : x &&& y < 512 := Nat.lt_of_le_of_lt Nat.and_le_left hx
theorem flp_and {x y : Nat} (hx : x < 512) (hy : y < 512) : flp (x &&& y) = flp x &&& flp y := by
  have hxy : x &&& y < 512 := and_lt9 hx
  refine ext9 (flp_lt _ hxy) (and_lt9 (flp_lt _ hx)) (fun c hc d hd => ?_)
  rw [flp_bit _ hxy c hc d hd, Nat.testBit_and, Nat.testBit_and, flp_bit _ hx c hc d hd, flp_bit _ hy c hc d hd]
theorem flp_flp : ∀ x, x < 512 → flp (flp x) = x := by decide +kernel
theorem flp_511 : flp 511 = 511 := by decide +kernel
/-- one case of a law -/
def gst (kd i x : Nat) (w : (Nat → Nat) × (Nat → Nat)) : (Nat → Nat) × (Nat → Nat) := if prd kd = true then (if cH (cF kd + i) < cK (cF kd + i) then (upN w.1 (12 * cH (cF kd + i) + cK (cF kd + i)) (w.1 (12 * cH (cF kd + i) + cK (cF kd + i)) &&& x), w.2) else (upN w.1 (12 * cK (cF kd + i) + cH (cF kd + i)) (w.1 (12 * cK (cF kd + i) + cH (cF kd + i)) &&& flp x), w.2)) else (w.1, upN w.2 (cH (cF kd + i)) (w.2 (cH (cF kd + i)) &&& x))
def glw (kd : Nat) (T : Nat → Nat) : Nat → Nat → (Nat → Nat) × (Nat → Nat) → (Nat → Nat) × (Nat → Nat)
  | 0, _, w => w
  | d + 1, i, w => glw kd T d (i + 1) (gst kd i (T i) w)
def gal (a : AS) (s : Nat) : Nat → Nat → (Nat → Nat) × (Nat → Nat) → (Nat → Nat) × (Nat → Nat)
  | 0, _, w => w
  | d + 1, l, w => gal a s d (l + 1) (if s.testBit l = true then glw (aK a l) (aX a l) (cN (aK a l)) 0 w else w)
def web (a : AS) (s : Nat) : (Nat → Nat) × (Nat → Nat) := gal a s (aN a) 0 (fun _ => 511, fun _ => 7)
def WOK (w : (Nat → Nat) × (Nat → Nat)) : Prop := (∀ q, w.1 q < 512) ∧ ∀ h, w.2 h < 8
theorem and_lt8 {x y : Nat} (hx : x < 8) : x &&& y < 8 := Nat.lt_of_le_of_lt Nat.and_le_left hx
theorem wok_gst {kd i x : Nat} {w : (Nat → Nat) × (Nat → Nat)} (h : WOK w) : WOK (gst kd i x w) := by
  unfold gst
  split
  · split
    · exact ⟨fun q => by unfold upN; dsimp only; split; exact and_lt9 (h.1 _); exact h.1 q, h.2⟩
    · exact ⟨fun q => by unfold upN; dsimp only; split; exact and_lt9 (h.1 _); exact h.1 q, h.2⟩
  · exact ⟨h.1, fun q => by unfold upN; dsimp only; split; exact and_lt8 (h.2 _); exact h.2 q⟩
theorem wok_glw {kd : Nat} {T : Nat → Nat} : ∀ (d i : Nat) (w : (Nat → Nat) × (Nat → Nat)), WOK w → WOK (glw kd T d i w) := by
  intro d
  induction d with
  | zero => intro i w h; exact h
  | succ d ih => intro i w h; exact ih _ _ (wok_gst h)
theorem wok_gal {a : AS} {s : Nat} : ∀ (d l : Nat) (w : (Nat → Nat) × (Nat → Nat)), WOK w → WOK (gal a s d l w) := by
  intro d
  induction d with
  | zero => intro i w h; exact h
  | succ d ih =>
    intro l w h
    refine ih _ _ ?_
    split
    · exact wok_glw _ _ _ h
    · exact h
theorem web_ok (a : AS) (s : Nat) : WOK (web a s) := wok_gal _ _ _ ⟨fun _ => (show (511 : Nat) < 512 by decide), fun _ => (show (7 : Nat) < 8 by decide)⟩
/-! the reference -/
theorem kindOf_ok {I : II} {a : AS} {l : Nat} (hR : RowIs (I 28) a) (hn : aN a ≤ 8) (hl : l < aN a) : f_X9_kindOf (nI l) I = some (nI (aK a l)) := by
  unfold f_X9_kindOf
  rw [oix_ok (j := 22 + l) (by rw [nI_add]) (by omega) (by decide), (hR.2.2.2.2.1 l hl).1]
theorem casesOf_ok {I : II} {a : AS} {l : Nat} (hR : RowIs (I 28) a) (hA : AOK a) (hT : Tab I) (hl : l < aN a) : f_X9_casesOf (nI l) I = some (nI (cN (aK a l))) := by
  have hk := (hA.2.2.2.2.1 l hl).1
  obtain ⟨-, -, c1, c2, c3⟩ := cN_le _ hk
  unfold f_X9_casesOf
  rw [kindOf_ok hR hA.1 hl, Option.bind_some, oix_ok (j := aK a l + 1) (by rw [nI_add]) (by omega) (by decide), Option.bind_some, oix_ok (j := aK a l) rfl (by omega) (by decide), hT.1 _ (by omega), hT.1 _ (by omega), pk_sub c2, c1]
theorem hallOf_ok {I : II} {a : AS} {l i : Nat} (hR : RowIs (I 28) a) (hA : AOK a) (hT : Tab I) (hl : l < aN a) (hi : i < cN (aK a l)) : f_X9_hallOf (nI l) (nI i) I = some (nI (cH (cF (aK a l) + i))) := by
  have hk := (hA.2.2.2.2.1 l hl).1
  obtain ⟨c1, -⟩ := cs_ok _ hk i hi
  unfold f_X9_hallOf
  rw [kindOf_ok hR hA.1 hl, Option.bind_some, oix_ok (j := aK a l) rfl (by omega) (by decide), hT.1 _ (by omega), oix_ok (j := cF (aK a l) + i) (by rw [nI_add]) c1 (by decide), (hT.2 _ c1).1]
theorem otherOf_ok {I : II} {a : AS} {l i : Nat} (hR : RowIs (I 28) a) (hA : AOK a) (hT : Tab I) (hl : l < aN a) (hi : i < cN (aK a l)) : f_X9_otherOf (nI l) (nI i) I = some (cKi (cF (aK a l) + i)) := by
  have hk := (hA.2.2.2.2.1 l hl).1
  obtain ⟨c1, -⟩ := cs_ok _ hk i hi
  unfold f_X9_otherOf
  rw [kindOf_ok hR hA.1 hl, Option.bind_some, oix_ok (j := aK a l) rfl (by omega) (by decide), hT.1 _ (by omega), oix_ok (j := cF (aK a l) + i) (by rw [nI_add]) c1 (by decide), (hT.2 _ c1).2.1]
theorem Tab.of {I I' : II} (h : Tab I) (h1 : I' 31 = I 31) (h2 : I' 32 = I 32) (h3 : I' 33 = I 33) (h4 : I' 34 = I 34) : Tab I' := ⟨fun k hk => by rw [h1]; exact h.1 k hk, fun q hq => by rw [h2, h3, h4]; exact h.2 q hq⟩
/-- what the reference has gathered; nothing else is changed -/
def GM (I I1 : II) (w : (Nat → Nat) × (Nat → Nat)) : Prop := (∀ x, x ≠ 37 → x ≠ 38 → I1 x = I x) ∧ (∀ q, q < 144 → I1 38 q = nI (w.1 q)) ∧ ∀ h, h < 12 → I1 37 h = nI (w.2 h)
theorem tmax_le {k x : Nat} (h : x < tmax k) : x < 512 := by
  unfold tmax at h
  split at h <;> omega
theorem gather_case {I : II} {a : AS} {s l : Nat} {k37 : Int32 → II → Option II} (hR : RowIs (I 28) a) (hA : AOK a) (hT : Tab I) (hs : s < 256) (hb : s.testBit l = true) (hl : l < aN a) : ∀ (d i n : Nat) (I1 : II) (w : (Nat → Nat) × (Nat → Nat)), i + d = cN (aK a l) → d + 1 ≤ n → WOK w → GM I I1 w → ∃ I2, f_X9_gather_L49 FU k37 (nI s) (nI l) n (nI i) I1 = k37 (nI (l + 1)) I2 ∧ GM I I2 (glw (aK a l) (aX a l) d i w) := by
  have hk := (hA.2.2.2.2.1 l hl).1
  have hcN := (cN_le _ hk).1
  have hn8 := hA.1
  intro d
  induction d with
  | zero =>
    intro i n I1 w hi hn hw hg
    obtain ⟨n, rfl⟩ := pred1 hn
    have hR1 : RowIs (I1 28) a := by rw [hg.1 28 (by decide) (by decide)]; exact hR
    have hT1 : Tab I1 := hT.of (hg.1 _ (by decide) (by decide)) (hg.1 _ (by decide) (by decide)) (hg.1 _ (by decide) (by decide)) (hg.1 _ (by decide) (by decide))
    refine ⟨I1, ?_, hg⟩
    rw [f_X9_gather_L49, has_ifM (by omega) (by omega), if_pos hb, casesOf_ok hR1 hA hT1 hl, Option.bind_some, if_pos (nI_le (by omega) (by omega)), nI_add]
  | succ d ih =>
    intro i n I1 w hi hn hw hg
    obtain ⟨n, rfl⟩ := pred1 hn
    replace hn := Nat.le_of_succ_le_succ hn
    have hic : i < cN (aK a l) := by omega
    have hR1 : RowIs (I1 28) a := by rw [hg.1 28 (by decide) (by decide)]; exact hR
    have hT1 : Tab I1 := hT.of (hg.1 _ (by decide) (by decide)) (hg.1 _ (by decide) (by decide)) (hg.1 _ (by decide) (by decide)) (hg.1 _ (by decide) (by decide))
    obtain ⟨c1, c2, c3, c4⟩ := cs_ok _ hk i hic
    have hx := tmax_le ((hA.2.2.2.2.1 l hl).2.2 i hic)
    have htab := (hR1.2.2.2.2.1 l hl).2.2 i hic
    rw [f_X9_gather_L49, has_ifM (by omega) (by omega), if_pos hb, casesOf_ok hR1 hA hT1 hl, Option.bind_some, if_neg (nI_ge hic (by omega)), hallOf_ok hR1 hA hT1 hl hic, Option.bind_some, otherOf_ok hR1 hA hT1 hl hic, Option.bind_some, oix_ok (j := 110 + 32 * l + i) (by rw [pk_mul, nI_add, nI_add]) (by omega) (by decide), htab, nI_add, glw]
    generalize hH : cH (cF (aK a l) + i) = h at c2 c3 ⊢
    cases hp : prd (aK a l) with
    | true =>
      obtain ⟨k1, k2, k3⟩ := c3 hp
      rw [k3]
      generalize hK : cK (cF (aK a l) + i) = k at k1 k2 ⊢
      rw [if_pos (nI_pos' (by omega))]
      by_cases hlt : h < k
      · rw [if_neg (nI_ge hlt (by omega)), oix_ok (j := 12 * h + k) (by rw [pk_mul, nI_add]) (by omega) (by decide), oix_ok (j := 12 * h + k) (by rw [pk_mul, nI_add]) (by omega) (by decide), hg.2.1 _ (by omega), nx_and9]
        have hgs : gst (aK a l) i (aX a l i) w = (upN w.1 (12 * h + k) (w.1 (12 * h + k) &&& aX a l i), w.2) := by
          unfold gst
          rw [if_pos hp, hH, hK, if_pos hlt]
        refine ih (i + 1) n _ _ (by omega) hn (wok_gst hw) ?_
        rw [hgs]
        refine ⟨fun x x1 x2 => by rw [up2_n x2]; exact hg.1 x x1 x2, fun q hq => ?_, fun q hq => by rw [up2_n (by decide)]; exact hg.2.2 q hq⟩
        by_cases e : q = 12 * h + k
        · subst e
          rw [up2_eq]
          show _ = nI (upN _ _ _ _)
          rw [upN_s]
        · rw [up2_ne e]
          show _ = nI (upN _ _ _ _)
          rw [upN_n e]
          exact hg.2.1 q hq
      · rw [if_pos (nI_le (by omega) (by omega)), oix_ok (j := 12 * k + h) (by rw [pk_mul, nI_add]) (by omega) (by decide), (flp_ok _ hx).2, Option.bind_some, oix_ok (j := 12 * k + h) (by rw [pk_mul, nI_add]) (by omega) (by decide), hg.2.1 _ (by omega), nx_and9]
        have hgs : gst (aK a l) i (aX a l i) w = (upN w.1 (12 * k + h) (w.1 (12 * k + h) &&& flp (aX a l i)), w.2) := by
          unfold gst
          rw [if_pos hp, hH, hK, if_neg hlt]
        refine ih (i + 1) n _ _ (by omega) hn (wok_gst hw) ?_
        rw [hgs]
        refine ⟨fun x x1 x2 => by rw [up2_n x2]; exact hg.1 x x1 x2, fun q hq => ?_, fun q hq => by rw [up2_n (by decide)]; exact hg.2.2 q hq⟩
        by_cases e : q = 12 * k + h
        · subst e
          rw [up2_eq]
          show _ = nI (upN _ _ _ _)
          rw [upN_s]
        · rw [up2_ne e]
          show _ = nI (upN _ _ _ _)
          rw [upN_n e]
          exact hg.2.1 q hq
    | false =>
      rw [c4 hp, if_neg (by decide), oix_ok (j := h) rfl c2 (by decide), oix_ok (j := h) rfl c2 (by decide), hg.2.2 _ c2, nx_and9]
      have hgs : gst (aK a l) i (aX a l i) w = (w.1, upN w.2 h (w.2 h &&& aX a l i)) := by
        unfold gst
        rw [if_neg (by rw [hp]; decide), hH]
      refine ih (i + 1) n _ _ (by omega) hn (wok_gst hw) ?_
      rw [hgs]
      refine ⟨fun x x1 x2 => by rw [up2_n x1]; exact hg.1 x x1 x2, fun q hq => by rw [up2_n (by decide)]; exact hg.2.1 q hq, fun q hq => ?_⟩
      by_cases e : q = h
      · subst e
        rw [up2_eq]
        show _ = nI (upN _ _ _ _)
        rw [upN_s]
      · rw [up2_ne e]
        show _ = nI (upN _ _ _ _)
        rw [upN_n e]
        exact hg.2.2 q hq
theorem gather_laws {I : II} {a : AS} {s : Nat} (hR : RowIs (I 28) a) (hA : AOK a) (hT : Tab I) (hs : s < 256) : ∀ (d l n : Nat) (I1 : II) (w : (Nat → Nat) × (Nat → Nat)), l + d = aN a → d + 1 ≤ n → WOK w → GM I I1 w → ∃ I2, f_X9_gather_L37 FU (nI s) n (nI l) I1 = some I2 ∧ GM I I2 (gal a s d l w) := by
  have hn8 := hA.1
  intro d
  induction d with
  | zero =>
    intro l n I1 w hl hn hw hg
    obtain ⟨n, rfl⟩ := pred1 hn
    refine ⟨I1, ?_, hg⟩
    rw [f_X9_gather_L37, oix_ok (j := 0) rfl (by decide) (by decide), hg.1 28 (by decide) (by decide), hR.1, if_pos (nI_le (by omega) (by omega))]
  | succ d ih =>
    intro l n I1 w hl hn hw hg
    obtain ⟨n, rfl⟩ := pred1 hn
    replace hn := Nat.le_of_succ_le_succ hn
    have hll : l < aN a := by omega
    rw [f_X9_gather_L37, oix_ok (j := 0) rfl (by decide) (by decide), hg.1 28 (by decide) (by decide), hR.1, if_neg (nI_ge hll (by omega)), gal]
    by_cases hb : s.testBit l = true
    · rw [if_pos hb]
      have hk := (hA.2.2.2.2.1 l hll).1
      have hcN := (cN_le _ hk).1
      obtain ⟨I2, e2, g2⟩ := gather_case (k37 := f_X9_gather_L37 FU (nI s) n) hR hA hT hs hb hll (cN (aK a l)) 0 FU I1 w (by omega) (by have := FU5; omega) hw hg
      rw [e2]
      exact ih (l + 1) n I2 _ (by omega) hn (wok_glw _ _ _ hw) g2
    · rw [if_neg hb]
      have e2 : f_X9_gather_L49 FU (f_X9_gather_L37 FU (nI s) n) (nI s) (nI l) FU (nI 0) I1 = f_X9_gather_L37 FU (nI s) n (nI (l + 1)) I1 := by
        rw [show FU = 4999 + 1 from rfl, f_X9_gather_L49, has_ifM (by omega) (by omega), if_neg hb, nI_add]
      rw [e2]
      exact ih (l + 1) n I1 w (by omega) hn hw hg
theorem gather_ok {I : II} {a : AS} {s : Nat} (hR : RowIs (I 28) a) (hA : AOK a) (hT : Tab I) (hs : s < 256) : ∃ I', f_X9_gather FU (nI s) I = some I' ∧ GM I I' (web a s) := by
  have loop : ∀ (d k n : Nat) (I1 : II), k + d = 144 → d + 1 ≤ n → (∀ x, x ≠ 37 → x ≠ 38 → I1 x = I x) → (∀ q, q < k → I1 38 q = nI 511) → (∀ h, 12 * h < k → I1 37 h = nI 7) → ∃ I', f_X9_gather_L2 FU (nI s) n (nI k) I1 = some I' ∧ GM I I' (web a s) := by
    intro d
    induction d with
    | zero =>
      intro k n I1 hk hn g1 g2 g3
      obtain ⟨n, rfl⟩ := pred1 hn
      obtain rfl : k = 144 := by omega
      rw [f_X9_gather_L2, if_pos (by decide)]
      exact gather_laws hR hA hT hs (aN a) 0 FU I1 _ (by omega) (by have := FU5; have := hA.1; omega) ⟨fun _ => (show (511 : Nat) < 512 by decide), fun _ => (show (7 : Nat) < 8 by decide)⟩ ⟨g1, g2, fun h hh => g3 h (by omega)⟩
    | succ d ih =>
      intro k n I1 hk hn g1 g2 g3
      obtain ⟨n, rfl⟩ := pred1 hn
      replace hn := Nat.le_of_succ_le_succ hn
      rw [f_X9_gather_L2, if_neg (nI_ge (by omega) (by omega)), oix_ok (j := k) rfl (by omega) (by decide), oix_ok (j := k / 12) (pk_div (by omega) (by decide) (by decide)) (by omega) (by decide), nI_add]
      refine ih (k + 1) n _ (by omega) hn (fun x x1 x2 => by rw [up2_n x1, up2_n x2]; exact g1 x x1 x2) (fun q hq => ?_) (fun h hh => ?_)
      · rw [up2_n (by decide)]
        by_cases e : q = k
        · subst e; exact up2_eq
        · rw [up2_ne e]; exact g2 q (by omega)
      · by_cases e : h = k / 12
        · subst e; exact up2_eq
        · rw [up2_ne e, up2_n (by decide)]; exact g3 h (by omega)
  exact loop 144 0 FU I rfl (by have := FU5; omega) (fun _ _ _ => rfl) (fun q hq => by omega) (fun h hh => by omega)
theorem GM.mw {I I1 : II} {w : (Nat → Nat) × (Nat → Nat)} (h : GM I I1 w) (hw : WOK w) : MW3 I1 w.1 w.2 := ⟨fun q hq => ⟨h.2.2 q hq, hw.2 q⟩, fun x y h1 h2 => ⟨h.2.1 _ (by omega), hw.1 _⟩⟩
