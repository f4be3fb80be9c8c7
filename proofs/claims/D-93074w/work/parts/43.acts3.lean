/-! PLAIN SIDE: whether choices go together in a case; breaches -/
set_option maxRecDepth 100000
def gob (a : AS) (l i c d : Nat) : Bool := if prd (aK a l) = true then (aX a l i).testBit (3 * (c - 1) + (d - 1)) else (aX a l i).testBit (c - 1)
theorem hasOther_ok {I : II} {a : AS} {l : Nat} (hR : RowIs (I 28) a) (hA : AOK a) (hl : l < aN a) : f_X9_hasOther (nI l) I = some (bI (prd (aK a l))) := by
  have hk := (hA.2.2.2.2.1 l hl).1
  unfold f_X9_hasOther
  rw [kindOf_ok hR hA.1 hl, Option.bind_some, Option.bind_some]
  have hc : aK a l = 0 ∨ aK a l = 1 ∨ aK a l = 2 ∨ aK a l = 3 ∨ aK a l = 4 ∨ aK a l = 5 := by omega
  rcases hc with h | h | h | h | h | h <;> rw [h] <;> decide
theorem mgoes_ok {I : II} {a : AS} {l i c d : Nat} {y : Int32} (hR : RowIs (I 28) a) (hA : AOK a) (hl : l < aN a) (hi : i < cN (aK a l)) (c1 : 1 ≤ c) (c3 : c ≤ 3) (hy : prd (aK a l) = true → y = nI d ∧ 1 ≤ d ∧ d ≤ 3) : f_X9_goes (nI l) (nI i) (nI c) y I = some (bI (gob a l i c d)) := by
  have hk := (hA.2.2.2.2.1 l hl).1
  have hcN := (cN_le _ hk).1
  have hn8 := hA.1
  have hx := tmax_le ((hA.2.2.2.2.1 l hl).2.2 i hi)
  unfold f_X9_goes
  rw [oix_ok (j := 110 + 32 * l + i) (by rw [pk_mul, nI_add, nI_add]) (by omega) (by decide), hasOther_ok hR hA hl, bind_if, (hR.2.2.2.2.1 l hl).2.2 i hi]
  unfold gob
  cases hp : prd (aK a l) with
  | true =>
    obtain ⟨rfl, d1, d3⟩ := hy hp
    rw [if_pos rfl, if_pos rfl, show nI 3 * nI c + nI d - nI 4 = nI (3 * (c - 1) + (d - 1)) by rw [pk_mul, nI_add, pk_sub (by omega)]; congr 1; omega, has_okM (by omega) (by omega), Option.bind_some]
    exact og_ok (bI_01 _)
  | false =>
    rw [if_neg (by decide), if_neg (by decide), pk_sub c1, has_okM (by omega) (by omega), Option.bind_some]
    exact og_ok (bI_01 _)
/-- what a virtual call of an object of kind k comes to, where all kinds have one body -/
theorem six {α : Type} {q k : Nat} (hk : k < 6) (hq : q = 11 + k) {A : Option α} : (if q = 11 then A else if q = 12 then A else if q = 13 then A else if q = 14 then A else if q = 15 then A else if q = 16 then A else none) = A := by
  subst hq
  have hc : k = 0 ∨ k = 1 ∨ k = 2 ∨ k = 3 ∨ k = 4 ∨ k = 5 := by omega
  rcases hc with h | h | h | h | h | h <;> rw [h] <;> rfl
theorem vgoes_ok {sh : SH} {I : II} {ow : Nat → Nat} {t : Nat} {a : AS} {l dm i c d : Nat} (hD : Dem sh I ow t a l dm) (hA : AOK a) (hl : l < aN a) (hi : i < cN (aK a l)) (c1 : 1 ≤ c) (c3 : c ≤ 3) (d1 : 1 ≤ d) (d3 : d ≤ 3) : v_X10_goes sh dm (nI i) (nI c) (nI d) I = some (bI (gob a l i c d)) := by
  have hk := (hA.2.2.2.2.1 l hl).1
  have hcN := (cN_le _ hk).1
  have hx := (hA.2.2.2.2.1 l hl).2.2 i hi
  obtain ⟨x1, x2, x3, x4, x5, cl, x6, y1, y2, y3, ff, ss, gg, y4, y5, y6, y7, y8, y9, o1, o2, o3, y10⟩ := hD
  unfold v_X10_goes
  rw [og_ok (Or.inl x1.1), six hk x1.2]
  unfold f_X10_goes
  have hb := bitOf_ok (c - 1) (by omega) (d - 1) (by omega)
  rw [show c - 1 + 1 = c by omega, show d - 1 + 1 = d by omega] at hb
  rw [ockD_ok x1.r hk, orf_ok x6, ock_ok y1.r, orf_ok y6, oarw_ok y9, oix_ok (j := i) rfl (by omega) (by decide), hb, Option.bind_some, (y10 i hi).2.2]
  have key : ∀ (z : Nat), z < 512 → (if nI z &&& nI (2 ^ (3 * (c - 1) + (d - 1))) = 0 then some (nI 0) else some (nI 1)) = some (bI (z.testBit (3 * (c - 1) + (d - 1)))) := by
    intro z hz
    by_cases hb : z.testBit (3 * (c - 1) + (d - 1)) = true
    · rw [if_neg (fun e => by rw [(and_bit (by omega) hz).mp e] at hb; cases hb), hb]; rfl
    · have hb' : z.testBit (3 * (c - 1) + (d - 1)) = false := by simpa using hb
      rw [if_pos ((and_bit (by omega) hz).mpr hb'), hb']; rfl
  unfold gob gx
  cases hp : prd (aK a l) with
  | true =>
    rw [if_pos rfl, if_pos rfl]
    exact key _ (tmax_le hx)
  | false =>
    have hx8 : aX a l i < 8 := by
      unfold tmax at hx
      rw [if_neg (by rw [hp]; decide)] at hx
      exact hx
    show (if nI (spr (aX a l i)) &&& nI (2 ^ (3 * (c - 1) + (d - 1))) = 0 then some (nI 0) else some (nI 1)) = some (bI ((aX a l i).testBit (c - 1)))
    rw [key _ (spr_ok _ hx8).2, spr_bit _ hx8 (c - 1) (by omega) (d - 1) (by omega)]
/-- the first case that a rule breaks -/
def brk (a : AS) (R : Nat → Nat) (l : Nat) : Nat → Nat → Int32
  | 0, _ => -1
  | d + 1, i => if gob a l i (R (cH (cF (aK a l) + i))) (R (cK (cF (aK a l) + i))) = true then brk a R l d (i + 1) else nI i
theorem brk_cases {a : AS} {R : Nat → Nat} {l : Nat} : ∀ (d i : Nat), i + d < 100 → brk a R l d i = -1 ∨ ∃ j, j < 100 ∧ brk a R l d i = nI j := by
  intro d
  induction d with
  | zero => intro i _; exact Or.inl rfl
  | succ d ih =>
    intro i hi
    unfold brk
    split
    · exact ih (i + 1) (by omega)
    · exact Or.inr ⟨i, by omega, rfl⟩
theorem m1_neg : ¬ (0 : Int32) ≤ -1 := by decide
theorem nI_m1 {j : Nat} (h : j < 2 ^ 31) : nI j ≠ -1 := fun e => by
  have h1 : nI j < 0 := by rw [e]; decide
  exact nI_pos h h1
theorem breachOf_ok {sh : SH} {I : II} {ow : Nat → Nat} {t : Nat} {a : AS} {R : Nat → Nat} {l dm rl : Nat} (hD : Dem sh I ow t a l dm) (hA : AOK a) (hl : l < aN a) (hR : ∀ h, h < 12 → 1 ≤ R h ∧ R h ≤ 3) (hr : arw sh rl 100 12) (hI : ∀ h, h < 12 → I rl h = nI (R h)) : f_X2_breachOf FU sh dm rl I = some (brk a R l (cN (aK a l)) 0) := by
  have hk := (hA.2.2.2.2.1 l hl).1
  have hcN := (cN_le _ hk).1
  obtain ⟨x1, x2, x3, x4, x5, cl, x6, hC⟩ := id hD
  have hC2 := hC
  obtain ⟨y1, y2, y3, ff, ss, gg, y4, y5, y6, y7, y8, y9, o1, o2, o3, y10⟩ := hC2
  have loop : ∀ (d i n : Nat), i + d = cN (aK a l) → d + 1 ≤ n → f_X2_breachOf_L2 FU sh I dm rl n (nI i) = some (brk a R l d i) := by
    intro d
    induction d with
    | zero =>
      intro i n hi hn
      obtain ⟨n, rfl⟩ := pred1 hn
      rw [f_X2_breachOf_L2, ockD_ok x1.r hk, orf_ok x6, ock_ok y1.r, y3, if_pos (nI_le (by omega) (by omega))]
      rfl
    | succ d ih =>
      intro i n hi hn
      obtain ⟨n, rfl⟩ := pred1 hn
      replace hn := Nat.le_of_succ_le_succ hn
      have hic : i < cN (aK a l) := by omega
      obtain ⟨c1, c2, c3, c4⟩ := cs_ok _ hk i hic
      obtain ⟨q1, q2, q3⟩ := y10 i hic
      rw [f_X2_breachOf_L2, ockD_ok x1.r hk, orf_ok x6, ock_ok y1.r, y3, if_neg (nI_ge hic (by omega)), orf_ok x6, ock_ok y1.r, isPair_ok hC hk hic, bind_if, brk]
      have J : ∀ z : Nat, 1 ≤ z → z ≤ 3 → (prd (aK a l) = true → z = R (cK (cF (aK a l) + i))) → f_X2_breachOf_J39 FU sh I (f_X2_breachOf_L2 FU sh I dm rl n) dm rl (nI i) (nI z) = some (if gob a l i (R (cH (cF (aK a l) + i))) (R (cK (cF (aK a l) + i))) = true then brk a R l d (i + 1) else nI i) := by
        intro z z1 z3 hz
        obtain ⟨r1, r2⟩ := hR _ c2
        have hg : gob a l i (R (cH (cF (aK a l) + i))) z = gob a l i (R (cH (cF (aK a l) + i))) (R (cK (cF (aK a l) + i))) := by
          unfold gob
          cases hp : prd (aK a l) with
          | true => rw [hz hp]
          | false => rfl
        unfold f_X2_breachOf_J39
        rw [ockD_ok x1.r hk, orf_ok x6, ock_ok y1.r, orf_ok y4, oarw_ok y7, oix_ok (j := i) rfl (by omega) (by decide), oarw_ok hr, q1, oix_ok (j := cH (cF (aK a l) + i)) rfl c2 (by decide), hI _ c2, vgoes_ok hD hA hl hic r1 r2 z1 z3, bind_if, hg, nI_add, ih (i + 1) n (by omega) hn]
        split <;> rfl
      cases hp : prd (aK a l) with
      | true =>
        obtain ⟨k1, k2, k3⟩ := c3 hp
        obtain ⟨r1, r2⟩ := hR _ k1
        rw [if_pos rfl, orf_ok x6, ock_ok y1.r, orf_ok y5, oarw_ok y8, oix_ok (j := i) rfl (by omega) (by decide), oarw_ok hr, q2, k3, oix_ok (j := cK (cF (aK a l) + i)) rfl k1 (by decide), hI _ k1]
        exact J _ r1 r2 (fun _ => rfl)
      | false =>
        rw [if_neg (by decide)]
        exact J 1 (by decide) (by decide) (fun h => by rw [hp] at h; cases h)
  unfold f_X2_breachOf
  exact loop _ 0 FU (by omega) (by have := FU5; omega)
theorem broken28_ok {I : II} {a : AS} {l : Nat} (hR : RowIs (I 28) a) (hA : AOK a) (hT : Tab I) (hl : l < aN a) : f_X9_broken_28 FU (nI l) (nI 10) I = some (brk a (aR a) l (cN (aK a l)) 0) := by
  have hk := (hA.2.2.2.2.1 l hl).1
  have hcN := (cN_le _ hk).1
  have loop : ∀ (d i n : Nat), i + d = cN (aK a l) → d + 1 ≤ n → f_X9_broken_28_L3 FU I (nI l) (nI 10) n (nI i) = some (brk a (aR a) l d i) := by
    intro d
    induction d with
    | zero =>
      intro i n hi hn
      obtain ⟨n, rfl⟩ := pred1 hn
      rw [f_X9_broken_28_L3, casesOf_ok hR hA hT hl, Option.bind_some, if_pos (nI_le (by omega) (by omega))]
      rfl
    | succ d ih =>
      intro i n hi hn
      obtain ⟨n, rfl⟩ := pred1 hn
      replace hn := Nat.le_of_succ_le_succ hn
      have hic : i < cN (aK a l) := by omega
      obtain ⟨c1, c2, c3, c4⟩ := cs_ok _ hk i hic
      obtain ⟨r1, r2⟩ := hA.2.2.2.1 _ c2
      rw [f_X9_broken_28_L3, casesOf_ok hR hA hT hl, Option.bind_some, if_neg (nI_ge hic (by omega)), otherOf_ok hR hA hT hl hic, Option.bind_some, hallOf_ok hR hA hT hl hic, Option.bind_some, oix_ok (j := 10 + cH (cF (aK a l) + i)) (by rw [nI_add]) (by omega) (by decide), hR.2.2.2.1 _ c2, brk]
      cases hp : prd (aK a l) with
      | true =>
        obtain ⟨k1, k2, k3⟩ := c3 hp
        obtain ⟨s1, s2⟩ := hA.2.2.2.1 _ k1
        rw [k3, if_pos (nI_pos' (by omega)), oix_ok (j := 10 + cK (cF (aK a l) + i)) (by rw [nI_add]) (by omega) (by decide), hR.2.2.2.1 _ k1]
        unfold f_X9_broken_28_J52
        rw [mgoes_ok (d := aR a (cK (cF (aK a l) + i))) hR hA hl hic r1 r2 (fun _ => ⟨rfl, s1, s2⟩), bind_if, nI_add, ih (i + 1) n (by omega) hn]
        split <;> rfl
      | false =>
        rw [c4 hp, if_neg m1_neg]
        unfold f_X9_broken_28_J52
        rw [mgoes_ok (d := aR a (cK (cF (aK a l) + i))) hR hA hl hic r1 r2 (fun h => by rw [hp] at h; cases h), bind_if, nI_add, ih (i + 1) n (by omega) hn]
        split <;> rfl
  unfold f_X9_broken_28
  exact loop _ 0 FU (by omega) (by have := FU5; omega)
theorem act_12 {n : Nat} {S : SH} {I : II} {a1 : Int32} (h : Inv n S I) : Act n (f_arm_12 FU a1 S I) := by
  obtain ⟨ow, a, v, hO⟩ := h.op
  unfold f_arm_12
  rcases law_cases hO a1 with ⟨h1, h2⟩ | ⟨l, hl, rfl, h1, h2⟩
  · refine Act.of (arm2 (r := -1000001) (I1 := EN I 1) ?_ ?_) (hO.bad (e := 1))
    · unfold f_X0_breach f_X0_breach_J52
      rw [h1, Option.bind_some]
      exact nbad hO.1 (by decide) (by decide)
    · have h3 : f_X9_isLaw a1 (EN I 1) = some (nI 0) := by
        unfold f_X9_isLaw at h2 ⊢
        rw [EN_x (by decide) (by decide)]
        exact h2
      unfold f_X9_breach
      rw [h3, Option.bind_some, if_pos (by decide)]
      exact mbad2 (by decide) (by decide)
  · obtain ⟨hS, hM, hA, hv, v1, -, -, -, ⟨tl, t1, t2, t3, t4⟩, ⟨al, b1, b2⟩, -⟩ := hO.vn
    have hk := (hA.2.2.2.2.1 l hl).1
    have hcN := (cN_le _ hk).1
    obtain ⟨dm, g1, g2⟩ := lst_get b2 hA.1 hl
    have hb := breachOf_ok g2 hA hl hA.2.2.2.1 t2 t4
    have hN : f_X0_breach FU S (nI l) I = if brk a (aR a) l (cN (aK a l)) 0 = -1 then f_X0_breach_J46 FU S (brk a (aR a) l (cN (aK a l)) 0) (nI 0) I else f_X0_breach_J46 FU S (brk a (aR a) l (cN (aK a l)) 0) (nI 1) I := by
      unfold f_X0_breach
      rw [h1, Option.bind_some, ngood, orf_ok hv, ock_ok v1.r, orf_ok b1, ock_ok b2.1.r, g1, Option.bind_some, ockD_ok g2.1.r hk, orf_ok hv, ock_ok v1.r, orf_ok t1, hb, Option.bind_some]
    rcases brk_cases (a := a) (R := aR a) (l := l) (cN (aK a l)) 0 (by omega) with e | ⟨j, hj, e⟩
    · refine Act.of (arm2 (r := -1000002) (I1 := EN I 2) ?_ ?_) (hO.bad (e := 2))
      · rw [hN, if_pos e]
        unfold f_X0_breach_J46 f_X0_breach_J52
        exact nbad hO.1 (by decide) (by decide)
      · have h3 : f_X9_isLaw (nI l) (EN I 2) = some (nI 1) := by
          unfold f_X9_isLaw at h2 ⊢
          rw [EN_x (by decide) (by decide)]
          exact h2
        have hR' : RowIs (EN I 2 28) a := by rw [EN_x (by decide) (by decide)]; exact hO.row
        have hT' : Tab (EN I 2) := hO.tab.of (EN_x (by decide) (by decide)) (EN_x (by decide) (by decide)) (EN_x (by decide) (by decide)) (EN_x (by decide) (by decide))
        unfold f_X9_breach
        rw [h3, Option.bind_some, if_neg (by decide), broken28_ok hR' hA hT' hl, Option.bind_some, e, if_neg m1_neg]
        exact mbad2 (by decide) (by decide)
    · refine Act.of (arm2 (r := nI j) (I1 := I) ?_ ?_) hO.same
      · rw [hN, e, if_neg (nI_m1 (by omega))]
        unfold f_X0_breach_J46
        rw [ngood]
      · unfold f_X9_breach
        rw [h2, Option.bind_some, if_neg (by decide), broken28_ok hO.row hA hO.tab hl, Option.bind_some, e, if_pos (nI_pos' (by omega))]
/-- the laws that the told rule keeps -/
def kpt (a : AS) : Nat → Nat → Int32 → Int32
  | 0, _, s => s
  | d + 1, l, s => kpt a d (l + 1) (if brk a (aR a) l (cN (aK a l)) 0 = -1 then s ||| (nI 1 <<< (nI l &&& 31)) else s ||| nI 0)
theorem act_13 {n : Nat} {S : SH} {I : II} (h : Inv n S I) : Act n (f_arm_13 FU S I) := by
  obtain ⟨ow, a, v, hO⟩ := h.op
  obtain ⟨hS, hM, hA, hv, v1, -, -, -, ⟨tl, t1, t2, t3, t4⟩, ⟨al, b1, b2⟩, -⟩ := hO.vn
  have h8 := hA.1
  have lN : ∀ (d l q : Nat) (s : Int32), l + d = aN a → d + 1 ≤ q → f_X0_kept_L4 FU S I q s (nI l) = some (kpt a d l s) := by
    intro d
    induction d with
    | zero =>
      intro l q s hl hq
      obtain ⟨q, rfl⟩ := pred1 hq
      rw [f_X0_kept_L4, orf_ok hv, ock_ok v1.r, orf_ok b1, ock_ok b2.1.r, lst_size b2, Option.bind_some, if_pos (nI_le (by omega) (by omega))]
      rfl
    | succ d ih =>
      intro l q s hl hq
      obtain ⟨q, rfl⟩ := pred1 hq
      replace hq := Nat.le_of_succ_le_succ hq
      have hll : l < aN a := by omega
      have hk := (hA.2.2.2.2.1 l hll).1
      obtain ⟨dm, g1, g2⟩ := lst_get b2 hA.1 hll
      rw [f_X0_kept_L4, orf_ok hv, ock_ok v1.r, orf_ok b1, ock_ok b2.1.r, lst_size b2, Option.bind_some, if_neg (nI_ge hll (by omega)), orf_ok hv, ock_ok v1.r, orf_ok b1, ock_ok b2.1.r, g1, Option.bind_some, ockD_ok g2.1.r hk, orf_ok hv, ock_ok v1.r, orf_ok t1, breachOf_ok g2 hA hll hA.2.2.2.1 t2 t4, Option.bind_some, nI_add, ih _ _ _ (by omega) hq, ih _ _ _ (by omega) hq, kpt]
      split <;> rfl
  have lM : ∀ (d l q : Nat) (s : Int32), l + d = aN a → d + 1 ≤ q → f_X9_kept_L4 FU I q s (nI l) = some (kpt a d l s) := by
    intro d
    induction d with
    | zero =>
      intro l q s hl hq
      obtain ⟨q, rfl⟩ := pred1 hq
      rw [f_X9_kept_L4, oix_ok (j := 0) rfl (by decide) (by decide), hO.row.1, if_pos (nI_le (by omega) (by omega))]
      rfl
    | succ d ih =>
      intro l q s hl hq
      obtain ⟨q, rfl⟩ := pred1 hq
      replace hq := Nat.le_of_succ_le_succ hq
      have hll : l < aN a := by omega
      have hk := (hA.2.2.2.2.1 l hll).1
      have hcN := (cN_le _ hk).1
      rw [f_X9_kept_L4, oix_ok (j := 0) rfl (by decide) (by decide), hO.row.1, if_neg (nI_ge hll (by omega)), broken28_ok hO.row hA hO.tab hll, Option.bind_some, nI_add, ih _ _ _ (by omega) hq, ih _ _ _ (by omega) hq, kpt]
      rcases brk_cases (a := a) (R := aR a) (l := l) (cN (aK a l)) 0 (by omega) with e | ⟨j, hj, e⟩
      · rw [e, if_neg m1_neg, if_pos rfl]
      · rw [e, if_pos (nI_pos' (by omega)), if_neg (nI_m1 (by omega))]
  refine Act.of (S := S) (I := I) ?_ hO.same
  unfold f_arm_13 f_X0_kept f_X9_kept
  rw [lN (aN a) 0 FU _ (by omega) (by have := FU5; omega), Option.bind_some, lM (aN a) 0 FU _ (by omega) (by have := FU5; omega), Option.bind_some, og_ok rfl]
