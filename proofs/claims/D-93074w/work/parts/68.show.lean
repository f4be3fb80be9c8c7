/-! PLAIN SIDE: choices that are struck, step by step -/
set_option maxRecDepth 100000
def exF (L : Nat → Nat) : Nat → Nat → Bool
  | 0, _ => false
  | d + 1, k => decide (L k = 0) || exF L d (k + 1)
theorem exF_iff {L : Nat → Nat} : ∀ d k, exF L d k = true ↔ ∃ j, k ≤ j ∧ j < k + d ∧ L j = 0 := by
  intro d
  induction d with
  | zero => intro k; exact ⟨fun h => (by cases h), fun ⟨j, h1, h2, _⟩ => (by omega)⟩
  | succ d ih =>
    intro k
    rw [exF, Bool.or_eq_true, decide_eq_true_iff, ih]
    constructor
    · rintro (h | ⟨j, h1, h2, h3⟩)
      · exact ⟨k, by omega, by omega, h⟩
      · exact ⟨j, by omega, by omega, h3⟩
    · rintro ⟨j, h1, h2, h3⟩
      by_cases e : j = k
      · subst e; exact Or.inl h3
      · exact Or.inr ⟨j, by omega, by omega, h3⟩
def empt (L : Nat → Nat) : Bool := exF L 12 0
theorem empt_up {L : Nat → Nat} {h y : Nat} (hh : h < 12) (hL : L h ≠ 0) : empt (upN L h y) = (empt L || decide (y = 0)) := by
  rw [Bool.eq_iff_iff, Bool.or_eq_true, decide_eq_true_iff]
  unfold empt
  rw [exF_iff, exF_iff]
  constructor
  · rintro ⟨j, h1, h2, h3⟩
    by_cases e : j = h
    · subst e; rw [upN_s] at h3; exact Or.inr h3
    · rw [upN_n e] at h3; exact Or.inl ⟨j, h1, h2, h3⟩
  · rintro (⟨j, h1, h2, h3⟩ | h3)
    · have e : j ≠ h := fun e => hL (by rw [← e]; exact h3)
      exact ⟨j, h1, h2, by rw [upN_n e]; exact h3⟩
    · exact ⟨h, by omega, by omega, by rw [upN_s]; exact h3⟩
abbrev SS : Type := (Nat → Nat) × (Nat → Nat) × Nat
def b3 (x : Nat) : Nat := (if x.testBit 1 = true then 1 else 0) + (if x.testBit 2 = true then 1 else 0) + (if x.testBit 3 = true then 1 else 0)
def wt (L : Nat → Nat) : Nat → Nat
  | 0 => 0
  | n + 1 => wt L n + b3 (L n)
theorem wt_up {L : Nat → Nat} {h y : Nat} : ∀ n, (n ≤ h → wt (upN L h y) n = wt L n) ∧ (h < n → wt (upN L h y) n + b3 (L h) = wt L n + b3 y) := by
  intro n
  induction n with
  | zero => exact ⟨fun _ => rfl, fun h => by omega⟩
  | succ n ih =>
    refine ⟨fun hn => ?_, fun hn => ?_⟩
    · rw [wt, wt, ih.1 (by omega), upN_n (by omega)]
    · rw [wt, wt]
      by_cases e : n = h
      · subst e
        rw [ih.1 (by omega), upN_s]
        omega
      · rw [upN_n e]
        have := ih.2 (by omega)
        omega
theorem msk1 : ∀ x, x < 16 → ∀ c, c < 4 → x.testBit c = true → nI x &&& ((nI 1 <<< (nI c &&& 31)) ^^^ (-1)) = nI (x ^^^ 2 ^ c) ∧ x ^^^ 2 ^ c < 16 ∧ x ≠ 0 ∧ (1 ≤ c → b3 (x ^^^ 2 ^ c) + 1 = b3 x) := by decide +kernel
def SOK (s : SS) : Prop := (∀ h, h < 12 → s.1 h < 16) ∧ s.2.2 + wt s.1 12 = 36
def hit (l h c : Nat) (s : SS) : SS := (upN s.1 h (s.1 h ^^^ 2 ^ c), upN s.2.1 s.2.2 (48 * l + 4 * h + c), s.2.2 + 1)
theorem SOK.hit {l h c : Nat} {s : SS} (hS : SOK s) (hh : h < 12) (c1 : 1 ≤ c) (c3 : c ≤ 3) (hb : (s.1 h).testBit c = true) : SOK (hit l h c s) ∧ s.2.2 < 36 := by
  obtain ⟨m1, m2, m3, m4⟩ := msk1 _ (hS.1 h hh) c (by omega) hb
  have hw := (wt_up (L := s.1) (h := h) (y := s.1 h ^^^ 2 ^ c) 12).2 hh
  have h36 := hS.2
  have h4 := m4 c1
  refine ⟨⟨fun q hq => ?_, ?_⟩, by omega⟩
  · show upN _ _ _ _ < 16
    by_cases e : q = h
    · subst e; rw [upN_s]; exact m2
    · rw [upN_n e]; exact hS.1 q hq
  · show s.2.2 + 1 + wt (upN s.1 h (s.1 h ^^^ 2 ^ c)) 12 = 36
    omega
def orF (p : Nat → Bool) : Nat → Bool
  | 0 => false
  | m + 1 => p (3 - m) || orF p m
abbrev hCa (a : AS) (l i : Nat) : Nat := cH (cF (aK a l) + i)
abbrev kCa (a : AS) (l i : Nat) : Nat := cK (cF (aK a l) + i)
/-- whether a choice goes with something that is left -/
def goF (a : AS) (l i : Nat) (oth : Bool) (L : Nat → Nat) (c : Nat) : Bool := if prd (aK a l) = true then (if oth = true then orF (fun e => (L (hCa a l i)).testBit e && gob a l i e c) 3 else orF (fun e => (L (kCa a l i)).testBit e && gob a l i c e) 3) else gob a l i c 1
def hOth (a : AS) (l i : Nat) (oth : Bool) : Nat := if oth = true then kCa a l i else hCa a l i
def st1 (a : AS) (l i : Nat) (oth : Bool) (c : Nat) (s : SS) : SS := if empt s.1 = true then s else if (s.1 (hOth a l i oth)).testBit c = true then (if goF a l i oth s.1 c = true then s else hit l (hOth a l i oth) c s) else s
/-- the last m of the three choices -/
def skC (a : AS) (l i : Nat) (oth : Bool) : Nat → SS → SS
  | 0, s => s
  | m + 1, s => skC a l i oth m (st1 a l i oth (3 - m) s)
def skI (a : AS) (l i : Nat) (s : SS) : SS := if prd (aK a l) = true then skC a l i true 3 (skC a l i false 3 s) else skC a l i false 3 s
def skL (a : AS) (l : Nat) : Nat → Nat → SS → SS
  | 0, _, s => s
  | d + 1, i, s => skL a l d (i + 1) (skI a l i s)
def skA (a : AS) (x : Nat) : Nat → Nat → SS → SS
  | 0, _, s => s
  | d + 1, l, s => skA a x d (l + 1) (if x.testBit l = true then skL a l (cN (aK a l)) 0 s else s)
theorem st1_e {a : AS} {l i c : Nat} {oth : Bool} {s : SS} (h : empt s.1 = true) : st1 a l i oth c s = s := if_pos h
theorem skC_e {a : AS} {l i : Nat} {oth : Bool} {s : SS} (h : empt s.1 = true) : ∀ m, skC a l i oth m s = s := by
  intro m
  induction m with
  | zero => rfl
  | succ m ih => rw [skC, st1_e h, ih]
theorem skI_e {a : AS} {l i : Nat} {s : SS} (h : empt s.1 = true) : skI a l i s = s := by
  unfold skI
  rw [skC_e h, skC_e h, ite_self]
theorem skL_e {a : AS} {l : Nat} {s : SS} (h : empt s.1 = true) : ∀ d i, skL a l d i s = s := by
  intro d
  induction d with
  | zero => intro i; rfl
  | succ d ih => intro i; rw [skL, skI_e h, ih]
theorem skA_e {a : AS} {x : Nat} {s : SS} (h : empt s.1 = true) : ∀ d l, skA a x d l s = s := by
  intro d
  induction d with
  | zero => intro i; rfl
  | succ d ih => intro i; rw [skA, skL_e h, ite_self, ih]
/-- laws and cases are in range -/
theorem oth_lt {a : AS} {l i : Nat} {oth : Bool} (hA : AOK a) (hl : l < aN a) (hi : i < cN (aK a l)) (ho : oth = true → prd (aK a l) = true) : hOth a l i oth < 12 := by
  have hk := (hA.2.2.2.2.1 l hl).1
  obtain ⟨c1, c2, c3, c4⟩ := cs_ok _ hk i hi
  unfold hOth
  split
  · rename_i h; exact (c3 (ho h)).1
  · exact c2
def Mon (s s' : SS) : Prop := SOK s' ∧ s.2.2 ≤ s'.2.2
theorem Mon.refl {s : SS} (h : SOK s) : Mon s s := ⟨h, Nat.le_refl _⟩
theorem Mon.trans {s t u : SS} (h : Mon s t) (g : Mon t u) : Mon s u := ⟨g.1, Nat.le_trans h.2 g.2⟩
theorem st1_m {a : AS} {l i c : Nat} {oth : Bool} {s : SS} (hA : AOK a) (hl : l < aN a) (hi : i < cN (aK a l)) (ho : oth = true → prd (aK a l) = true) (c1 : 1 ≤ c) (c3 : c ≤ 3) (hS : SOK s) : Mon s (st1 a l i oth c s) := by
  unfold st1
  split
  · exact Mon.refl hS
  · split
    · rename_i hb
      split
      · exact Mon.refl hS
      · exact ⟨(hS.hit (oth_lt hA hl hi ho) c1 c3 hb).1, Nat.le_succ _⟩
    · exact Mon.refl hS
theorem skC_m {a : AS} {l i : Nat} {oth : Bool} (hA : AOK a) (hl : l < aN a) (hi : i < cN (aK a l)) (ho : oth = true → prd (aK a l) = true) : ∀ m s, m ≤ 3 → SOK s → Mon s (skC a l i oth m s) := by
  intro m
  induction m with
  | zero => intro s _ hS; exact Mon.refl hS
  | succ m ih =>
    intro s hm hS
    have h1 := st1_m (c := 3 - m) hA hl hi ho (by omega) (by omega) hS
    exact h1.trans (ih _ (by omega) h1.1)
theorem skI_m {a : AS} {l i : Nat} {s : SS} (hA : AOK a) (hl : l < aN a) (hi : i < cN (aK a l)) (hS : SOK s) : Mon s (skI a l i s) := by
  have h1 := skC_m (oth := false) hA hl hi (fun h => by cases h) 3 s (by omega) hS
  unfold skI
  split
  · rename_i hp
    exact h1.trans (skC_m (oth := true) hA hl hi (fun _ => hp) 3 _ (by omega) h1.1)
  · exact h1
theorem skL_m {a : AS} {l : Nat} (hA : AOK a) (hl : l < aN a) : ∀ d i s, i + d = cN (aK a l) → SOK s → Mon s (skL a l d i s) := by
  intro d
  induction d with
  | zero => intro i s _ hS; exact Mon.refl hS
  | succ d ih =>
    intro i s hi hS
    have h1 := skI_m hA hl (show i < cN (aK a l) by omega) hS
    exact h1.trans (ih (i + 1) _ (by omega) h1.1)
theorem skA_m {a : AS} {x : Nat} (hA : AOK a) : ∀ d l s, l + d = aN a → SOK s → Mon s (skA a x d l s) := by
  intro d
  induction d with
  | zero => intro i s _ hS; exact Mon.refl hS
  | succ d ih =>
    intro l s hl hS
    rw [skA]
    by_cases hb : x.testBit l = true
    · rw [if_pos hb]
      have h1 := skL_m hA (show l < aN a by omega) (cN (aK a l)) 0 s (by omega) hS
      exact h1.trans (ih (l + 1) _ (by omega) h1.1)
    · rw [if_neg hb]
      exact ih (l + 1) _ (by omega) hS
/-- rounds till nothing is struck -/
def rnd (a : AS) (x : Nat) : Nat → SS → SS
  | 0, s => s
  | f + 1, s => if empt s.1 = true then s else if (skA a x (aN a) 0 s).2.2 ≤ s.2.2 then skA a x (aN a) 0 s else rnd a x f (skA a x (aN a) 0 s)
/-! the class -/
def NSt (I : II) (s : SS) : Prop := (∀ h, h < 12 → I 19 h = nI (s.1 h)) ∧ (∀ k, k < s.2.2 → I 18 k = nI (s.2.1 k)) ∧ I 17 2 = nI s.2.2 ∧ I 17 3 = bI (empt s.1)
theorem nstrike_ok {sh : SH} {I : II} {ow : Nat → Nat} {a : AS} {l dm h c : Nat} {s : SS} (hM : Mrk ow) (hD : Dem sh I ow 1 a l dm) (hk : aK a l < 6) (hS : SOK s) (hN : NSt I s) (hh : h < 12) (c1 : 1 ≤ c) (c3 : c ≤ 3) (hb : (s.1 h).testBit c = true) : ∃ I', f_X7_strike sh dm (nI h) (nI c) I = some I' ∧ NSt I' (hit l h c s) ∧ ∀ x, x ≠ 17 → x ≠ 18 → x ≠ 19 → I' x = I x := by
  obtain ⟨m1, m2, m3, m4⟩ := msk1 _ (hS.1 h hh) c (by omega) hb
  have h36 := (hS.hit (l := l) hh c1 c3 hb).2
  have d9 : ow dm ≠ 9 := by rw [hD.2.1]; decide
  have dn : ∀ b, b < 48 → ¬ (2 ≤ b ∧ b ≤ 6) → dm ≠ b := fun b b1 b2 => hM.ne d9 b1 b2
  unfold f_X7_strike
  rw [oix_ok (j := h) rfl hh (by decide), oix_ok (j := h) rfl hh (by decide), ockD_ok hD.1.r hk, hN.1 h hh, m1]
  have p1 : ∀ k, up2 I 19 h (nI (s.1 h ^^^ 2 ^ c)) 17 k = I 17 k := fun k => by rw [up2_n (by decide)]
  have p2 : up2 I 19 h (nI (s.1 h ^^^ 2 ^ c)) dm 1 = nI l := by rw [up2_n (dn 19 (by decide) (by decide))]; exact hD.2.2.2.1
  have p3 : ∀ q, q < 12 → up2 I 19 h (nI (s.1 h ^^^ 2 ^ c)) 19 q = nI (upN s.1 h (s.1 h ^^^ 2 ^ c) q) := fun q hq => by
    by_cases e : q = h
    · subst e; rw [up2_eq, upN_s]
    · rw [up2_ne e, upN_n e]; exact hN.1 q hq
  have p4 : ∀ x, x ≠ 19 → up2 I 19 h (nI (s.1 h ^^^ 2 ^ c)) x = I x := fun x hx => up2_n hx
  generalize up2 I 19 h (nI (s.1 h ^^^ 2 ^ c)) = I1 at p1 p2 p3 p4 ⊢
  rw [p1, hN.2.2.1, oix_ok (j := s.2.2) rfl h36 (by decide), p2, pk_mul, pk_mul, nI_add, nI_add]
  have q1 : ∀ k, up2 I1 18 s.2.2 (nI (48 * l + 4 * h + c)) 17 k = I 17 k := fun k => by rw [up2_n (by decide), p1]
  have q3 : ∀ q, q < 12 → up2 I1 18 s.2.2 (nI (48 * l + 4 * h + c)) 19 q = nI (upN s.1 h (s.1 h ^^^ 2 ^ c) q) := fun q hq => by rw [up2_n (by decide)]; exact p3 q hq
  have q4 : ∀ x, x ≠ 18 → x ≠ 19 → up2 I1 18 s.2.2 (nI (48 * l + 4 * h + c)) x = I x := fun x x1 x2 => by rw [up2_n x1, p4 x x2]
  have q5 : ∀ k, k < s.2.2 + 1 → up2 I1 18 s.2.2 (nI (48 * l + 4 * h + c)) 18 k = nI (upN s.2.1 s.2.2 (48 * l + 4 * h + c) k) := fun k hk => by
    by_cases e : k = s.2.2
    · subst e; rw [up2_eq, upN_s]
    · rw [up2_ne e, upN_n e, p4 18 (by decide)]; exact hN.2.1 k (by omega)
  generalize up2 I1 18 s.2.2 (nI (48 * l + 4 * h + c)) = I2 at q1 q3 q4 q5 ⊢
  rw [q1, hN.2.2.1, nI_add]
  have he := empt_up (y := s.1 h ^^^ 2 ^ c) hh m3
  -- the last: whether it is a proof
  have fin : ∀ b, b = empt (upN s.1 h (s.1 h ^^^ 2 ^ c)) → NSt (up2 (up2 I2 17 2 (nI (s.2.2 + 1))) 17 3 (bI b)) (hit l h c s) ∧ ∀ x, x ≠ 17 → x ≠ 18 → x ≠ 19 → (up2 (up2 I2 17 2 (nI (s.2.2 + 1))) 17 3 (bI b)) x = I x := by
    intro b hb
    refine ⟨⟨fun q hq => ?_, fun k hk => ?_, ?_, ?_⟩, fun x x1 x2 x3 => by rw [up2_n x1, up2_n x1, q4 x x2 x3]⟩
    · rw [up2_n (by decide), up2_n (by decide)]; exact q3 q hq
    · rw [up2_n (by decide), up2_n (by decide)]; exact q5 k hk
    · rw [up2_ne (by decide), up2_eq]; rfl
    · rw [up2_eq, hb]; rfl
  rw [up2_ne (show (3 : Nat) ≠ 2 by decide), q1, hN.2.2.2, oix_ok (j := h) rfl hh (by decide), up2_n (show (19 : Nat) ≠ 17 by decide), q3 h hh, upN_s]
  unfold f_X7_strike_J63
  cases hem : empt s.1 with
  | true =>
    rw [if_neg (show ¬ bI true = 0 by decide)]
    rw [hem, Bool.true_or] at he
    exact ⟨_, rfl, fin true he.symm⟩
  | false =>
    rw [if_pos (show bI false = 0 from rfl)]
    rw [hem, Bool.false_or] at he
    by_cases h0 : s.1 h ^^^ 2 ^ c = 0
    · rw [if_pos (by rw [h0]; rfl)]
      exact ⟨_, rfl, fin true (by rw [he, h0]; rfl)⟩
    · rw [if_neg (nI_ne0 (by omega) (by omega))]
      exact ⟨_, rfl, fin false (by rw [he]; simp [h0])⟩
theorem goesF_ok {sh : SH} {I : II} {ow : Nat → Nat} {t : Nat} {a : AS} {l dm i c : Nat} {L : Nat → Nat} (hD : Dem sh I ow t a l dm) (hA : AOK a) (hl : l < aN a) (hi : i < cN (aK a l)) (c1 : 1 ≤ c) (c3 : c ≤ 3) (hL : ∀ h, h < 12 → I 19 h = nI (L h) ∧ L h < 16) : f_X7_goesFirst FU sh dm (nI i) (nI c) I = some (bI (goF a l i false L c)) := by
  have F5 := FU5
  have hk := (hA.2.2.2.2.1 l hl).1
  have hcN := (cN_le _ hk).1
  obtain ⟨q1, q2, q3, q4⟩ := cs_ok _ hk i hi
  obtain ⟨x1, x2, x3, x4, x5, cl, x6, hC⟩ := id hD
  obtain ⟨y1, y2, y3, ff, ss, gg, y4, y5, y6, y7, y8, y9, o1, o2, o3, y10⟩ := id hC
  unfold f_X7_goesFirst
  rw [ockD_ok x1.r hk, orf_ok x6, ock_ok y1.r, isPair_ok hC hk hi, bind_if]
  unfold goF
  cases hp : prd (aK a l) with
  | false =>
    rw [if_neg (by decide), if_neg (by decide), vgoes_ok (d := 1) hD hA hl hi c1 c3 (by omega) (by omega), Option.bind_some, og_ok (bI_01 _)]
  | true =>
    rw [if_pos rfl, if_pos rfl, if_neg (by decide)]
    obtain ⟨k1, k2, k3⟩ := q3 hp
    have y2' := (y10 i hi).2.1
    rw [k3] at y2'
    have loop : ∀ (m e q : Nat) (b : Bool), e + m = 4 → 1 ≤ e → m + 1 ≤ q → f_X7_goesFirst_L25 FU sh I dm (nI i) (nI c) q (bI b) (nI e) = some (bI (b || orF (fun e => (L (kCa a l i)).testBit e && gob a l i c e) m)) := by
      intro m
      induction m with
      | zero =>
        intro e q b he e1 hq
        obtain ⟨q, rfl⟩ := pred1 hq
        obtain rfl : e = 4 := by omega
        rw [f_X7_goesFirst_L25, if_pos (by decide), og_ok (bI_01 b), orF, Bool.or_false]
      | succ m ih =>
        intro e q b he e1 hq
        obtain ⟨q, rfl⟩ := pred1 hq
        replace hq := Nat.le_of_succ_le_succ hq
        have i1 := ih (e + 1) q true (by omega) (by omega) hq
        have i0 := ih (e + 1) q false (by omega) (by omega) hq
        rw [bI_t] at i1
        rw [bI_f] at i0
        rw [f_X7_goesFirst_L25, if_neg (nI_nlt (by omega) (by omega)), nI_add]
        cases b with
        | true =>
          rw [if_neg (show ¬ bI true = 0 by decide), i1]
          rfl
        | false =>
          obtain ⟨L1, L2⟩ := hL _ k1
          rw [if_pos (show bI false = 0 from rfl), ockD_ok x1.r hk, orf_ok x6, ock_ok y1.r, orf_ok y5, oarw_ok y8, oix_ok (j := i) rfl (by omega) (by decide), y2', oix_ok (j := cK (cF (aK a l) + i)) rfl k1 (by decide), L1, has_if (by omega) (by omega), vgoes_ok hD hA hl hi c1 c3 e1 (by omega), bind_if, i1, i0, orF, show 3 - m = e by omega]
          cases (L (cK (cF (aK a l) + i))).testBit e <;> cases gob a l i c e <;> simp
    have := loop 3 1 FU false (by omega) (by omega) (by omega)
    rw [bI_f, Bool.false_or] at this
    exact this
theorem goesS_ok {sh : SH} {I : II} {ow : Nat → Nat} {t : Nat} {a : AS} {l dm i c : Nat} {L : Nat → Nat} (hD : Dem sh I ow t a l dm) (hA : AOK a) (hl : l < aN a) (hi : i < cN (aK a l)) (hp : prd (aK a l) = true) (c1 : 1 ≤ c) (c3 : c ≤ 3) (hL : ∀ h, h < 12 → I 19 h = nI (L h) ∧ L h < 16) : f_X7_goesSecond FU sh dm (nI i) (nI c) I = some (bI (goF a l i true L c)) := by
  have F5 := FU5
  have hk := (hA.2.2.2.2.1 l hl).1
  have hcN := (cN_le _ hk).1
  obtain ⟨q1, q2, q3, q4⟩ := cs_ok _ hk i hi
  obtain ⟨x1, x2, x3, x4, x5, cl, x6, hC⟩ := id hD
  obtain ⟨y1, y2, y3, ff, ss, gg, y4, y5, y6, y7, y8, y9, o1, o2, o3, y10⟩ := id hC
  unfold f_X7_goesSecond goF
  rw [if_pos hp, if_pos rfl]
  have loop : ∀ (m e q : Nat) (b : Bool), e + m = 4 → 1 ≤ e → m + 1 ≤ q → f_X7_goesSecond_L6 FU sh I dm (nI i) (nI c) q (bI b) (nI e) = some (bI (b || orF (fun e => (L (hCa a l i)).testBit e && gob a l i e c) m)) := by
    intro m
    induction m with
    | zero =>
      intro e q b he e1 hq
      obtain ⟨q, rfl⟩ := pred1 hq
      obtain rfl : e = 4 := by omega
      rw [f_X7_goesSecond_L6, if_pos (by decide), og_ok (bI_01 b), orF, Bool.or_false]
    | succ m ih =>
      intro e q b he e1 hq
      obtain ⟨q, rfl⟩ := pred1 hq
      replace hq := Nat.le_of_succ_le_succ hq
      have i1 := ih (e + 1) q true (by omega) (by omega) hq
      have i0 := ih (e + 1) q false (by omega) (by omega) hq
      rw [bI_t] at i1
      rw [bI_f] at i0
      rw [f_X7_goesSecond_L6, if_neg (nI_nlt (by omega) (by omega)), nI_add]
      cases b with
      | true =>
        rw [if_neg (show ¬ bI true = 0 by decide), i1]
        rfl
      | false =>
        obtain ⟨L1, L2⟩ := hL _ q2
        rw [if_pos (show bI false = 0 from rfl), ockD_ok x1.r hk, orf_ok x6, ock_ok y1.r, orf_ok y4, oarw_ok y7, oix_ok (j := i) rfl (by omega) (by decide), (y10 i hi).1, oix_ok (j := cH (cF (aK a l) + i)) rfl q2 (by decide), L1, has_if (by omega) (by omega), vgoes_ok hD hA hl hi e1 (by omega) c1 c3, bind_if, i1, i0, orF, show 3 - m = e by omega]
        cases (L (cH (cF (aK a l) + i))).testBit e <;> cases gob a l i e c <;> simp
  have := loop 3 1 FU false (by omega) (by omega) (by omega)
  rw [bI_f, Bool.false_or] at this
  exact this
/-- what may be struck stays so -/
def NFr (I I' : II) : Prop := ∀ x, x ≠ 17 → x ≠ 18 → x ≠ 19 → I' x = I x
theorem Dem.nfr {sh : SH} {I I' : II} {ow : Nat → Nat} {a : AS} {l dm : Nat} (h : Dem sh I ow 1 a l dm) (hM : Mrk ow) (hf : NFr I I') : Dem sh I' ow 1 a l dm := h.kept (fun x hx => by
  have h9 : ow x ≠ 9 := by rcases hx with hx | hx <;> rw [hx] <;> decide
  exact hf x (hM.ne h9 (by decide) (by decide)) (hM.ne h9 (by decide) (by decide)) (hM.ne h9 (by decide) (by decide)))
theorem sFirst_ok {sh : SH} {I : II} {ow : Nat → Nat} {a : AS} {l dm i : Nat} {s : SS} (hM : Mrk ow) (hD : Dem sh I ow 1 a l dm) (hA : AOK a) (hl : l < aN a) (hi : i < cN (aK a l)) (hS : SOK s) (hN : NSt I s) : ∃ I', f_X7_strikesFirst FU sh dm (nI i) I = some I' ∧ NSt I' (skC a l i false 3 s) ∧ NFr I I' := by
  have F5 := FU5
  have hk := (hA.2.2.2.2.1 l hl).1
  have hcN := (cN_le _ hk).1
  obtain ⟨q1, q2, q3, q4⟩ := cs_ok _ hk i hi
  obtain ⟨x1, x2, x3, x4, x5, cl, x6, hC⟩ := id hD
  obtain ⟨y1, y2, y3, ff, ss, gg, y4, y5, y6, y7, y8, y9, o1, o2, o3, y10⟩ := id hC
  have loop : ∀ (m c q : Nat) (I1 : II) (s1 : SS), c + m = 4 → 1 ≤ c → m + 1 ≤ q → SOK s1 → NSt I1 s1 → NFr I I1 → ∃ I', f_X7_strikesFirst_L13 FU sh dm (nI i) (nI (hCa a l i)) q (nI c) I1 = some I' ∧ NSt I' (skC a l i false m s1) ∧ NFr I I' := by
    intro m
    induction m with
    | zero =>
      intro c q I1 s1 hc c1 hq hS1 hN1 hf
      obtain ⟨q, rfl⟩ := pred1 hq
      obtain rfl : c = 4 := by omega
      refine ⟨I1, ?_, hN1, hf⟩
      rw [f_X7_strikesFirst_L13, if_pos (by decide)]
    | succ m ih =>
      intro c q I1 s1 hc c1 hq hS1 hN1 hf
      obtain ⟨q, rfl⟩ := pred1 hq
      replace hq := Nat.le_of_succ_le_succ hq
      have hD1 := hD.nfr hM hf
      rw [f_X7_strikesFirst_L13, if_neg (nI_nlt (by omega) (by omega)), hN1.2.2.2]
      cases hem : empt s1.1 with
      | true =>
        rw [if_neg (show ¬ bI true = 0 by decide), skC_e hem]
        exact ⟨I1, rfl, hN1, hf⟩
      | false =>
        have hst : st1 a l i false c s1 = if (s1.1 (hCa a l i)).testBit c = true then (if goF a l i false s1.1 c = true then s1 else hit l (hCa a l i) c s1) else s1 := by
          unfold st1
          rw [if_neg (by rw [hem]; decide)]
          rfl
        rw [if_pos (show bI false = 0 from rfl), oix_ok (j := hCa a l i) rfl q2 (by decide), hN1.1 _ q2, has_if (by have := hS1.1 _ q2; omega) (by omega), goesF_ok hD1 hA hl hi c1 (by omega) (fun h hh => ⟨hN1.1 h hh, hS1.1 h hh⟩), bind_if, nI_add, skC, show 3 - m = c by omega, hst]
        by_cases hb : (s1.1 (hCa a l i)).testBit c = true
        · rw [if_pos hb, if_pos hb]
          by_cases hg : goF a l i false s1.1 c = true
          · rw [if_pos hg, if_pos hg]
            exact ih (c + 1) q I1 s1 (by omega) (by omega) hq hS1 hN1 hf
          · rw [if_neg hg, if_neg hg]
            obtain ⟨I2, e2, n2, f2⟩ := nstrike_ok hM hD1 hk hS1 hN1 q2 c1 (by omega) hb
            rw [e2, Option.bind_some]
            exact ih (c + 1) q I2 _ (by omega) (by omega) hq (hS1.hit q2 c1 (by omega) hb).1 n2 (fun x x1 x2 x3 => by rw [f2 x x1 x2 x3, hf x x1 x2 x3])
        · rw [if_neg hb, if_neg hb]
          exact ih (c + 1) q I1 s1 (by omega) (by omega) hq hS1 hN1 hf
  unfold f_X7_strikesFirst
  rw [ockD_ok x1.r hk, orf_ok x6, ock_ok y1.r, orf_ok y4, oarw_ok y7, oix_ok (j := i) rfl (by omega) (by decide), (y10 i hi).1]
  exact loop 3 1 FU I s (by omega) (by omega) (by omega) hS hN (fun _ _ _ _ => rfl)
theorem sSecond_ok {sh : SH} {I : II} {ow : Nat → Nat} {a : AS} {l dm i : Nat} {s : SS} (hM : Mrk ow) (hD : Dem sh I ow 1 a l dm) (hA : AOK a) (hl : l < aN a) (hi : i < cN (aK a l)) (hp : prd (aK a l) = true) (hS : SOK s) (hN : NSt I s) : ∃ I', f_X7_strikesSecond FU sh dm (nI i) I = some I' ∧ NSt I' (skC a l i true 3 s) ∧ NFr I I' := by
  have F5 := FU5
  have hk := (hA.2.2.2.2.1 l hl).1
  have hcN := (cN_le _ hk).1
  obtain ⟨q1, q2, q3, q4⟩ := cs_ok _ hk i hi
  obtain ⟨k1, k2, k3⟩ := q3 hp
  obtain ⟨x1, x2, x3, x4, x5, cl, x6, hC⟩ := id hD
  obtain ⟨y1, y2, y3, ff, ss, gg, y4, y5, y6, y7, y8, y9, o1, o2, o3, y10⟩ := id hC
  have y2' := (y10 i hi).2.1
  rw [k3] at y2'
  have loop : ∀ (m c q : Nat) (I1 : II) (s1 : SS), c + m = 4 → 1 ≤ c → m + 1 ≤ q → SOK s1 → NSt I1 s1 → NFr I I1 → ∃ I', f_X7_strikesSecond_L13 FU sh dm (nI i) (nI (kCa a l i)) q (nI c) I1 = some I' ∧ NSt I' (skC a l i true m s1) ∧ NFr I I' := by
    intro m
    induction m with
    | zero =>
      intro c q I1 s1 hc c1 hq hS1 hN1 hf
      obtain ⟨q, rfl⟩ := pred1 hq
      obtain rfl : c = 4 := by omega
      refine ⟨I1, ?_, hN1, hf⟩
      rw [f_X7_strikesSecond_L13, if_pos (by decide)]
    | succ m ih =>
      intro c q I1 s1 hc c1 hq hS1 hN1 hf
      obtain ⟨q, rfl⟩ := pred1 hq
      replace hq := Nat.le_of_succ_le_succ hq
      have hD1 := hD.nfr hM hf
      rw [f_X7_strikesSecond_L13, if_neg (nI_nlt (by omega) (by omega)), hN1.2.2.2]
      cases hem : empt s1.1 with
      | true =>
        rw [if_neg (show ¬ bI true = 0 by decide), skC_e hem]
        exact ⟨I1, rfl, hN1, hf⟩
      | false =>
        have hst : st1 a l i true c s1 = if (s1.1 (kCa a l i)).testBit c = true then (if goF a l i true s1.1 c = true then s1 else hit l (kCa a l i) c s1) else s1 := by
          unfold st1
          rw [if_neg (by rw [hem]; decide)]
          rfl
        rw [if_pos (show bI false = 0 from rfl), oix_ok (j := kCa a l i) rfl k1 (by decide), hN1.1 _ k1, has_if (by have := hS1.1 _ k1; omega) (by omega), goesS_ok hD1 hA hl hi hp c1 (by omega) (fun h hh => ⟨hN1.1 h hh, hS1.1 h hh⟩), bind_if, nI_add, skC, show 3 - m = c by omega, hst]
        by_cases hb : (s1.1 (kCa a l i)).testBit c = true
        · rw [if_pos hb, if_pos hb]
          by_cases hg : goF a l i true s1.1 c = true
          · rw [if_pos hg, if_pos hg]
            exact ih (c + 1) q I1 s1 (by omega) (by omega) hq hS1 hN1 hf
          · rw [if_neg hg, if_neg hg]
            obtain ⟨I2, e2, n2, f2⟩ := nstrike_ok hM hD1 hk hS1 hN1 k1 c1 (by omega) hb
            rw [e2, Option.bind_some]
            exact ih (c + 1) q I2 _ (by omega) (by omega) hq (hS1.hit k1 c1 (by omega) hb).1 n2 (fun x x1 x2 x3 => by rw [f2 x x1 x2 x3, hf x x1 x2 x3])
        · rw [if_neg hb, if_neg hb]
          exact ih (c + 1) q I1 s1 (by omega) (by omega) hq hS1 hN1 hf
  unfold f_X7_strikesSecond
  rw [ockD_ok x1.r hk, orf_ok x6, ock_ok y1.r, orf_ok y5, oarw_ok y8, oix_ok (j := i) rfl (by omega) (by decide), y2']
  exact loop 3 1 FU I s (by omega) (by omega) (by omega) hS hN (fun _ _ _ _ => rfl)
theorem strikes_ok {sh : SH} {I : II} {ow : Nat → Nat} {a : AS} {l dm : Nat} {s : SS} (hM : Mrk ow) (hD : Dem sh I ow 1 a l dm) (hA : AOK a) (hl : l < aN a) (hS : SOK s) (hN : NSt I s) : ∃ I', f_X7_strikes FU sh dm I = some I' ∧ NSt I' (skL a l (cN (aK a l)) 0 s) ∧ NFr I I' := by
  have F5 := FU5
  have hk := (hA.2.2.2.2.1 l hl).1
  have hcN := (cN_le _ hk).1
  have loop : ∀ (d i q : Nat) (I1 : II) (s1 : SS), i + d = cN (aK a l) → d + 1 ≤ q → SOK s1 → NSt I1 s1 → NFr I I1 → ∃ I', f_X7_strikes_L2 FU sh dm q (nI i) I1 = some I' ∧ NSt I' (skL a l d i s1) ∧ NFr I I' := by
    intro d
    induction d with
    | zero =>
      intro i q I1 s1 hi hq hS1 hN1 hf
      obtain ⟨q, rfl⟩ := pred1 hq
      obtain ⟨x1, x2, x3, x4, x5, cl, x6, hC⟩ := hD.nfr hM hf
      refine ⟨I1, ?_, hN1, hf⟩
      rw [f_X7_strikes_L2, ockD_ok x1.r hk, orf_ok x6, ock_ok hC.1.r, hC.2.2.1, if_pos (nI_le (by omega) (by omega))]
    | succ d ih =>
      intro i q I1 s1 hi hq hS1 hN1 hf
      obtain ⟨q, rfl⟩ := pred1 hq
      replace hq := Nat.le_of_succ_le_succ hq
      have hic : i < cN (aK a l) := by omega
      have hD1 := hD.nfr hM hf
      obtain ⟨x1, x2, x3, x4, x5, cl, x6, hC⟩ := id hD1
      rw [f_X7_strikes_L2, ockD_ok x1.r hk, orf_ok x6, ock_ok hC.1.r, hC.2.2.1, if_neg (nI_ge hic (by omega)), hN1.2.2.2]
      cases hem : empt s1.1 with
      | true =>
        rw [if_neg (show ¬ bI true = 0 by decide), skL_e hem]
        exact ⟨I1, rfl, hN1, hf⟩
      | false =>
        obtain ⟨I2, e2, n2, f2⟩ := sFirst_ok hM hD1 hA hl hic hS1 hN1
        have hf2 : NFr I I2 := fun x x1 x2 x3 => by rw [f2 x x1 x2 x3, hf x x1 x2 x3]
        have hD2 := hD.nfr hM hf2
        have hS2 := (skC_m (oth := false) hA hl hic (fun h => (by cases h)) 3 s1 (by omega) hS1).1
        obtain ⟨-, -, -, -, -, cl2, z6, hC2⟩ := id hD2
        obtain rfl : cl2 = cl := by rw [x6] at z6; cases z6; rfl
        rw [if_pos (show bI false = 0 from rfl), e2, Option.bind_some, orf_ok x6, ock_ok hC.1.r, isPair_ok hC2 hk hic, bind_if, n2.2.2.2, nI_add, skL]
        cases hp : prd (aK a l) with
        | false =>
          rw [if_neg (by decide)]
          have hsk : skI a l i s1 = skC a l i false 3 s1 := by unfold skI; rw [if_neg (by rw [hp]; decide)]
          rw [hsk]
          exact ih (i + 1) q I2 _ (by omega) hq hS2 n2 hf2
        | true =>
          rw [if_pos rfl]
          have hsk : skI a l i s1 = skC a l i true 3 (skC a l i false 3 s1) := by unfold skI; rw [if_pos hp]
          rw [hsk]
          cases hem2 : empt (skC a l i false 3 s1).1 with
          | true =>
            rw [if_neg (show ¬ bI true = 0 by decide), skC_e (oth := true) hem2]
            exact ih (i + 1) q I2 _ (by omega) hq hS2 n2 hf2
          | false =>
            obtain ⟨I3, e3, n3, f3⟩ := sSecond_ok hM hD2 hA hl hic hp hS2 n2
            rw [if_pos (show bI false = 0 from rfl), e3, Option.bind_some]
            exact ih (i + 1) q I3 _ (by omega) hq (skC_m (oth := true) hA hl hic (fun _ => hp) 3 _ (by omega) hS2).1 n3 (fun x x1 x2 x3 => by rw [f3 x x1 x2 x3, hf2 x x1 x2 x3])
  exact loop (cN (aK a l)) 0 FU I s (by omega) (by omega) hS hN (fun _ _ _ _ => rfl)
def ss0 : SS := (fun _ => 14, fun _ => 0, 0)
theorem ss0_ok : SOK ss0 := by
  refine ⟨fun h hh => by show 14 < 16; omega, ?_⟩
  decide
theorem ss0_e : empt ss0.1 = false := by decide
theorem nbegin_ok {sh : SH} {I : II} : ∃ I', f_X7_begin FU sh I = some I' ∧ NSt I' ss0 ∧ NFr I I' := by
  have F5 := FU5
  have loop : ∀ (d k q : Nat) (I1 : II), k + d = 12 → d + 1 ≤ q → (∀ h, h < k → I1 19 h = nI 14) → NFr I I1 → ∃ I', f_X7_begin_L2 FU sh q (nI k) I1 = some I' ∧ NSt I' ss0 ∧ NFr I I' := by
    intro d
    induction d with
    | zero =>
      intro k q I1 hk hq g1 hf
      obtain ⟨q, rfl⟩ := pred1 hq
      obtain rfl : k = 12 := by omega
      refine ⟨_, by rw [f_X7_begin_L2, if_pos (by decide)], ⟨fun h hh => ?_, fun k hk => ?_, ?_, ?_⟩, fun x x1 x2 x3 => by rw [up2_n x1, up2_n x1]; exact hf x x1 x2 x3⟩
      · rw [up2_n (by decide), up2_n (by decide)]; exact g1 h hh
      · exact absurd hk (by show ¬ k < 0; omega)
      · rw [up2_ne (by decide), up2_eq]; rfl
      · rw [up2_eq, ss0_e]; rfl
    | succ d ih =>
      intro k q I1 hk hq g1 hf
      obtain ⟨q, rfl⟩ := pred1 hq
      replace hq := Nat.le_of_succ_le_succ hq
      rw [f_X7_begin_L2, if_neg (nI_ge (by omega) (by omega)), oix_ok (j := k) rfl (by omega) (by decide), nI_add]
      refine ih (k + 1) q _ (by omega) hq (fun h hh => ?_) (fun x x1 x2 x3 => by rw [up2_n x3]; exact hf x x1 x2 x3)
      by_cases e : h = k
      · subst e; exact up2_eq
      · rw [up2_ne e]; exact g1 h (by omega)
  exact loop 12 0 FU I rfl (by omega) (fun h hh => by omega) (fun _ _ _ _ => rfl)
theorem VN.nfr {sh : SH} {I I' : II} {ow : Nat → Nat} {a : AS} {v : Nat} (h : VN sh I ow a v) (hf : NFr I I') : VN sh I' ow a v := h.kept (fun x hx => hf x (h.2.1.ne hx (by decide) (by decide)) (h.2.1.ne hx (by decide) (by decide)) (h.2.1.ne hx (by decide) (by decide)))
/-- the class's rounds -/
theorem shows_ok {sh : SH} {I : II} {ow : Nat → Nat} {a : AS} {v x : Nat} (hV : VN sh I ow a v) (hx : x < 256) : ∃ al I', sh.2.2 v 1 = some al ∧ f_X7_shows FU sh al (nI x) I = some I' ∧ NSt I' (rnd a x 38 ss0) ∧ NFr I I' := by
  have F5 := FU5
  have hA := hV.2.2.1
  have hM := hV.2.1
  have h8 := hA.1
  obtain ⟨I1, e1, n1, f1⟩ := nbegin_ok (sh := sh) (I := I)
  obtain ⟨al, b1⟩ : ∃ al, sh.2.2 v 1 = some al := by
    obtain ⟨-, -, -, hv, z1, -, -, -, -, ⟨al, b1, b2⟩, -⟩ := hV
    exact ⟨al, b1⟩
  have hlst : ∀ I2, NFr I I2 → Lst sh I2 ow 1 a al := by
    intro I2 hf
    obtain ⟨-, -, -, hv, z1, -, -, -, -, ⟨al2, c1, c2⟩, -⟩ := hV.nfr hf
    obtain rfl : al2 = al := by rw [b1] at c1; cases c1; rfl
    exact c2
  -- one round
  have l26 : ∀ (k6 : Int32 → II → Option II) (x4 : Int32) (d l q : Nat) (I2 : II) (s : SS), l + d = aN a → d + 1 ≤ q → SOK s → NSt I2 s → NFr I I2 → ∃ I3, f_X7_shows_L26 FU sh k6 al (nI x) x4 q (nI l) I2 = f_X7_shows_J70 FU sh k6 al (nI x) x4 I3 ∧ NSt I3 (skA a x d l s) ∧ NFr I I3 := by
    intro k6 x4 d
    induction d with
    | zero =>
      intro l q I2 s hl hq hS hN hf
      obtain ⟨q, rfl⟩ := pred1 hq
      have hL := hlst I2 hf
      refine ⟨I2, ?_, hN, hf⟩
      rw [f_X7_shows_L26, ock_ok hL.1.r, lst_size hL, Option.bind_some, if_pos (nI_le (by omega) (by omega))]
    | succ d ih =>
      intro l q I2 s hl hq hS hN hf
      obtain ⟨q, rfl⟩ := pred1 hq
      replace hq := Nat.le_of_succ_le_succ hq
      have hL := hlst I2 hf
      have hll : l < aN a := by omega
      have hk := (hA.2.2.2.2.1 l hll).1
      rw [f_X7_shows_L26, ock_ok hL.1.r, lst_size hL, Option.bind_some, if_neg (nI_ge hll (by omega)), hN.2.2.2]
      cases hem : empt s.1 with
      | true =>
        rw [if_neg (show ¬ bI true = 0 by decide), skA_e hem]
        exact ⟨I2, rfl, hN, hf⟩
      | false =>
        rw [if_pos (show bI false = 0 from rfl), has_if (by omega) (by omega), nI_add, skA]
        by_cases hb : x.testBit l = true
        · rw [if_pos hb, if_pos hb]
          obtain ⟨dm, ed, hD⟩ := lst_get hL h8 hll
          obtain ⟨I3, e3, n3, f3⟩ := strikes_ok hM hD hA hll hS hN
          rw [ed, Option.bind_some, ockD_ok hD.1.r hk, e3, Option.bind_some]
          exact ih (l + 1) q I3 _ (by omega) hq (skL_m hA hll _ 0 s (by omega) hS).1 n3 (fun x x1 x2 x3 => by rw [f3 x x1 x2 x3, hf x x1 x2 x3])
        · rw [if_neg hb, if_neg hb]
          exact ih (l + 1) q I2 s (by omega) hq hS hN hf
  have l6 : ∀ (f q : Nat) (I2 : II) (s : SS), 37 ≤ s.2.2 + f → f + 1 ≤ q → SOK s → NSt I2 s → NFr I I2 → ∃ I3, f_X7_shows_L6 FU sh al (nI x) q (nI 1) I2 = some I3 ∧ NSt I3 (rnd a x f s) ∧ NFr I I3 := by
    intro f
    induction f with
    | zero =>
      intro q I2 s hf hq hS
      have := hS.2
      omega
    | succ f ih =>
      intro q I2 s hsf hq hS hN hf
      obtain ⟨q, rfl⟩ := pred1 hq
      replace hq := Nat.le_of_succ_le_succ hq
      rw [f_X7_shows_L6, if_neg (by decide), hN.2.2.2, rnd]
      cases hem : empt s.1 with
      | true =>
        rw [if_neg (show ¬ bI true = 0 by decide), if_pos rfl]
        exact ⟨I2, rfl, hN, hf⟩
      | false =>
        rw [if_pos (show bI false = 0 from rfl), if_neg (by decide)]
        obtain ⟨I3, e3, n3, f3⟩ := l26 (f_X7_shows_L6 FU sh al (nI x) q) (I2 17 2) (aN a) 0 FU I2 s (by omega) (by omega) hS hN hf
        have hm := skA_m (x := x) hA (aN a) 0 s (by omega) hS
        have h36 := hm.1.2
        have h36' := hS.2
        rw [e3]
        unfold f_X7_shows_J70
        rw [n3.2.2.1, hN.2.2.1]
        by_cases hle : (skA a x (aN a) 0 s).2.2 ≤ s.2.2
        · rw [if_pos (nI_le hle (by omega)), if_pos hle]
          obtain ⟨q, rfl⟩ := pred1 (k := 0) (n := q) (by omega)
          exact ⟨I3, by rw [f_X7_shows_L6, if_pos (by decide)], n3, f3⟩
        · rw [if_neg (nI_ge (by omega) (by omega)), if_neg hle]
          exact ih q I3 _ (by omega) hq hm.1 n3 f3
  obtain ⟨I3, e3, n3, f3⟩ := l6 38 FU I1 ss0 (by show 37 ≤ 0 + 38; omega) (by omega) ss0_ok n1 f1
  refine ⟨al, I3, b1, ?_, n3, f3⟩
  unfold f_X7_shows
  rw [bind_ok e1]
  exact e3
