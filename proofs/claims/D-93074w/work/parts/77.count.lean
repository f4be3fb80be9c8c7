/-! PLAIN SIDE: sums over rules, in plain numbers -/
set_option maxRecDepth 100000
/-- the sum over all choices of some halls -/
def sA : List Nat → ((Nat → Nat) → Nat) → (Nat → Nat) → Nat
  | [], f, r => f r
  | h :: L, f, r => sA L f (upN r h 1) + sA L f (upN r h 2) + sA L f (upN r h 3)
theorem sA_congr {f g : (Nat → Nat) → Nat} : ∀ (L : List Nat) (r : Nat → Nat), (∀ r', (∀ x, x ∉ L → r' x = r x) → (∀ x, x ∈ L → 1 ≤ r' x ∧ r' x ≤ 3) → f r' = g r') → sA L f r = sA L g r := by
  intro L
  induction L with
  | nil => intro r h; exact h r (fun _ _ => rfl) (fun x hx => by cases hx)
  | cons k L ih =>
    intro r h
    have key : ∀ c, 1 ≤ c → c ≤ 3 → sA L f (upN r k c) = sA L g (upN r k c) := by
      intro c c1 c3
      refine ih _ (fun r' h1 h2 => h r' (fun x hx => ?_) (fun x hx => ?_))
      · have hxk : x ≠ k := fun e => hx (by rw [e]; exact List.mem_cons_self)
        rw [h1 x (fun e => hx (List.mem_cons_of_mem _ e)), upN_n hxk]
      · by_cases hxL : x ∈ L
        · exact h2 x hxL
        · have e : x = k := by
            rcases List.mem_cons.mp hx with e | e
            · exact e
            · exact absurd e hxL
          rw [h1 x hxL, e, upN_s]
          exact ⟨c1, c3⟩
    rw [sA, sA, key 1 (by omega) (by omega), key 2 (by omega) (by omega), key 3 (by omega) (by omega)]
theorem sA_mul {f : (Nat → Nat) → Nat} {k : Nat} : ∀ (L : List Nat) (r : Nat → Nat), sA L (fun r' => k * f r') r = k * sA L f r := by
  intro L
  induction L with
  | nil => intro r; rfl
  | cons h L ih => intro r; rw [sA, sA, ih, ih, ih, Nat.mul_add, Nat.mul_add]
theorem sA_app {f : (Nat → Nat) → Nat} {L2 : List Nat} : ∀ (L : List Nat) (r : Nat → Nat), sA (L ++ L2) f r = sA L (fun r' => sA L2 f r') r := by
  intro L
  induction L with
  | nil => intro r; rfl
  | cons h L ih => intro r; rw [List.cons_append, sA, sA, ih, ih, ih]
theorem upN_com {r : Nat → Nat} {h k a b : Nat} (e : h ≠ k) : upN (upN r h a) k b = upN (upN r k b) h a := by
  funext x
  unfold upN
  by_cases h1 : x = k
  · subst h1
    rw [if_pos rfl, if_neg (fun e2 => e e2.symm), if_pos rfl]
  · rw [if_neg h1]
    by_cases h2 : x = h
    · rw [if_pos h2, if_pos h2]
    · rw [if_neg h2, if_neg h2, if_neg h1]
theorem sA_swap {f : (Nat → Nat) → Nat} {h k : Nat} {L : List Nat} {r : Nat → Nat} : sA (h :: k :: L) f r = sA (k :: h :: L) f r := by
  by_cases e : h = k
  · rw [e]
  · simp only [sA]
    rw [upN_com (a := 1) (b := 1) e, upN_com (a := 1) (b := 2) e, upN_com (a := 1) (b := 3) e, upN_com (a := 2) (b := 1) e, upN_com (a := 2) (b := 2) e, upN_com (a := 2) (b := 3) e, upN_com (a := 3) (b := 1) e, upN_com (a := 3) (b := 2) e, upN_com (a := 3) (b := 3) e]
    omega
theorem sA_perm {f : (Nat → Nat) → Nat} {L L' : List Nat} (h : L.Perm L') : ∀ r, sA L f r = sA L' f r := by
  induction h with
  | nil => intro r; rfl
  | cons x _ ih => intro r; rw [sA, sA, ih, ih, ih]
  | swap x y l => intro r; exact sA_swap
  | trans _ _ i1 i2 => intro r; rw [i1, i2]
/-- what a number hangs on -/
def Dep (K : Nat → Prop) (f : (Nat → Nat) → Nat) : Prop := ∀ s s', (∀ x, K x → s x = s' x) → f s = f s'
theorem sA_dep {K : Nat → Prop} {f : (Nat → Nat) → Nat} (hf : Dep K f) : ∀ (L : List Nat) (r r' : Nat → Nat), (∀ x, K x → x ∉ L → r' x = r x) → sA L f r' = sA L f r := by
  intro L
  induction L with
  | nil => intro r r' h; exact hf _ _ (fun x hx => h x hx (fun e => by cases e))
  | cons k L ih =>
    intro r r' h
    have key : ∀ c, sA L f (upN r' k c) = sA L f (upN r k c) := fun c => ih _ _ (fun x hx hL => by
      by_cases e : x = k
      · rw [e, upN_s, upN_s]
      · rw [upN_n e, upN_n e]
        exact h x hx (fun e2 => by
          rcases List.mem_cons.mp e2 with e3 | e3
          · exact e e3
          · exact hL e3))
    rw [sA, sA, key 1, key 2, key 3]
theorem sA_split {K1 K2 : Nat → Prop} {g k : (Nat → Nat) → Nat} {L1 L2 : List Nat} (hg : Dep K1 g) (hk : Dep K2 k) (h1 : ∀ x, x ∈ L2 → ¬ K1 x) (h2 : ∀ x, x ∈ L1 → ¬ K2 x) (r : Nat → Nat) : sA (L1 ++ L2) (fun r' => g r' * k r') r = sA L1 g r * sA L2 k r := by
  rw [sA_app]
  have e1 : sA L1 (fun r' => sA L2 (fun r'' => g r'' * k r'') r') r = sA L1 (fun r' => sA L2 k r * g r') r := by
    refine sA_congr L1 r (fun r' q1 _ => ?_)
    have e2 : sA L2 (fun r'' => g r'' * k r'') r' = sA L2 (fun r'' => g r' * k r'') r' := sA_congr L2 r' (fun r'' p1 _ => by
      show g r'' * k r'' = g r' * k r''
      rw [hg r'' r' (fun x hx => p1 x (fun e => h1 x e hx))])
    show sA L2 (fun r'' => g r'' * k r'') r' = sA L2 k r * g r'
    rw [e2, sA_mul, sA_dep hk L2 r r' (fun x hx _ => q1 x (fun e => h2 x e hx)), Nat.mul_comm]
  rw [e1, sA_mul, Nat.mul_comm]
/-! rules hall by hall -/
def hls (H : Nat) : Nat → Nat → List Nat
  | 0, _ => []
  | n + 1, h => if H.testBit h = true then h :: hls H n (h + 1) else hls H n (h + 1)
theorem hls_mem {H x : Nat} : ∀ n h, x ∈ hls H n h ↔ h ≤ x ∧ x < h + n ∧ H.testBit x = true := by
  intro n
  induction n with
  | zero => intro h; exact ⟨fun hx => (by cases hx), fun hx => (by omega)⟩
  | succ n ih =>
    intro h
    rw [hls]
    by_cases hb : H.testBit h = true
    · rw [if_pos hb, List.mem_cons, ih]
      constructor
      · rintro (rfl | ⟨h1, h2, h3⟩)
        · exact ⟨by omega, by omega, hb⟩
        · exact ⟨by omega, by omega, h3⟩
      · rintro ⟨h1, h2, h3⟩
        by_cases e : x = h
        · exact Or.inl e
        · exact Or.inr ⟨by omega, by omega, h3⟩
    · rw [if_neg hb, ih]
      constructor
      · rintro ⟨h1, h2, h3⟩
        exact ⟨by omega, by omega, h3⟩
      · rintro ⟨h1, h2, h3⟩
        have e : x ≠ h := fun e => hb (by rw [← e]; exact h3)
        exact ⟨by omega, by omega, h3⟩
theorem hls_or {D y : Nat} (hd : Avo D y) : ∀ n h, (hls (D ||| y) n h).Perm (hls D n h ++ hls y n h) := by
  intro n
  induction n with
  | zero => intro h; exact List.Perm.refl _
  | succ n ih =>
    intro h
    rw [hls, hls, hls, Nat.testBit_or]
    cases hD : D.testBit h with
    | true =>
      have hy : y.testBit h = false := by
        cases hy : y.testBit h with
        | false => rfl
        | true => rw [hd h hy] at hD; cases hD
      rw [hy, Bool.or_false, if_pos rfl, if_pos rfl, if_neg (by decide)]
      exact (ih (h + 1)).cons h
    | false =>
      cases hy : y.testBit h with
      | true =>
        rw [Bool.or_true, if_pos rfl, if_neg (by decide), if_pos rfl]
        exact ((ih (h + 1)).cons h).trans List.perm_middle.symm
      | false =>
        rw [Bool.or_false, if_neg (by decide), if_neg (by decide), if_neg (by decide)]
        exact ih (h + 1)
/-- fits from hall h on, n halls -/
def fbF (P M : Nat → Nat) (H n h : Nat) (r : Nat → Nat) : Bool := alF (fun k => !H.testBit k || can P M H r k k (r k)) h n
/-- the sum of weights of the rules that fit -/
def cnW (P M : Nat → Nat) (H : Nat) (w : (Nat → Nat) → Nat) : Nat → Nat → (Nat → Nat) → Nat
  | 0, _, r => w r
  | n + 1, h, r => if H.testBit h = true then (if can P M H r h h 1 = true then cnW P M H w n (h + 1) (upN r h 1) else 0) + (if can P M H r h h 2 = true then cnW P M H w n (h + 1) (upN r h 2) else 0) + (if can P M H r h h 3 = true then cnW P M H w n (h + 1) (upN r h 3) else 0) else cnW P M H w n (h + 1) r
theorem cn_dead {P M : Nat → Nat} {H : Nat} {w : (Nat → Nat) → Nat} : ∀ (n h k : Nat) (r : Nat → Nat), h ≤ k → k < h + n → H.testBit k = true → (∀ c, 1 ≤ c → c ≤ 3 → can P M H r h k c = false) → cnW P M H w n h r = 0 := by
  intro n
  induction n with
  | zero => intro h k r h1 h2; omega
  | succ n ih =>
    intro h k r h1 h2 hH hd
    unfold cnW
    by_cases e : h = k
    · subst e
      rw [if_pos hH, hd 1 (by omega) (by omega), hd 2 (by omega) (by omega), hd 3 (by omega) (by omega)]
      rfl
    · have hn : ∀ c, cnW P M H w n (h + 1) (upN r h c) = 0 := by
        intro c
        refine ih (h + 1) k _ (by omega) (by omega) hH (fun d d1 d3 => ?_)
        rw [can_step, hd d d1 d3]
        rfl
      split
      · rw [hn, hn, hn, ite_self, ite_self, ite_self]
      · refine ih (h + 1) k _ (by omega) (by omega) hH (fun d d1 d3 => ?_)
        have : can P M H r (h + 1) k d = can P M H (upN r h (r h)) (h + 1) k d := can_congr (fun i _ _ => by unfold upN; split <;> simp_all)
        rw [this, can_step, hd d d1 d3]
        rfl
theorem cn_sA {P M : Nat → Nat} {H : Nat} {w : (Nat → Nat) → Nat} : ∀ (n h : Nat) (r : Nat → Nat), cnW P M H w n h r = sA (hls H n h) (fun r' => (fbF P M H n h r').toNat * w r') r := by
  intro n
  induction n with
  | zero =>
    intro h r
    show w r = (fbF P M H 0 h r).toNat * w r
    have : fbF P M H 0 h r = true := rfl
    rw [this]
    show w r = 1 * w r
    rw [Nat.one_mul]
  | succ n ih =>
    intro h r
    have hf : ∀ r', fbF P M H (n + 1) h r' = ((!H.testBit h || can P M H r' h h (r' h)) && fbF P M H n (h + 1) r') := fun r' => rfl
    by_cases hb : H.testBit h = true
    · have key : ∀ c, (if can P M H r h h c = true then cnW P M H w n (h + 1) (upN r h c) else 0) = sA (hls H n (h + 1)) (fun r' => (fbF P M H (n + 1) h r').toNat * w r') (upN r h c) := by
        intro c
        have e1 : sA (hls H n (h + 1)) (fun r' => (fbF P M H (n + 1) h r').toNat * w r') (upN r h c) = sA (hls H n (h + 1)) (fun r' => (can P M H r h h c).toNat * ((fbF P M H n (h + 1) r').toNat * w r')) (upN r h c) := by
          refine sA_congr _ _ (fun r' q1 _ => ?_)
          have hlow : ∀ x, x ≤ h → r' x = upN r h c x := fun x hx => q1 x (fun e => by have := (hls_mem n (h + 1)).mp e; omega)
          have hc1 : r' h = c := by rw [hlow h (by omega), upN_s]
          have hc2 : can P M H r' h h c = can P M H r h h c := can_congr (fun i hi _ => by rw [hlow i (by omega), upN_n (by omega)])
          show (fbF P M H (n + 1) h r').toNat * w r' = _
          rw [hf, hb, hc1, hc2]
          cases can P M H r h h c <;> cases fbF P M H n (h + 1) r' <;> simp
        rw [e1, sA_mul, ih]
        cases can P M H r h h c <;> simp
      rw [cnW, if_pos hb, hls, if_pos hb, sA, key 1, key 2, key 3]
    · have hb' : H.testBit h = false := by simpa using hb
      rw [cnW, if_neg hb, hls, if_neg hb, ih]
      refine sA_congr _ _ (fun r' _ _ => ?_)
      show (fbF P M H n (h + 1) r').toNat * w r' = (fbF P M H (n + 1) h r').toNat * w r'
      rw [hf, hb', Bool.not_false, Bool.true_or, Bool.true_and]
/-! halls that don't hang together -/
theorem fb_iff {P M : Nat → Nat} {H n h : Nat} {r : Nat → Nat} : fbF P M H n h r = true ↔ ∀ k, h ≤ k → k < h + n → H.testBit k = true → okm M k (r k) = true ∧ ∀ i, i < k → H.testBit i = true → okp P i (r i) k (r k) = true := by
  unfold fbF
  rw [alF_iff]
  constructor
  · intro hh k k1 k2 hk
    have := hh k k1 k2
    rw [hk, Bool.not_true, Bool.false_or] at this
    exact can_iff.mp this
  · intro hh k k1 k2
    cases hk : H.testBit k with
    | false => rfl
    | true => rw [Bool.not_true, Bool.false_or]; exact can_iff.mpr (hh k k1 k2 hk)
theorem fb_dep {P M : Nat → Nat} {H : Nat} : Dep (fun x => H.testBit x = true) (fun r => (fbF P M H 12 0 r).toNat) := by
  intro s s' h
  have : fbF P M H 12 0 s = fbF P M H 12 0 s' := by
    rw [Bool.eq_iff_iff, fb_iff, fb_iff]
    constructor
    · intro hh k k1 k2 hk
      obtain ⟨a1, a2⟩ := hh k k1 k2 hk
      rw [h k hk] at a1
      exact ⟨a1, fun i hi hHi => by have := a2 i hi hHi; rwa [h k hk, h i hHi] at this⟩
    · intro hh k k1 k2 hk
      obtain ⟨a1, a2⟩ := hh k k1 k2 hk
      rw [← h k hk] at a1
      exact ⟨a1, fun i hi hHi => by have := a2 i hi hHi; rwa [← h k hk, ← h i hHi] at this⟩
  show (fbF P M H 12 0 s).toNat = (fbF P M H 12 0 s').toNat
  rw [this]
theorem okp511 {P : Nat → Nat} {i k c d : Nat} (h : P (12 * i + k) = 511) (c1 : 1 ≤ c) (c3 : c ≤ 3) (d1 : 1 ≤ d) (d3 : d ≤ 3) : okp P i c k d = true := by
  unfold okp
  rw [h]
  exact b511 (c - 1) (by omega) (d - 1) (by omega)
/-- no two halls of D and y hang together -/
theorem cross511 {P : Nat → Nat} {D y i k : Nat} (hD : Clo P D) (hd : Avo D y) (hi : i < k) (hk : k < 12) (h : (D.testBit i = true ∧ y.testBit k = true) ∨ (y.testBit i = true ∧ D.testBit k = true)) : P (12 * i + k) = 511 := by
  have hed : ed P i k = false := by
    cases he : ed P i k with
    | false => rfl
    | true =>
      rcases h with ⟨h1, h2⟩ | ⟨h1, h2⟩
      · have := hD i k (by omega) hk he h1
        rw [hd k h2] at this
        cases this
      · have := hD k i hk (by omega) (by rw [ed_comm]; exact he) h2
        rw [hd i h1] at this
        cases this
  unfold ed at hed
  rw [if_pos hi] at hed
  simpa using hed
theorem fb_or {P M : Nat → Nat} {D y : Nat} {r : Nat → Nat} (hD : Clo P D) (hd : Avo D y) (hr : ∀ x, x < 12 → (D ||| y).testBit x = true → 1 ≤ r x ∧ r x ≤ 3) : fbF P M (D ||| y) 12 0 r = (fbF P M D 12 0 r && fbF P M y 12 0 r) := by
  rw [Bool.eq_iff_iff, Bool.and_eq_true, fb_iff, fb_iff, fb_iff]
  have oD : ∀ x, D.testBit x = true → (D ||| y).testBit x = true := fun x hx => by rw [Nat.testBit_or, hx]; rfl
  have oy : ∀ x, y.testBit x = true → (D ||| y).testBit x = true := fun x hx => by rw [Nat.testBit_or, hx, Bool.or_true]
  constructor
  · intro h
    exact ⟨fun k k1 k2 hk => ⟨(h k k1 k2 (oD k hk)).1, fun i hi hb => (h k k1 k2 (oD k hk)).2 i hi (oD i hb)⟩, fun k k1 k2 hk => ⟨(h k k1 k2 (oy k hk)).1, fun i hi hb => (h k k1 k2 (oy k hk)).2 i hi (oy i hb)⟩⟩
  · rintro ⟨h1, h2⟩ k k1 k2 hk
    have hk12 : k < 12 := by omega
    obtain ⟨rk1, rk2⟩ := hr k hk12 hk
    have hk' := hk
    rw [Nat.testBit_or, Bool.or_eq_true] at hk'
    have hm : okm M k (r k) = true := by
      rcases hk' with hk' | hk'
      · exact (h1 k k1 k2 hk').1
      · exact (h2 k k1 k2 hk').1
    refine ⟨hm, fun i hi hb => ?_⟩
    obtain ⟨ri1, ri2⟩ := hr i (by omega) hb
    have hb' := hb
    rw [Nat.testBit_or, Bool.or_eq_true] at hb'
    rcases hk' with hk' | hk' <;> rcases hb' with hb' | hb'
    · exact (h1 k k1 k2 hk').2 i hi hb'
    · exact okp511 (cross511 hD hd hi hk12 (Or.inr ⟨hb', hk'⟩)) ri1 ri2 rk1 rk2
    · exact okp511 (cross511 hD hd hi hk12 (Or.inl ⟨hb', hk'⟩)) ri1 ri2 rk1 rk2
    · exact (h2 k k1 k2 hk').2 i hi hb'
/-- the rules of some halls, counted -/
def cnH (P M : Nat → Nat) (H : Nat) (r : Nat → Nat) : Nat := cnW P M H (fun _ => 1) 12 0 r
theorem cnH_sA {P M : Nat → Nat} {H : Nat} {r : Nat → Nat} : cnH P M H r = sA (hls H 12 0) (fun r' => (fbF P M H 12 0 r').toNat) r := by
  unfold cnH
  rw [cn_sA]
  exact sA_congr _ _ (fun r' _ _ => Nat.mul_one _)
theorem cnH_or {P M : Nat → Nat} {D y : Nat} {r : Nat → Nat} (hD : Clo P D) (hd : Avo D y) : cnH P M (D ||| y) r = cnH P M D r * cnH P M y r := by
  rw [cnH_sA, cnH_sA, cnH_sA]
  have e1 : sA (hls (D ||| y) 12 0) (fun r' => (fbF P M (D ||| y) 12 0 r').toNat) r = sA (hls (D ||| y) 12 0) (fun r' => (fbF P M D 12 0 r').toNat * (fbF P M y 12 0 r').toNat) r := by
    refine sA_congr _ _ (fun r' _ q2 => ?_)
    show (fbF P M (D ||| y) 12 0 r').toNat = _
    rw [fb_or hD hd (fun x hx hb => q2 x ((hls_mem 12 0).mpr ⟨by omega, by omega, hb⟩))]
    cases fbF P M D 12 0 r' <;> cases fbF P M y 12 0 r' <;> rfl
  rw [e1, sA_perm (hls_or hd 12 0)]
  exact sA_split fb_dep fb_dep (fun x hx e => by
    have := hd x ((hls_mem 12 0).mp hx).2.2
    rw [e] at this
    cases this) (fun x hx e => by
    have h2 := hd x e
    rw [((hls_mem 12 0).mp hx).2.2] at h2
    cases h2) r
theorem cnH_0 {P M : Nat → Nat} {r : Nat → Nat} : cnH P M 0 r = 1 := by
  unfold cnH
  simp [cnW]
