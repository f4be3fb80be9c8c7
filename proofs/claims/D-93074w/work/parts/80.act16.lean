/-! PLAIN SIDE: act 16 -/
set_option maxRecDepth 100000
/-- whether a choice of one of the first four halls goes with the others' -/
def cr (P : Nat → Nat) (r : Nat → Nat) (k c : Nat) : Bool := alF (fun t => okp P k c t (r t)) 4 8
def lwf (P M : Nat → Nat) (r r' : Nat → Nat) : Bool := alF (fun h => cr P r h (r' h) && can P M 15 r' h h (r' h)) 0 4
/-- ways of the first four halls beside the others -/
def lw (P M : Nat → Nat) (r : Nat → Nat) : Nat := sA [3, 2, 1, 0] (fun r' => (lwf P M r r').toNat) r
theorem alF_congr {p q : Nat → Bool} : ∀ d k, (∀ j, k ≤ j → j < k + d → p j = q j) → alF p k d = alF q k d := by
  intro d
  induction d with
  | zero => intro k _; rfl
  | succ d ih =>
    intro k h
    rw [alF, alF, h k (by omega) (by omega), ih (k + 1) (fun j j1 j2 => h j (by omega) (by omega))]
theorem Wm_lw {P M : Nat → Nat} {m : Nat} {r : Nat → Nat} (h : ∀ k, k < 4 → ∀ c, 1 ≤ c → c ≤ 3 → m.testBit (3 * k + (c - 1)) = cr P r k c) : Wm P M m = lw P M r := by
  have m4 : ∀ x, x < 4 → x ∈ [3, 2, 1, 0] := fun x hx => by
    have hc : x = 0 ∨ x = 1 ∨ x = 2 ∨ x = 3 := by omega
    rcases hc with rfl | rfl | rfl | rfl <;> decide
  have e0 : Wm P M m = sA [3, 2, 1, 0] (fun r' => (w4 P M m r').toNat) (fun _ => 0) := by
    rw [← Wm_def]
    exact sA_81 (f := fun r' => (w4 P M m r').toNat)
  have e1 : sA [3, 2, 1, 0] (fun r' => (w4 P M m r').toNat) (fun _ => 0) = sA [3, 2, 1, 0] (fun r' => (lwf P M r r').toNat) (fun _ => 0) := by
    refine sA_congr _ _ (fun r' _ q2 => ?_)
    show (w4 P M m r').toNat = (lwf P M r r').toNat
    have : w4 P M m r' = lwf P M r r' := by
      unfold w4 lwf
      refine alF_congr 4 0 (fun j _ j2 => ?_)
      obtain ⟨a1, a2⟩ := q2 j (m4 j (by omega))
      show (m.testBit (3 * j + (r' j - 1)) && can P M 15 r' j j (r' j)) = _
      rw [h j (by omega) (r' j) a1 a2]
    rw [this]
  have hd : Dep (fun x => x < 4) (fun r' => (lwf P M r r').toNat) := by
    intro s s' hs
    have : lwf P M r s = lwf P M r s' := by
      unfold lwf
      refine alF_congr 4 0 (fun j _ j2 => ?_)
      show (cr P r j (s j) && can P M 15 s j j (s j)) = (cr P r j (s' j) && can P M 15 s' j j (s' j))
      rw [hs j (by omega), can_congr (r := s') (r' := s) (fun i hi _ => hs i (by omega))]
    show (lwf P M r s).toNat = (lwf P M r s').toNat
    rw [this]
  rw [e0, e1]
  unfold lw
  exact sA_dep hd _ _ _ (fun x hx hn => absurd (m4 x hx) hn)
/-- both orders count the same -/
theorem total_eq {P M : Nat → Nat} {r : Nat → Nat} : cnW P M 4080 (lw P M) 8 4 r = cnH P M 4095 r := by
  have m4 : ∀ x, x < 4 → x ∈ [3, 2, 1, 0] := fun x hx => by
    have hc : x = 0 ∨ x = 1 ∨ x = 2 ∨ x = 3 := by omega
    rcases hc with rfl | rfl | rfl | rfl <;> decide
  have n4 : ∀ x, 4 ≤ x → x ∉ [3, 2, 1, 0] := fun x hx hm => by
    simp only [List.mem_cons, List.not_mem_nil, or_false] at hm
    omega
  have h1 : hls 4080 8 4 = [4, 5, 6, 7, 8, 9, 10, 11] := by decide
  have h2 : hls 4095 12 0 = [0, 1, 2, 3, 4, 5, 6, 7, 8, 9, 10, 11] := by decide
  have hb : ∀ k, k < 12 → ((4080).testBit k = true ↔ 4 ≤ k) := by decide
  rw [cn_sA, cnH_sA, h1, h2]
  have hp : ([4, 5, 6, 7, 8, 9, 10, 11] ++ [3, 2, 1, 0]).Perm [0, 1, 2, 3, 4, 5, 6, 7, 8, 9, 10, 11] := by decide
  rw [← sA_perm hp, sA_app]
  refine sA_congr _ _ (fun r' _ _ => ?_)
  show (fbF P M 4080 8 4 r').toNat * lw P M r' = _
  unfold lw
  rw [← sA_mul]
  refine sA_congr _ _ (fun s q1 _ => ?_)
  show (fbF P M 4080 8 4 r').toNat * (lwf P M r' s).toNat = (fbF P M 4095 12 0 s).toNat
  have hs : ∀ x, 4 ≤ x → r' x = s x := fun x hx => (q1 x (n4 x hx)).symm
  have : fbF P M 4095 12 0 s = (fbF P M 4080 8 4 r' && lwf P M r' s) := by
    rw [Bool.eq_iff_iff, Bool.and_eq_true, fb_iff, fb_iff]
    unfold lwf
    rw [alF_iff]
    constructor
    · intro h
      refine ⟨fun k k1 k2 hk => ?_, fun k k1 k2 => ?_⟩
      · obtain ⟨a1, a2⟩ := h k (by omega) (by omega) (all_bit k (by omega))
        rw [hs k k1]
        refine ⟨a1, fun i hi hbi => ?_⟩
        rw [hs i ((hb i (by omega)).mp hbi)]
        exact a2 i hi (all_bit i (by omega))
      · obtain ⟨a1, a2⟩ := h k (by omega) (by omega) (all_bit k (by omega))
        rw [Bool.and_eq_true]
        refine ⟨?_, can_iff.mpr ⟨a1, fun i hi _ => a2 i hi (all_bit i (by omega))⟩⟩
        unfold cr
        rw [alF_iff]
        intro t t1 t2
        rw [hs t t1]
        exact (h t (by omega) (by omega) (all_bit t (by omega))).2 k (by omega) (all_bit k (by omega))
    · rintro ⟨g1, g2⟩ k k1 k2 _
      by_cases hk : 4 ≤ k
      · obtain ⟨a1, a2⟩ := g1 k hk (by omega) ((hb k (by omega)).mpr hk)
        rw [hs k hk] at a1 a2
        refine ⟨a1, fun i hi _ => ?_⟩
        by_cases hi4 : 4 ≤ i
        · have := a2 i hi ((hb i (by omega)).mpr hi4)
          rwa [hs i hi4] at this
        · have := g2 i (by omega) (by omega)
          rw [Bool.and_eq_true] at this
          have h3 := this.1
          unfold cr at h3
          rw [alF_iff] at h3
          have := h3 k hk (by omega)
          rwa [hs k hk] at this
      · have := g2 k (by omega) (by omega)
        rw [Bool.and_eq_true] at this
        obtain ⟨a1, a2⟩ := can_iff.mp this.2
        exact ⟨a1, fun i hi _ => a2 i hi (b15 i (by omega))⟩
  rw [this]
  cases fbF P M 4080 8 4 r' <;> cases lwf P M r' s <;> rfl
/-! the reference -/
def cnTw (P M : Nat → Nat) (H : Nat) (w : (Nat → Nat) → Nat) (n h : Nat) (r : Nat → Nat) : Nat → Nat
  | 0 => 0
  | m + 1 => (if can P M H r h h (3 - m) = true then cnW P M H w n (h + 1) (upN r h (3 - m)) else 0) + cnTw P M H w n h r m
theorem cn_Tw {P M : Nat → Nat} {H n h : Nat} {w : (Nat → Nat) → Nat} {r : Nat → Nat} (hb : H.testBit h = true) : cnW P M H w (n + 1) h r = cnTw P M H w n h r 3 := by
  rw [cnW, if_pos hb]
  show _ = _ + (_ + (_ + 0))
  rw [Nat.add_assoc]
  rfl
theorem cfrom_s {F d : Nat} {x : Int32} {I : II} : f_X9_countFrom F (d + 1) x I = fb_X9_countFrom F (f_X9_countFrom F d) x I := rfl
theorem masks_ok {I : II} {P M : Nat → Nat} {r : Nat → Nat} {cc : Int32 → II → Option (Int64 × II)} (hW : MW3 I P M) (hr : ∀ k, 4 ≤ k → k < 12 → I 39 k = nI (r k) ∧ 1 ≤ r k ∧ r k ≤ 3) : ∃ y, f_X9_countFrom_L10 FU cc FU (nI 0) (nI 0) I = (bd2 (f_X9_waysBy FU (nI y) I) fun r115 I115 => some ((Int32.toInt64 r115), I115)) ∧ y < 4096 ∧ ∀ k, k < 4 → ∀ c, 1 ≤ c → c ≤ 3 → y.testBit (3 * k + (c - 1)) = cr P r k c := by
  have F5 := FU5
  have l30 : ∀ (k10 k18 : Int32 → Int32 → II → Option (Int64 × II)) (x2 : Int32) (k c : Nat), k < 4 → 1 ≤ c → c ≤ 3 → ∀ (d t q : Nat) (b : Bool), t + d = 12 → 4 ≤ t → d + 1 ≤ q → f_X9_countFrom_L30 FU cc k10 k18 (nI k) x2 (nI c) q (bI b) (nI t) I = f_X9_countFrom_J79 FU cc k10 k18 (nI k) x2 (nI c) (bI (b && alF (fun t => okp P k c t (r t)) t d)) I := by
    intro k10 k18 x2 k c hk c1 c3 d
    induction d with
    | zero =>
      intro t q b ht t4 hq
      obtain ⟨q, rfl⟩ := pred1 hq
      obtain rfl : t = 12 := by omega
      rw [f_X9_countFrom_L30, if_pos (by decide), alF, Bool.and_true]
    | succ d ih =>
      intro t q b ht t4 hq
      obtain ⟨q, rfl⟩ := pred1 hq
      replace hq := Nat.le_of_succ_le_succ hq
      rw [f_X9_countFrom_L30, if_neg (nI_ge (by omega) (by omega))]
      cases b with
      | false => rw [if_pos (show bI false = 0 from rfl), Bool.false_and]
      | true =>
        obtain ⟨p1, p2⟩ := hW.2 k t (by omega) (by omega)
        obtain ⟨r1, r2, r3⟩ := hr t t4 (by omega)
        rw [if_neg (show ¬ bI true = 0 by decide), oix_ok (j := 12 * k + t) (by rw [pk_mul, nI_add]) (by omega) (by decide), oix_ok (j := t) rfl (by omega) (by decide), p1, r1, show nI 3 * nI c + nI (r t) - nI 4 = nI (3 * (c - 1) + (r t - 1)) by rw [pk_mul, nI_add, pk_sub (by omega)]; congr 1; omega, has_okM (by omega) (by omega), Option.bind_some, nI_add]
        have := ih (t + 1) q (okp P k c t (r t)) (by omega) (by omega) hq
        rw [alF, Bool.true_and]
        exact this
  have l18 : ∀ (k10 : Int32 → Int32 → II → Option (Int64 × II)) (k : Nat), k < 4 → ∀ (m c q x : Nat), c + m = 4 → 1 ≤ c → m + 1 ≤ q → x < 4096 → ∃ y, f_X9_countFrom_L18 FU cc k10 (nI k) q (nI x) (nI c) I = k10 (nI y) (nI (k + 1)) I ∧ y < 4096 ∧ ∀ b, y.testBit b = true ↔ x.testBit b = true ∨ ∃ e, c ≤ e ∧ e ≤ 3 ∧ b = 3 * k + (e - 1) ∧ cr P r k e = true := by
    intro k10 k hk m
    induction m with
    | zero =>
      intro c q x hc c1 hq hx
      obtain ⟨q, rfl⟩ := pred1 hq
      obtain rfl : c = 4 := by omega
      refine ⟨x, ?_, hx, fun b => ⟨fun h => Or.inl h, fun h => ?_⟩⟩
      · rw [f_X9_countFrom_L18, if_pos (by decide), nI_add]
      · rcases h with h | ⟨e, e1, e2, -⟩
        · exact h
        · omega
    | succ m im =>
      intro c q x hc c1 hq hx
      obtain ⟨q, rfl⟩ := pred1 hq
      replace hq := Nat.le_of_succ_le_succ hq
      rw [f_X9_countFrom_L18, if_neg (nI_nlt (by omega) (by omega))]
      have e30 := l30 k10 (f_X9_countFrom_L18 FU cc k10 (nI k) q) (nI x) k c hk c1 (by omega) 8 4 FU true rfl (by omega) (by omega)
      rw [bI_t, Bool.true_and] at e30
      rw [e30]
      unfold f_X9_countFrom_J79
      rw [show nI 3 * nI k + nI c - nI 1 = nI (3 * k + (c - 1)) by rw [pk_mul, nI_add, pk_sub (by omega)]; congr 1; omega, shl12 (by omega), nx_or9, nx_or9, Nat.or_zero, nI_add]
      cases hcr : cr P r k c with
      | false =>
        have hcr' : alF (fun t => okp P k c t (r t)) 4 8 = false := hcr
        rw [hcr', if_pos (show bI false = 0 from rfl)]
        obtain ⟨y, e1, e2, e3⟩ := im (c + 1) q x (by omega) (by omega) hq hx
        refine ⟨y, e1, e2, fun b => ?_⟩
        rw [e3]
        constructor
        · rintro (h | ⟨e, a1, a2, a3, a4⟩)
          · exact Or.inl h
          · exact Or.inr ⟨e, by omega, a2, a3, a4⟩
        · rintro (h | ⟨e, a1, a2, a3, a4⟩)
          · exact Or.inl h
          · refine Or.inr ⟨e, ?_, a2, a3, a4⟩
            have : e ≠ c := fun ee => by rw [ee, hcr] at a4; cases a4
            omega
      | true =>
        have hcr' : alF (fun t => okp P k c t (r t)) 4 8 = true := hcr
        rw [hcr', if_neg (show ¬ bI true = 0 by decide)]
        obtain ⟨y, e1, e2, e3⟩ := im (c + 1) q (x ||| 2 ^ (3 * k + (c - 1))) (by omega) (by omega) hq (Nat.or_lt_two_pow (n := 12) hx (p2_12 (by omega)))
        refine ⟨y, e1, e2, fun b => ?_⟩
        rw [e3, Nat.testBit_or, Bool.or_eq_true, Nat.testBit_two_pow, decide_eq_true_iff]
        constructor
        · rintro ((h | h) | ⟨e, a1, a2, a3, a4⟩)
          · exact Or.inl h
          · exact Or.inr ⟨c, by omega, by omega, h.symm, hcr⟩
          · exact Or.inr ⟨e, by omega, a2, a3, a4⟩
        · rintro (h | ⟨e, a1, a2, a3, a4⟩)
          · exact Or.inl (Or.inl h)
          · by_cases ee : e = c
            · subst ee; exact Or.inl (Or.inr a3.symm)
            · exact Or.inr ⟨e, by omega, a2, a3, a4⟩
  have l10 : ∀ (d k q x : Nat), k + d = 4 → d + 1 ≤ q → x < 4096 → ∃ y, f_X9_countFrom_L10 FU cc q (nI x) (nI k) I = (bd2 (f_X9_waysBy FU (nI y) I) fun r115 I115 => some ((Int32.toInt64 r115), I115)) ∧ y < 4096 ∧ ∀ b, y.testBit b = true ↔ x.testBit b = true ∨ ∃ k' e, k ≤ k' ∧ k' < 4 ∧ 1 ≤ e ∧ e ≤ 3 ∧ b = 3 * k' + (e - 1) ∧ cr P r k' e = true := by
    intro d
    induction d with
    | zero =>
      intro k q x hk hq hx
      obtain ⟨q, rfl⟩ := pred1 hq
      obtain rfl : k = 4 := by omega
      refine ⟨x, ?_, hx, fun b => ⟨fun h => Or.inl h, fun h => ?_⟩⟩
      · rw [f_X9_countFrom_L10, if_pos (by decide)]
      · rcases h with h | ⟨k', e, e1, e2, -⟩
        · exact h
        · omega
    | succ d ih =>
      intro k q x hk hq hx
      obtain ⟨q, rfl⟩ := pred1 hq
      replace hq := Nat.le_of_succ_le_succ hq
      rw [f_X9_countFrom_L10, if_neg (nI_ge (by omega) (by omega))]
      obtain ⟨y, e1, e2, e3⟩ := l18 (f_X9_countFrom_L10 FU cc q) k (by omega) 3 1 FU x rfl (by omega) (by omega) hx
      rw [e1]
      obtain ⟨z, f1, f2, f3⟩ := ih (k + 1) q y (by omega) hq e2
      refine ⟨z, f1, f2, fun b => ?_⟩
      rw [f3, e3]
      constructor
      · rintro ((h | ⟨e, a1, a2, a3, a4⟩) | ⟨k', e, a1, a2, a3⟩)
        · exact Or.inl h
        · exact Or.inr ⟨k, e, by omega, by omega, a1, a2, a3, a4⟩
        · exact Or.inr ⟨k', e, by omega, a2, a3⟩
      · rintro (h | ⟨k', e, a1, a2, a3, a4, a5, a6⟩)
        · exact Or.inl (Or.inl h)
        · by_cases ek : k' = k
          · subst ek; exact Or.inl (Or.inr ⟨e, a3, a4, a5, a6⟩)
          · exact Or.inr ⟨k', e, by omega, a2, a3, a4, a5, a6⟩
  obtain ⟨y, e1, e2, e3⟩ := l10 4 0 FU 0 rfl (by omega) (by decide)
  refine ⟨y, e1, e2, fun k hk c c1 c3 => ?_⟩
  rw [Bool.eq_iff_iff, e3, Nat.zero_testBit]
  constructor
  · rintro (h | ⟨k', e, a1, a2, a3, a4, a5, a6⟩)
    · cases h
    · have ek : k' = k := by omega
      have ee : e = c := by omega
      rw [ek, ee] at a6
      exact a6
  · intro h
    exact Or.inr ⟨k, c, by omega, hk, c1, c3, rfl, h⟩
theorem cfrom_ok {P M : Nat → Nat} : ∀ (n h d : Nat) (I : II) (r : Nat → Nat), h + n = 12 → 4 ≤ h → n + 1 ≤ d → MW3 I P M → Memo I P M → (∀ k, 4 ≤ k → k < h → I 39 k = nI (r k) ∧ 1 ≤ r k ∧ r k ≤ 3) → ∃ I', f_X9_countFrom FU d (nI h) I = some (lN (cnW P M 4080 (lw P M) n h r), I') ∧ (∀ x, x ≠ 39 → x ≠ 40 → I' x = I x) ∧ (∀ k, 4 ≤ k → k < h → I' 39 k = I 39 k) ∧ Memo I' P M := by
  have hb : ∀ k, k < 12 → ((4080).testBit k = true ↔ 4 ≤ k) := by decide
  intro n
  induction n with
  | zero =>
    intro h d I r hn h4 hd hW hQ hr
    obtain ⟨d, rfl⟩ := pred1 hd
    obtain rfl : h = 12 := by omega
    obtain ⟨y, e1, e2, e3⟩ := masks_ok (cc := f_X9_countFrom FU d) hW hr
    obtain ⟨I', w1, w2, w3, w5⟩ := waysBy_ok hW e2 hQ
    have hle : Wm P M y ≤ 81 := by rw [← Wm_def]; exact w4_le 81 0
    refine ⟨I', ?_, w2, fun k k1 _ => w3 k k1, w5⟩
    rw [cfrom_s]
    unfold fb_X9_countFrom
    rw [if_pos rfl, e1, bd2_ok w1, nI_l (by omega), Wm_lw e3]
    rfl
  | succ n ih =>
    intro h d I r hn h4 hd hW hQ hr
    obtain ⟨d, rfl⟩ := pred1 hd
    replace hd := Nat.le_of_succ_le_succ hd
    have hh : h < 12 := by omega
    rw [cfrom_s]
    unfold fb_X9_countFrom
    rw [if_neg (by rw [nI_eq (by omega) (by omega)]; omega), l0, cn_Tw ((hb h hh).mpr h4)]
    have loop : ∀ (m c q z : Nat) (I1 : II), c + m = 4 → 1 ≤ c → m + 1 ≤ q → (∀ x, x ≠ 39 → x ≠ 40 → I1 x = I x) → (∀ k, 4 ≤ k → k < h → I1 39 k = I 39 k) → Memo I1 P M → ∃ I', f_X9_countFrom_L125 FU (f_X9_countFrom FU d) (nI h) q (lN z) (nI c) I1 = some (lN (z + cnTw P M 4080 (lw P M) n h r m), I') ∧ (∀ x, x ≠ 39 → x ≠ 40 → I' x = I x) ∧ (∀ k, 4 ≤ k → k < h → I' 39 k = I 39 k) ∧ Memo I' P M := by
      intro m
      induction m with
      | zero =>
        intro c q z I1 hc c1 hq g1 g2 g3
        obtain ⟨q, rfl⟩ := pred1 hq
        obtain rfl : c = 4 := by omega
        refine ⟨I1, ?_, g1, g2, g3⟩
        rw [f_X9_countFrom_L125, if_pos (by decide)]
        rfl
      | succ m im =>
        intro c q z I1 hc c1 hq g1 g2 g3
        obtain ⟨q, rfl⟩ := pred1 hq
        replace hq := Nat.le_of_succ_le_succ hq
        have hW1 : MW3 I1 P M := hW.of (g1 37 (by decide) (by decide)) (g1 38 (by decide) (by decide))
        have hr1 : ∀ k, 4 ≤ k → k < h → I1 39 k = nI (r k) ∧ 1 ≤ r k ∧ r k ≤ 3 := fun k k1 k2 => by rw [g2 k k1 k2]; exact hr k k1 k2
        rw [f_X9_countFrom_L125, if_neg (nI_nlt (by omega) (by omega)), fa_ok (H := 4080) (r := r) hW1 hh c1 (by omega) (by decide) (fun k hk hbk => hr1 k ((hb k (by omega)).mp hbk) hk), bind_if, nI_add, cnTw, show 3 - m = c by omega]
        by_cases hcc : can P M 4080 r h h c = true
        · rw [if_pos hcc, if_pos hcc, oix_ok (j := h) rfl hh (by decide)]
          obtain ⟨I2, e2, s1, s2, s3⟩ := ih (h + 1) d (up2 I1 39 h (nI c)) (upN r h c) (by omega) (by omega) hd (hW1.of (up2_n (by decide)) (up2_n (by decide))) (fun y hy => by rw [up2_n (by decide)]; exact g3 y hy) (fun k k1 k2 => by
            by_cases e : k = h
            · subst e; rw [up2_eq, upN_s]; exact ⟨rfl, c1, by omega⟩
            · rw [up2_ne e, upN_n e]; exact hr1 k k1 (by omega))
          rw [nI_add, bd2_ok e2, lN_add, ← Nat.add_assoc]
          exact im (c + 1) q _ I2 (by omega) (by omega) hq (fun x x1 x2 => by rw [s1 x x1 x2, up2_n x1, g1 x x1 x2]) (fun k k1 k2 => by rw [s2 k k1 (by omega), up2_ne (by omega), g2 k k1 k2]) s3
        · rw [if_neg hcc, if_neg hcc, Nat.zero_add, nI_add]
          exact im (c + 1) q z I1 (by omega) (by omega) hq g1 g2 g3
    obtain ⟨I', e1, e2⟩ := loop 3 1 FU 0 I rfl (by omega) (by have := FU5; omega) (fun _ _ _ => rfl) (fun _ _ _ => rfl) hQ
    refine ⟨I', ?_, e2⟩
    rw [e1, Nat.zero_add]
theorem lcmp0 (x : Int64) : lg_cmp x x = 0 := by
  unfold lg_cmp
  simp
theorem act_16 {n : Nat} {S : SH} {I : II} {a1 : Int32} (h : Inv n S I) : Act n (f_arm_16 FU a1 S I) := by
  obtain ⟨ow, a, v, hO⟩ := h.op
  have hA := hO.aok
  have F5 := FU5
  have fin : ∀ {X : Option (Int64 × II)} {Y : II → Option (Int64 × II)} {r : Int64} {I1 I2 : II}, X = some (r, I1) → Y I1 = some (r, I2) → bd2 X (fun r1 I1 => bd2 (Y I1) fun r2 I2 => og ((lg_cmp r1 r2) = 0) <| some (S, I2)) = some (S, I2) := by
    intro X Y r I1 I2 h1 h2
    rw [bd2_ok h1, bd2_ok h2, og_ok (lcmp0 r)]
  unfold f_arm_16
  rcases set_cases hO a1 with ⟨h1, h2⟩ | ⟨s, -, hs, rfl, h1, h2⟩
  · refine Act.of (fin (r := Int32.toInt64 (-1000001)) (I1 := EN I 1) (I2 := EM (EN I 1) 1) ?_ ?_) (hO.bad (e := 1))
    · unfold f_X0_rules f_X0_rules_J23
      rw [h1, Option.bind_some]
      have hb := nbad (I := I) (A := fun _ _ => none) hO.1 (show 1 < 6 by decide) (show (-1000000) - nI 1 = -1000001 by decide)
      unfold f_X0_need f_X1_of at hb ⊢
      rw [if_pos (by decide), bd2_ok rfl, og_ok rfl, bd2_ok rfl] at hb ⊢
      have h11 : obw S 1 1 := stN_o1 hO.1
      have hb : (ock S 1 1 <| bd2 (f_X0_finds S 1 (up2 I 1 6 (nI 1))) fun r I'' => some (r, I'')) = some (-1000001, EN I 1) := hb
      show (ock S 1 1 <| bd2 (f_X0_finds S 1 (up2 I 1 6 (nI 1))) fun r I'' => some (Int32.toInt64 r, I'')) = _
      rw [ock_ok h11.r, bd2_id] at hb
      rw [ock_ok h11.r, bd2_ok hb]
    · unfold f_X9_rules
      rw [isSetEN, h2, Option.bind_some, if_pos (by decide), bd2_ok (mbad (e := 1) (by decide) (by decide))]
  · have hw := web_ok a s
    obtain ⟨I1, e1, w1⟩ := weave_ok hO.vn hs
    obtain ⟨I2, e2, f2⟩ := counts_ok (sh := S) (P := (web a s).1) (M := (web a s).2) ⟨w1.2.1, w1.2.2⟩ hw.1 hw.2
    have f1 : ∀ x, x ≠ 11 → x ≠ 13 → x ≠ 14 → x ≠ 15 → I2 x = I x := fun x x1 x2 x3 x4 => by rw [f2 x x1 x4, w1.1 x x2 x3]
    have r2 : RowIs (I2 28) a := by rw [f1 28 (by decide) (by decide) (by decide) (by decide)]; exact hO.row
    have t2 : Tab I2 := hO.tab.of (f1 _ (by decide) (by decide) (by decide) (by decide)) (f1 _ (by decide) (by decide) (by decide) (by decide)) (f1 _ (by decide) (by decide) (by decide) (by decide)) (f1 _ (by decide) (by decide) (by decide) (by decide))
    obtain ⟨I3, e3, g3⟩ := gather_ok r2 hA t2 hs
    have fill : ∀ (d k q : Nat) (J : II), k + d = 4096 → d + 1 ≤ q → (∀ x, x ≠ 40 → J x = I3 x) → (∀ j, j < k → J 40 j = -1) → ∃ I4, f_X9_rules_L23 FU q (nI k) J = some (lN (cnH (web a s).1 (web a s).2 4095 (fun _ => 0)), I4) ∧ ∀ x, x ≠ 39 → x ≠ 40 → I4 x = I3 x := by
      intro d
      induction d with
      | zero =>
        intro k q J hk hq j1 j2
        obtain ⟨q, rfl⟩ := pred1 hq
        obtain rfl : k = 4096 := by omega
        obtain ⟨I4, c1, c2, -, -⟩ := cfrom_ok (P := (web a s).1) (M := (web a s).2) 8 4 13 J (fun _ => 0) rfl (by omega) (by omega) ((g3.mw hw).of (j1 37 (by decide)) (j1 38 (by decide))) (fun m hm => Or.inl (j2 m hm)) (fun k k1 k2 => by omega)
        refine ⟨I4, ?_, fun x x1 x2 => by rw [c2 x x1 x2, j1 x x2]⟩
        rw [f_X9_rules_L23, if_pos (by decide), bd2_ok c1, total_eq]
      | succ d ih =>
        intro k q J hk hq j1 j2
        obtain ⟨q, rfl⟩ := pred1 hq
        replace hq := Nat.le_of_succ_le_succ hq
        rw [f_X9_rules_L23, if_neg (nI_ge (by omega) (by omega)), oix_ok (j := k) rfl (by omega) (by decide), nI_add]
        refine ih (k + 1) q _ (by omega) hq (fun x hx => by rw [up2_n hx]; exact j1 x hx) (fun j hj => ?_)
        by_cases e : j = k
        · subst e; exact up2_eq
        · rw [up2_ne e]; exact j2 j (by omega)
    obtain ⟨I4, e4, g4⟩ := fill 4096 0 FU I3 rfl (by omega) (fun _ _ => rfl) (fun j hj => by omega)
    refine Act.of (fin (I1 := I2) (I2 := I4) (r := lN (cnH (web a s).1 (web a s).2 4095 (fun _ => 0))) ?_ ?_) (hO.sc (by omega) (fun x x1 => ?_) ?_ ?_)
    · unfold f_X0_rules
      rw [h1, Option.bind_some, ngood, bind_ok e1, bd2_ok e2]
    · unfold f_X9_rules
      rw [isSet_congr (f1 28 (by decide) (by decide) (by decide) (by decide)), h2, Option.bind_some, if_neg (by decide), bind_ok e3]
      exact e4
    · unfold scr at x1
      rw [g4 x (by omega) (by omega), g3.1 x (by omega) (by omega), f1 x (by omega) (by omega) (by omega) (by omega)]
    · rw [g4 27 (by decide) (by decide), g3.1 27 (by decide) (by decide), f1 27 (by decide) (by decide) (by decide) (by decide)]
    · rw [g4 27 (by decide) (by decide), g3.1 27 (by decide) (by decide), f1 27 (by decide) (by decide) (by decide) (by decide)]
