/-! PLAIN SIDE: the reference's voices -/
set_option maxRecDepth 100000
def bgM : II → Nat → List Nat → II
  | I, _, [] => I
  | I, m, b :: t => bgM (up2 (up2 I 43 m (nI b)) 27 27 (nI (m + 1))) (m + 1) t
theorem bgM_app : ∀ (b c : List Nat) (I : II) (m : Nat), bgM (bgM I m b) (m + b.length) c = bgM I m (b ++ c) := by
  intro b
  induction b with
  | nil => intro c I m; rfl
  | cons x b ih =>
    intro c I m
    rw [List.cons_append, bgM, bgM, ← ih, List.length_cons, Nat.add_assoc, Nat.add_comm 1 b.length]
theorem bgM_x {x : Nat} (h7 : x ≠ 27) (h8 : x ≠ 43) : ∀ (b : List Nat) (I : II) (m : Nat), bgM I m b x = I x := by
  intro b
  induction b with
  | nil => intro I m; rfl
  | cons y b ih => intro I m; rw [bgM, ih, up2_n h7, up2_n h8]
theorem bgM_27 {j : Nat} (hj : j ≠ 27) : ∀ (b : List Nat) (I : II) (m : Nat), bgM I m b 27 j = I 27 j := by
  intro b
  induction b with
  | nil => intro I m; rfl
  | cons y b ih => intro I m; rw [bgM, ih, up2_ne hj, up2_n (by decide)]
theorem bgM_m : ∀ (b : List Nat) (I : II) (m : Nat), I 27 27 = nI m → bgM I m b 27 27 = nI (m + b.length) := by
  intro b
  induction b with
  | nil => intro I m h; exact h
  | cons y b ih => intro I m h; rw [bgM, ih _ (m + 1) up2_eq, List.length_cons, Nat.add_assoc, Nat.add_comm 1 b.length]
theorem bgM_low : ∀ (b : List Nat) (I : II) (m k : Nat), k < m → bgM I m b 43 k = I 43 k := by
  intro b
  induction b with
  | nil => intro I m k _; rfl
  | cons y b ih => intro I m k hk; rw [bgM, ih _ (m + 1) k (by omega), up2_n (by decide), up2_ne (by omega)]
theorem bgM_at : ∀ (b : List Nat) (I : II) (m k : Nat), k < b.length → bgM I m b 43 (m + k) = nI (b.getD k 0) := by
  intro b
  induction b with
  | nil => intro I m k hk; exact absurd hk (by show ¬ k < 0; omega)
  | cons y b ih =>
    intro I m k hk
    rw [List.length_cons] at hk
    cases k with
    | zero => rw [Nat.add_zero, bgM, bgM_low _ _ _ _ (by omega), up2_n (by decide), up2_eq]; rfl
    | succ k =>
      have := ih (up2 (up2 I 43 m (nI y)) 27 27 (nI (m + 1))) (m + 1) k (by omega)
      rw [Nat.add_assoc, Nat.add_comm 1 k] at this
      rw [bgM, this]
      rfl
def MB (k l p : Nat) (I : II) (m : Nat) : Prop := I 27 28 = nI l ∧ I 28 (22 + l) = nI k ∧ I 28 (30 + l) = nI p ∧ I 27 27 = nI m ∧ l < 8 ∧ k < 6
theorem MB.bg {k l p : Nat} {I : II} {m : Nat} (h : MB k l p I m) (b : List Nat) : MB k l p (bgM I m b) (m + b.length) := ⟨by rw [bgM_27 (by decide)]; exact h.1, by rw [bgM_x (by decide) (by decide)]; exact h.2.1, by rw [bgM_x (by decide) (by decide)]; exact h.2.2.1, bgM_m b I m h.2.2.2.1, h.2.2.2.2⟩
def RM (k l p : Nat) (f : Int32 → II → Option (Int32 × II)) (x : Int32) (o : Int32 × List Nat) : Prop := ∀ I m, MB k l p I m → m + o.2.length ≤ 40 → f x I = some (o.1, bgM I m o.2)
theorem began_ok {I : II} {m b : Nat} (h : I 27 27 = nI m) (hm : m < 40) : f_X9_began (nI b) I = some (bgM I m [b]) := by
  unfold f_X9_began
  rw [h, if_neg (nI_ge hm (by omega)), oix_ok (j := m) rfl hm (by decide), up2_n (by decide), h, nI_add]
  rfl
theorem mo_one {k l p b m : Nat} {I : II} {g : Int32 → II → Option (Int32 × II)} {y : Int32} {o : Int32 × List Nat} (hV : MB k l p I m) (hg : RM k l p g y o) (hm : m + (o.2.length + 1) ≤ 40) : g y (bgM I m [b]) = some (o.1, bgM I m (b :: o.2)) := by
  have h1 := hV.bg [b]
  have h2 := hg _ _ h1 (by rw [List.length_singleton]; omega)
  rw [h2, bgM_app]
  rfl
theorem mo_two {k l p b m : Nat} {I : II} {g : Int32 → II → Option (Int32 × II)} {y : Int32} {o1 o : Int32 × List Nat} (hV : MB k l p I m) (hg : RM k l p g y o) (hm : m + ((o1.2 ++ o.2).length + 1) ≤ 40) : g y (bgM I m (b :: o1.2)) = some (o.1, bgM I m (b :: (o1.2 ++ o.2))) := by
  have h1 := hV.bg (b :: o1.2)
  rw [List.length_append] at hm
  have h2 := hg _ _ h1 (by rw [List.length_cons]; omega)
  rw [h2, bgM_app]
  rfl
abbrev CB : Type := Int32 → Int32 → Int32 → II → Option (Int32 × II)
abbrev CV : Type := Int32 → Int32 → II → Option (Int32 × II)
theorem mb00 {k l p : Nat} {cF : CB} {cV : CV} {x : Int32} : RM k l p (fb_X9_body FU cF cV (nI 0) (nI 0)) x (x + nI l, [10]) := by
  intro I m hV hm
  have hm' : m + 1 ≤ 40 := hm
  have hl := hV.2.2.2.2.1
  unfold fb_X9_body
  rw [hV.1, oix_ok (j := 30 + l) (by rw [nI_add]) (by omega) (by decide), show nI 4 * nI 0 + nI 0 = nI 0 by decide, if_pos rfl, began_ok hV.2.2.2.1 (by omega), Option.bind_some, (hV.bg [10]).1]
theorem mb02 {k l p : Nat} {cF : CB} {cV : CV} {x : Int32} : RM k l p (fb_X9_body FU cF cV (nI 0) (nI 2)) x (x - nI p, [12]) := by
  intro I m hV hm
  have hm' : m + 1 ≤ 40 := hm
  have hl := hV.2.2.2.2.1
  unfold fb_X9_body
  rw [hV.1, oix_ok (j := 30 + l) (by rw [nI_add]) (by omega) (by decide), show nI 4 * nI 0 + nI 2 = nI 2 by decide]
  repeat rw [if_neg (by decide)]
  rw [if_pos rfl, began_ok hV.2.2.2.1 (by omega), Option.bind_some, hV.2.2.1]
theorem mb01 {k l p : Nat} {cF : CB} {cV : CV} {x : Int32} (h0 : RM k l p (cV (nI 0)) x (vBids k l x)) : RM k l p (fb_X9_body FU cF cV (nI 0) (nI 1)) x (vBar0 k l x) := by
  intro I m hV hm
  have hm' : m + ((vBids k l x).2.length + 1) ≤ 40 := hm
  have hl := hV.2.2.2.2.1
  unfold fb_X9_body
  rw [hV.1, oix_ok (j := 30 + l) (by rw [nI_add]) (by omega) (by decide), show nI 4 * nI 0 + nI 1 = nI 1 by decide]
  repeat rw [if_neg (by decide)]
  rw [if_pos rfl, began_ok hV.2.2.2.1 (by omega), Option.bind_some, bd2_ok (mo_one hV h0 hm')]
  rfl
theorem mb03 {k l p : Nat} {cF : CB} {cV : CV} {x : Int32} (h1 : RM k l p (cV (nI 1)) x (vBars k l p x)) (h2 : RM k l p (cV (nI 2)) x (vYl k l p x)) : RM k l p (fb_X9_body FU cF cV (nI 0) (nI 3)) x (vStd0 k l p x) := by
  intro I m hV hm
  have hm' : m + (((vBars k l p x).2 ++ (vYl k l p x).2).length + 1) ≤ 40 := hm
  have hm2 := hm'
  rw [List.length_append] at hm2
  have hl := hV.2.2.2.2.1
  unfold fb_X9_body
  rw [hV.1, oix_ok (j := 30 + l) (by rw [nI_add]) (by omega) (by decide), show nI 4 * nI 0 + nI 3 = nI 3 by decide]
  repeat rw [if_neg (by decide)]
  rw [if_pos rfl, began_ok hV.2.2.2.1 (by omega), Option.bind_some, bd2_ok (mo_one hV h1 (by omega)), bd2_ok (mo_two hV h2 hm')]
  rfl
theorem mb11 {k l p : Nat} {cF : CB} {cV : CV} {x : Int32} (h1 : RM k l p (cF (nI 0) (nI 1)) x (vBar0 k l x)) (h2 : RM k l p (cV (nI 2)) x (vYl k l p x)) : RM k l p (fb_X9_body FU cF cV (nI 1) (nI 1)) x (vBar1 k l p x) := by
  intro I m hV hm
  have hm' : m + (((vBar0 k l x).2 ++ (vYl k l p x).2).length + 1) ≤ 40 := hm
  have hm2 := hm'
  rw [List.length_append] at hm2
  have hl := hV.2.2.2.2.1
  unfold fb_X9_body
  rw [hV.1, oix_ok (j := 30 + l) (by rw [nI_add]) (by omega) (by decide), show nI 4 * nI 1 + nI 1 = nI 5 by decide]
  repeat rw [if_neg (by decide)]
  rw [if_pos rfl, began_ok hV.2.2.2.1 (by omega), Option.bind_some, bd2_ok (mo_one hV h1 (by omega)), bd2_ok (mo_two hV h2 hm')]
  rfl
theorem mb20 {k l p : Nat} {cF : CB} {cV : CV} {x : Int32} (h1 : RM k l p (cF (nI 1) (nI 0)) x (x + nI l, [10])) : RM k l p (fb_X9_body FU cF cV (nI 2) (nI 0)) x (x + nI l - nI 1, [30, 10]) := by
  intro I m hV hm
  have hm' : m + 2 ≤ 40 := hm
  have hl := hV.2.2.2.2.1
  unfold fb_X9_body
  rw [hV.1, oix_ok (j := 30 + l) (by rw [nI_add]) (by omega) (by decide), show nI 4 * nI 2 + nI 0 = nI 8 by decide]
  repeat rw [if_neg (by decide)]
  rw [if_pos rfl, began_ok hV.2.2.2.1 (by omega), Option.bind_some, bd2_ok (mo_one hV h1 hm')]
theorem mb23 {k l p : Nat} {cF : CB} {cV : CV} {x : Int32} (h1 : RM k l p (cF (nI 1) (nI 3)) (x + nI 1) (vStd0 k l p (x + nI 1))) : RM k l p (fb_X9_body FU cF cV (nI 2) (nI 3)) x ((vStd0 k l p (x + nI 1)).1, 31 :: (vStd0 k l p (x + nI 1)).2) := by
  intro I m hV hm
  have hm' : m + ((vStd0 k l p (x + nI 1)).2.length + 1) ≤ 40 := hm
  have hl := hV.2.2.2.2.1
  unfold fb_X9_body
  rw [hV.1, oix_ok (j := 30 + l) (by rw [nI_add]) (by omega) (by decide), show nI 4 * nI 2 + nI 3 = nI 11 by decide]
  repeat rw [if_neg (by decide)]
  rw [if_pos rfl, began_ok hV.2.2.2.1 (by omega), Option.bind_some, bd2_ok (mo_one hV h1 hm')]
theorem mb32 {k l p : Nat} {cF : CB} {cV : CV} {x : Int32} (h1 : RM k l p (cF (nI 1) (nI 2)) x (x - nI p, [12])) : RM k l p (fb_X9_body FU cF cV (nI 3) (nI 2)) x (-(x - nI p), [40, 12]) := by
  intro I m hV hm
  have hm' : m + 2 ≤ 40 := hm
  have hl := hV.2.2.2.2.1
  unfold fb_X9_body
  rw [hV.1, oix_ok (j := 30 + l) (by rw [nI_add]) (by omega) (by decide), show nI 4 * nI 3 + nI 2 = nI 14 by decide]
  repeat rw [if_neg (by decide)]
  rw [if_pos rfl, began_ok hV.2.2.2.1 (by omega), Option.bind_some, bd2_ok (mo_one hV h1 hm')]
theorem mb41 {k l p : Nat} {cF : CB} {cV : CV} {x : Int32} (h1 : RM k l p (cF (nI 1) (nI 1)) (x - nI p) (vBar1 k l p (x - nI p))) : RM k l p (fb_X9_body FU cF cV (nI 4) (nI 1)) x ((vBar1 k l p (x - nI p)).1, 51 :: (vBar1 k l p (x - nI p)).2) := by
  intro I m hV hm
  have hm' : m + ((vBar1 k l p (x - nI p)).2.length + 1) ≤ 40 := hm
  have hl := hV.2.2.2.2.1
  unfold fb_X9_body
  rw [hV.1, oix_ok (j := 30 + l) (by rw [nI_add]) (by omega) (by decide), show nI 4 * nI 4 + nI 1 = nI 17 by decide]
  repeat rw [if_neg (by decide)]
  rw [if_pos rfl, began_ok hV.2.2.2.1 (by omega), Option.bind_some, hV.2.2.1, bd2_ok (mo_one hV h1 hm')]
theorem mb43 {k l p : Nat} {cF : CB} {cV : CV} {x : Int32} (h1 : RM k l p (cV (nI 2)) x (vYl k l p x)) (h2 : RM k l p (cF (nI 1) (nI 3)) x (vStd0 k l p x)) : RM k l p (fb_X9_body FU cF cV (nI 4) (nI 3)) x ((vYl k l p x).1 - (vStd0 k l p x).1, 50 :: ((vYl k l p x).2 ++ (vStd0 k l p x).2)) := by
  intro I m hV hm
  have hm' : m + (((vYl k l p x).2 ++ (vStd0 k l p x).2).length + 1) ≤ 40 := hm
  have hm2 := hm'
  rw [List.length_append] at hm2
  have hl := hV.2.2.2.2.1
  unfold fb_X9_body
  rw [hV.1, oix_ok (j := 30 + l) (by rw [nI_add]) (by omega) (by decide), show nI 4 * nI 4 + nI 3 = nI 19 by decide]
  repeat rw [if_neg (by decide)]
  rw [if_pos rfl, began_ok hV.2.2.2.1 (by omega), Option.bind_some, bd2_ok (mo_one hV h1 (by omega)), bd2_ok (mo_two hV h2 hm')]
theorem mb50 {k l p : Nat} {cF : CB} {cV : CV} {x : Int32} (h1 : RM k l p (cF (nI 0) (nI 0)) x (x + nI l, [10])) : RM k l p (fb_X9_body FU cF cV (nI 5) (nI 0)) x ((x + nI l) ^^^ nI 5, [60, 10]) := by
  intro I m hV hm
  have hm' : m + 2 ≤ 40 := hm
  have hl := hV.2.2.2.2.1
  unfold fb_X9_body
  rw [hV.1, oix_ok (j := 30 + l) (by rw [nI_add]) (by omega) (by decide), show nI 4 * nI 5 + nI 0 = nI 20 by decide]
  repeat rw [if_neg (by decide)]
  rw [if_pos rfl, began_ok hV.2.2.2.1 (by omega), Option.bind_some, bd2_ok (mo_one hV h1 hm')]
theorem mb52 {k l p : Nat} {cF : CB} {cV : CV} {x : Int32} (h1 : RM k l p (cF (nI 0) (nI 2)) x (x - nI p, [12])) (h2 : RM k l p (cV (nI 0)) (nI 1) ((nI 1 + nI l) ^^^ nI 5, [60, 10])) : RM k l p (fb_X9_body FU cF cV (nI 5) (nI 2)) x ((x - nI p) * ((nI 1 + nI l) ^^^ nI 5), [61, 12, 60, 10]) := by
  intro I m hV hm
  have hm' : m + 4 ≤ 40 := hm
  have hl := hV.2.2.2.2.1
  unfold fb_X9_body
  rw [hV.1, oix_ok (j := 30 + l) (by rw [nI_add]) (by omega) (by decide), show nI 4 * nI 5 + nI 2 = nI 22 by decide]
  repeat rw [if_neg (by decide)]
  try rw [if_pos rfl]
  rw [began_ok hV.2.2.2.1 (by omega), Option.bind_some, bd2_ok (mo_one hV h1 (show m + 2 ≤ 40 by omega)), bd2_ok (mo_two (o1 := (x - nI p, [12])) hV h2 hm')]
  rfl
/-! which body is taken -/
theorem bd2_id {x : Option (Int32 × II)} : bd2 x (fun r I => some (r, I)) = x := by
  cases x with
  | none => rfl
  | some z => rfl
theorem own1 {cB : CB} {a x k : Int32} {n : Nat} {I : II} (h : f_X9_hasOwn k a = some (nI 1)) : f_X9_bodyFrom_L3 FU cB a x (n + 1) k I = cB k a x I := by
  rw [f_X9_bodyFrom_L3, h, Option.bind_some, if_neg (by decide), bd2_id]
theorem own0 {cB : CB} {a x k j : Int32} {n : Nat} {I : II} (h : f_X9_hasOwn k a = some (nI 0)) (h2 : f_X9_above k = some j) : f_X9_bodyFrom_L3 FU cB a x (n + 1) k I = f_X9_bodyFrom_L3 FU cB a x n j I := by
  rw [f_X9_bodyFrom_L3, h, Option.bind_some, if_pos (by decide), h2, Option.bind_some]
theorem mf1 {k l p : Nat} {d : Nat} {q a : Nat} {x : Int32} {o : Int32 × List Nat} (ho : f_X9_hasOwn (nI q) (nI a) = some (nI 1)) (h : RM k l p (f_X9_body FU d (nI q) (nI a)) x o) : RM k l p (f_X9_bodyFrom FU (d + 1) (nI q) (nI a)) x o := by
  intro I m hV hm
  show f_X9_bodyFrom_L3 FU (f_X9_body FU d) (nI a) x FU (nI q) I = _
  rw [show FU = 4999 + 1 from rfl]
  rw [own1 ho]
  exact h I m hV hm
theorem mf0 {k l p : Nat} {d : Nat} {q q' a : Nat} {x : Int32} {o : Int32 × List Nat} (ho : f_X9_hasOwn (nI q) (nI a) = some (nI 0)) (h2 : f_X9_above (nI q) = some (nI q')) (ho' : f_X9_hasOwn (nI q') (nI a) = some (nI 1)) (h : RM k l p (f_X9_body FU d (nI q') (nI a)) x o) : RM k l p (f_X9_bodyFrom FU (d + 1) (nI q) (nI a)) x o := by
  intro I m hV hm
  show f_X9_bodyFrom_L3 FU (f_X9_body FU d) (nI a) x FU (nI q) I = _
  rw [show FU = 4998 + 1 + 1 from rfl]
  rw [own0 ho h2, own1 ho']
  exact h I m hV hm
theorem mf00 {k l p : Nat} {d : Nat} {q q' q2 a : Nat} {x : Int32} {o : Int32 × List Nat} (ho : f_X9_hasOwn (nI q) (nI a) = some (nI 0)) (h2 : f_X9_above (nI q) = some (nI q')) (ho' : f_X9_hasOwn (nI q') (nI a) = some (nI 0)) (h3 : f_X9_above (nI q') = some (nI q2)) (ho2 : f_X9_hasOwn (nI q2) (nI a) = some (nI 1)) (h : RM k l p (f_X9_body FU d (nI q2) (nI a)) x o) : RM k l p (f_X9_bodyFrom FU (d + 1) (nI q) (nI a)) x o := by
  intro I m hV hm
  show f_X9_bodyFrom_L3 FU (f_X9_body FU d) (nI a) x FU (nI q) I = _
  rw [show FU = 4997 + 1 + 1 + 1 from rfl]
  rw [own0 ho h2, own0 ho' h3, own1 ho2]
  exact h I m hV hm
theorem mv {k l p : Nat} {d : Nat} {a : Int32} {x : Int32} {o : Int32 × List Nat} (h : RM k l p (f_X9_bodyFrom FU d (nI k) a) x o) : RM k l p (f_X9_voiced FU (d + 1) a) x o := by
  intro I m hV hm
  show (f_X9_kindOf (I 27 28) I).bind (fun r6 => bd2 (f_X9_bodyFrom FU d r6 a x I) fun r11 I11 => some (r11, I11)) = _
  unfold f_X9_kindOf
  rw [hV.1, oix_ok (j := 22 + l) (by rw [nI_add]) (by have := hV.2.2.2.2.1; omega) (by decide), Option.bind_some, hV.2.1, bd2_id]
  exact h I m hV hm
theorem pS {d n : Nat} (h : n + 1 ≤ d) : ∃ e, d = e + 1 ∧ n ≤ e := ⟨d - 1, by omega, by omega⟩
theorem M00 {k l p d : Nat} {x : Int32} (h : 1 ≤ d) : RM k l p (f_X9_body FU d (nI 0) (nI 0)) x (x + nI l, [10]) := by
  obtain ⟨d, rfl, -⟩ := pS h
  exact mb00
theorem M02 {k l p d : Nat} {x : Int32} (h : 1 ≤ d) : RM k l p (f_X9_body FU d (nI 0) (nI 2)) x (x - nI p, [12]) := by
  obtain ⟨d, rfl, -⟩ := pS h
  exact mb02
theorem MvBids {k l p d : Nat} {x : Int32} (hk : k < 6) (h : 5 ≤ d) : RM k l p (f_X9_voiced FU d (nI 0)) x (vBids k l x) := by
  obtain ⟨d', he, h9⟩ := pS h; subst he; replace h := h9; clear h9
  refine mv ?_
  obtain ⟨d', he, h9⟩ := pS h; subst he; replace h := h9; clear h9
  rcases k6 hk with rfl | rfl | rfl | rfl | rfl | rfl
  · exact mf1 (by decide) (M00 (by omega))
  · exact mf0 (q' := 0) (by decide) (by decide) (by decide) (M00 (by omega))
  · refine mf1 (by decide) ?_
    obtain ⟨d', he, h9⟩ := pS h; subst he; replace h := h9; clear h9
    refine mb20 ?_
    obtain ⟨d', he, h9⟩ := pS h; subst he; replace h := h9; clear h9
    exact mf0 (q' := 0) (by decide) (by decide) (by decide) (M00 (by omega))
  · exact mf00 (q' := 1) (q2 := 0) (by decide) (by decide) (by decide) (by decide) (by decide) (M00 (by omega))
  · exact mf00 (q' := 1) (q2 := 0) (by decide) (by decide) (by decide) (by decide) (by decide) (M00 (by omega))
  · refine mf1 (by decide) ?_
    obtain ⟨d', he, h9⟩ := pS h; subst he; replace h := h9; clear h9
    refine mb50 ?_
    obtain ⟨d', he, h9⟩ := pS h; subst he; replace h := h9; clear h9
    exact mf1 (by decide) (M00 (by omega))
theorem MvYl {k l p d : Nat} {x : Int32} (hk : k < 6) (h : 8 ≤ d) : RM k l p (f_X9_voiced FU d (nI 2)) x (vYl k l p x) := by
  obtain ⟨d', he, h9⟩ := pS h; subst he; replace h := h9; clear h9
  refine mv ?_
  obtain ⟨d', he, h9⟩ := pS h; subst he; replace h := h9; clear h9
  rcases k6 hk with rfl | rfl | rfl | rfl | rfl | rfl
  · exact mf1 (by decide) (M02 (by omega))
  · exact mf0 (q' := 0) (by decide) (by decide) (by decide) (M02 (by omega))
  · exact mf00 (q' := 1) (q2 := 0) (by decide) (by decide) (by decide) (by decide) (by decide) (M02 (by omega))
  · refine mf1 (by decide) ?_
    obtain ⟨d', he, h9⟩ := pS h; subst he; replace h := h9; clear h9
    refine mb32 ?_
    obtain ⟨d', he, h9⟩ := pS h; subst he; replace h := h9; clear h9
    exact mf0 (q' := 0) (by decide) (by decide) (by decide) (M02 (by omega))
  · exact mf00 (q' := 1) (q2 := 0) (by decide) (by decide) (by decide) (by decide) (by decide) (M02 (by omega))
  · refine mf1 (by decide) ?_
    obtain ⟨d', he, h9⟩ := pS h; subst he; replace h := h9; clear h9
    refine mb52 ?_ (MvBids (k := 5) (by omega) h)
    obtain ⟨d', he, h9⟩ := pS h; subst he; replace h := h9; clear h9
    exact mf1 (by decide) (M02 (by omega))
theorem M01 {k l p d : Nat} {x : Int32} (hk : k < 6) (h : 6 ≤ d) : RM k l p (f_X9_body FU d (nI 0) (nI 1)) x (vBar0 k l x) := by
  obtain ⟨d', he, h9⟩ := pS h; subst he; replace h := h9; clear h9
  exact mb01 (MvBids hk h)
theorem M11 {k l p d : Nat} {x : Int32} (hk : k < 6) (h : 9 ≤ d) : RM k l p (f_X9_body FU d (nI 1) (nI 1)) x (vBar1 k l p x) := by
  obtain ⟨d', he, h9⟩ := pS h; subst he; replace h := h9; clear h9
  refine mb11 ?_ (MvYl hk h)
  obtain ⟨d', he, h9⟩ := pS h; subst he; replace h := h9; clear h9
  exact mf1 (by decide) (M01 hk (by omega))
theorem MvBars {k l p d : Nat} {x : Int32} (hk : k < 6) (h : 13 ≤ d) : RM k l p (f_X9_voiced FU d (nI 1)) x (vBars k l p x) := by
  obtain ⟨d', he, h9⟩ := pS h; subst he; replace h := h9; clear h9
  refine mv ?_
  obtain ⟨d', he, h9⟩ := pS h; subst he; replace h := h9; clear h9
  rcases k6 hk with rfl | rfl | rfl | rfl | rfl | rfl
  · exact mf1 (by decide) (M01 hk (by omega))
  · exact mf1 (by decide) (M11 hk (by omega))
  · exact mf0 (q' := 1) (by decide) (by decide) (by decide) (M11 hk (by omega))
  · exact mf0 (q' := 1) (by decide) (by decide) (by decide) (M11 hk (by omega))
  · refine mf1 (by decide) ?_
    obtain ⟨d', he, h9⟩ := pS h; subst he; replace h := h9; clear h9
    refine mb41 ?_
    obtain ⟨d', he, h9⟩ := pS h; subst he; replace h := h9; clear h9
    exact mf1 (by decide) (M11 hk (by omega))
  · exact mf0 (q' := 0) (by decide) (by decide) (by decide) (M01 hk (by omega))
theorem M03 {k l p d : Nat} {x : Int32} (hk : k < 6) (h : 14 ≤ d) : RM k l p (f_X9_body FU d (nI 0) (nI 3)) x (vStd0 k l p x) := by
  obtain ⟨d', he, h9⟩ := pS h; subst he; replace h := h9; clear h9
  exact mb03 (MvBars hk h) (MvYl hk (by omega))
theorem MvStd {k l p d : Nat} {x : Int32} (hk : k < 6) (h : 18 ≤ d) : RM k l p (f_X9_voiced FU d (nI 3)) x (vStd k l p x) := by
  obtain ⟨d', he, h9⟩ := pS h; subst he; replace h := h9; clear h9
  refine mv ?_
  obtain ⟨d', he, h9⟩ := pS h; subst he; replace h := h9; clear h9
  rcases k6 hk with rfl | rfl | rfl | rfl | rfl | rfl
  · exact mf1 (by decide) (M03 hk (by omega))
  · exact mf0 (q' := 0) (by decide) (by decide) (by decide) (M03 hk (by omega))
  · refine mf1 (by decide) ?_
    obtain ⟨d', he, h9⟩ := pS h; subst he; replace h := h9; clear h9
    refine mb23 ?_
    obtain ⟨d', he, h9⟩ := pS h; subst he; replace h := h9; clear h9
    exact mf0 (q' := 0) (by decide) (by decide) (by decide) (M03 hk (by omega))
  · exact mf00 (q' := 1) (q2 := 0) (by decide) (by decide) (by decide) (by decide) (by decide) (M03 hk (by omega))
  · refine mf1 (by decide) ?_
    obtain ⟨d', he, h9⟩ := pS h; subst he; replace h := h9; clear h9
    refine mb43 (MvYl hk (by omega)) ?_
    obtain ⟨d', he, h9⟩ := pS h; subst he; replace h := h9; clear h9
    exact mf0 (q' := 0) (by decide) (by decide) (by decide) (M03 hk (by omega))
  · exact mf0 (q' := 0) (by decide) (by decide) (by decide) (M03 hk (by omega))
theorem MvAct {k l p a : Nat} {x : Int32} (hk : k < 6) (ha : a < 4) : RM k l p (f_X9_voiced FU 40 (nI a)) x (vAct k l p a x) := by
  have hc : a = 0 ∨ a = 1 ∨ a = 2 ∨ a = 3 := by omega
  rcases hc with rfl | rfl | rfl | rfl
  · exact MvBids hk (by omega)
  · exact MvBars hk (by omega)
  · exact MvYl hk (by omega)
  · exact MvStd hk (by omega)
theorem act_28 {n : Nat} {S : SH} {I : II} {a1 a2 a3 : Int32} (h : Inv n S I) : Act n (f_arm_28 FU a1 a2 a3 S I) := by
  obtain ⟨ow, a, v, hO⟩ := h.op
  have hA := hO.aok
  have hM := hO.mrk
  unfold f_arm_28
  have bad : ∀ (X : Option (Int32 × II)) (Y : II → Option (Int32 × II)), X = f_X0_voice_J22 S a1 a2 a3 I → Y (EN I 1) = f_X9_voice_J17 FU (EN I 1) → Act n (bd2 X fun r1 I1 => bd2 (Y I1) fun r2 I2 => og (r1 = r2) <| some (S, I2)) := by
    intro X Y hX hY
    refine Act.of (arm2 (r := -1000001) (I1 := EN I 1) ?_ ?_) (hO.bad (e := 1))
    · rw [hX]
      unfold f_X0_voice_J22 f_X0_voice_J23 f_X0_voice_J116
      exact nbad hO.1 (by decide) (by decide)
    · rw [hY]
      unfold f_X9_voice_J17
      exact mbad2 (by decide) (by decide)
  rcases law_cases hO a1 with ⟨g1, g2⟩ | ⟨l, hl, rfl, g1, g2⟩
  · refine bad _ _ ?_ ?_
    · unfold f_X0_voice; rw [g1]; rfl
    · unfold f_X9_voice; rw [isLawEN, g2]; rfl
  · rcases in_cases a2 0 3 (by decide) (by decide) with ⟨h1, h2⟩ | ⟨c, -, hc, rfl, h1, h2⟩
    · refine bad _ _ ?_ ?_
      · unfold f_X0_voice; rw [g1, h1]; rfl
      · unfold f_X9_voice; rw [isLawEN, g2, h2]; rfl
    · have hk := (hA.2.2.2.2.1 l hl).1
      have h8 := hA.1
      have n7 : ∀ x, ow x ≠ 9 → x ≠ 7 := fun x hx => hM.ne hx (by decide) (by decide)
      have hV0 := hO.vn.kept (I' := up2 I 7 1 (nI 0)) (fun x hx => up2_n (n7 x hx))
      obtain ⟨-, -, -, hv, z1, -, -, -, -, ⟨al, b1, b2⟩, -⟩ := hV0
      obtain ⟨dm, ed, hD⟩ := lst_get b2 h8 hl
      have d9 : ow dm ≠ 9 := by rw [hD.2.1]; decide
      have hVO : VO S dm (aK a l) := ⟨hD.1, hk, hD.2.2.1, hM.ne d9 (by decide) (by decide), hM.ne d9 (by decide) (by decide)⟩
      have hVB : VB dm l (aP a l) (up2 I 7 1 (nI 0)) 0 := ⟨hD.2.2.2.1, hD.2.2.2.2.1, up2_eq⟩
      have hlen := len_a (l := l) (p := aP a l) (a := c) (x := a3) hk
      generalize ho : vAct (aK a l) l (aP a l) c a3 = o at hlen
      have hN : f_X0_voice S (nI l) (nI c) a3 I = some (o.1, bgN (up2 I 7 1 (nI 0)) 0 o.2) := by
        unfold f_X0_voice f_X0_voice_J23
        rw [g1, Option.bind_some, if_neg (by decide), h1, Option.bind_some, if_neg (by decide), ngood, orf_ok hv, ock_ok z1.r, orf_ok b1, ock_ok b2.1.r, ed, Option.bind_some, ockD_ok hD.1.r hk, bd2_id, bd2_id, bd2_id, bd2_id]
        subst ho
        have hcc : c = 0 ∨ c = 1 ∨ c = 2 ∨ c = 3 := by omega
        rcases hcc with rfl | rfl | rfl | rfl
        · rw [if_pos rfl]
          exact nBids hVO _ _ hVB (by have := len_b (l := l) (x := a3) hk; omega)
        · rw [if_neg (by decide), if_pos rfl]
          exact nBars hVO _ _ hVB (by have := len_r (l := l) (p := aP a l) (x := a3) hk; omega)
        · rw [if_neg (by decide), if_neg (by decide), if_pos rfl]
          exact nYl hVO _ _ hVB (by have := len_y (l := l) (p := aP a l) (x := a3) hk; omega)
        · rw [if_neg (by decide), if_neg (by decide), if_neg (by decide)]
          exact nStd hVO _ _ hVB (by have := len_s (l := l) (p := aP a l) (x := a3) hk; omega)
      generalize hI1 : bgN (up2 I 7 1 (nI 0)) 0 o.2 = I1 at hN
      have f1 : ∀ x, x ≠ 7 → x ≠ 8 → I1 x = I x := fun x x1 x2 => by rw [← hI1, bgN_x x1 x2, up2_n x1]
      have hMB : MB (aK a l) l (aP a l) (up2 (up2 I1 27 27 (nI 0)) 27 28 (nI l)) 0 := by
        refine ⟨up2_eq, ?_, ?_, ?_, by omega, hk⟩
        · rw [up2_n (by decide), up2_n (by decide), f1 28 (by decide) (by decide)]; exact (hO.row.2.2.2.2.1 l hl).1
        · rw [up2_n (by decide), up2_n (by decide), f1 28 (by decide) (by decide)]; exact (hO.row.2.2.2.2.1 l hl).2.1
        · rw [up2_ne (by decide), up2_eq]
      have hM2 : f_X9_voice FU (nI l) (nI c) a3 I1 = some (o.1, bgM (up2 (up2 I1 27 27 (nI 0)) 27 28 (nI l)) 0 o.2) := by
        have := MvAct (x := a3) hk (show c < 4 by omega) _ _ hMB (by rw [ho]; omega)
        rw [ho] at this
        unfold f_X9_voice
        rw [isLaw_congr (f1 28 (by decide) (by decide)), g2, Option.bind_some, if_neg (by decide), h2, Option.bind_some, if_neg (by decide), bd2_id]
        exact this
      have m0 : I1 7 1 = nI o.2.length := by rw [← hI1, bgN_m o.2 _ 0 up2_eq, Nat.zero_add]
      have m1 : ∀ k, k < o.2.length → I1 8 k = nI (o.2.getD k 0) := fun k hk => by
        have := bgN_at o.2 (up2 I 7 1 (nI 0)) 0 k hk
        rw [Nat.zero_add] at this
        rw [← hI1, this]
      refine Act.of (arm2 hN hM2) (hO.gen (a' := a) (by omega) (fun x x1 x2 x3 x4 x5 x6 x7 _ => ?_) ?_ (fun k hk => ?_) ⟨?_, o.2.length, by omega, ?_, fun k hk => ?_⟩ hA ?_ ?_)
      · unfold scr at x1
        rw [bgM_x (by omega) x6, up2_n (by omega), up2_n (by omega), f1 x x4 x5]
      · rw [bgM_27 (by decide), up2_ne (by decide), up2_ne (by decide), f1 27 (by decide) (by decide)]
      · rw [bgM_x (by decide) (by decide), bgM_x (by decide) (by decide), up2_n (by decide), up2_n (by decide), up2_n (by decide), up2_n (by decide), f1 21 (by decide) (by decide), f1 30 (by decide) (by decide)]
        exact hO.2.2.2.2.2.1 k hk
      · rw [bgM_x (by decide) (by decide), up2_n (by decide), up2_n (by decide), m0, bgM_m o.2 _ 0 hMB.2.2.2.1, Nat.zero_add]
      · rw [bgM_m o.2 _ 0 hMB.2.2.2.1, Nat.zero_add]
      · have := bgM_at o.2 (up2 (up2 I1 27 27 (nI 0)) 27 28 (nI l)) 0 k hk
        rw [Nat.zero_add] at this
        rw [this, bgM_x (by decide) (by decide), up2_n (by decide), up2_n (by decide), m1 k hk]
      · rw [bgM_x (by decide) (by decide), up2_n (by decide), up2_n (by decide), f1 28 (by decide) (by decide)]
        exact hO.row
      · refine hO.vn.2.2.2.2.kept (fun x hx => ?_)
        have hx9 : ow x ≠ 9 := by rcases hx with hx | hx <;> rw [hx] <;> decide
        rw [bgM_x (hM.ne hx9 (by decide) (by decide)) (hM.ne hx9 (by decide) (by decide)), up2_n (hM.ne hx9 (by decide) (by decide)), up2_n (hM.ne hx9 (by decide) (by decide)), f1 x (n7 x hx9) (hM.ne hx9 (by decide) (by decide))]
