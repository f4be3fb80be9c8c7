/-! PLAIN SIDE: how an act leaves all that holds -/
set_option maxRecDepth 100000
/-- cells of which nothing is kept from act to act -/
def scr (x : Nat) : Prop := x = 1 ∨ (9 ≤ x ∧ x ≤ 11) ∨ (13 ≤ x ∧ x ≤ 20) ∨ x = 27 ∨ (35 ≤ x ∧ x ≤ 42) ∨ x = 47
def InvO (n : Nat) (sh : SH) (I : II) (ow : Nat → Nat) (a : AS) (v : Nat) : Prop := stN sh ∧ StM sh ∧ sh.1 ≤ 48 + 300 * n ∧ Out sh I ∧ Tab I ∧ (∀ k, k < 6 → I 21 k = I 30 k) ∧ (I 7 1 = I 27 27 ∧ ∃ m, m ≤ 40 ∧ I 27 27 = nI m ∧ ∀ k, k < m → I 8 k = I 43 k) ∧ Mrk ow ∧ AOK a ∧ RowIs (I 28) a ∧ sh.2.2 0 1 = some v ∧ Vil sh I ow 1 a v ∧ (∀ s, s < 4 → Sht sh I ow s) ∧
  ∃ im : Nat, im ≤ n ∧ I 0 3 = nI im ∧ I 27 2 = nI im ∧ ((im = 0 ∧ sh.2.2 0 2 = none) ∨ (0 < im ∧ ∃ (b : AS) (w : Nat), AOK b ∧ RowIs (I 29) b ∧ sh.2.2 0 2 = some w ∧ Vil sh I ow 2 b w))
theorem Inv.op {n : Nat} {sh : SH} {I : II} (h : Inv n sh I) : ∃ ow a v, InvO n sh I ow a v := by
  obtain ⟨h1, h2, h3, h4, h5, h6, h7, ow, a, v, h8, h9, h10, h11, h12, h13, h14⟩ := h
  exact ⟨ow, a, v, h1, h2, h3, h4, h5, h6, h7, h8, h9, h10, h11, h12, h13, h14⟩
theorem InvO.cl {n : Nat} {sh : SH} {I : II} {ow : Nat → Nat} {a : AS} {v : Nat} (h : InvO n sh I ow a v) : Inv n sh I := by
  obtain ⟨h1, h2, h3, h4, h5, h6, h7, h8, h9, h10, h11, h12, h13, h14⟩ := h
  exact ⟨h1, h2, h3, h4, h5, h6, h7, ow, a, v, h8, h9, h10, h11, h12, h13, h14⟩
theorem InvO.vn {n : Nat} {sh : SH} {I : II} {ow : Nat → Nat} {a : AS} {v : Nat} (h : InvO n sh I ow a v) : VN sh I ow a v := ⟨h.1, h.2.2.2.2.2.2.2.1, h.2.2.2.2.2.2.2.2.1, h.2.2.2.2.2.2.2.2.2.2.1, h.2.2.2.2.2.2.2.2.2.2.2.1⟩
theorem InvO.row {n : Nat} {sh : SH} {I : II} {ow : Nat → Nat} {a : AS} {v : Nat} (h : InvO n sh I ow a v) : RowIs (I 28) a := h.2.2.2.2.2.2.2.2.2.1
theorem InvO.aok {n : Nat} {sh : SH} {I : II} {ow : Nat → Nat} {a : AS} {v : Nat} (h : InvO n sh I ow a v) : AOK a := h.2.2.2.2.2.2.2.2.1
theorem InvO.tab {n : Nat} {sh : SH} {I : II} {ow : Nat → Nat} {a : AS} {v : Nat} (h : InvO n sh I ow a v) : Tab I := h.2.2.2.2.1
theorem InvO.mrk {n : Nat} {sh : SH} {I : II} {ow : Nat → Nat} {a : AS} {v : Nat} (h : InvO n sh I ow a v) : Mrk ow := h.2.2.2.2.2.2.2.1
theorem Sht.kept {sh : SH} {I I' : II} {ow : Nat → Nat} {s : Nat} (h : Sht sh I ow s) (hs : s < 4) (e : ∀ x, ow x = 10 + s → I' x = I x) (e1 : I' 44 = I 44) (e2 : I' 45 = I 45) (e3 : I' 46 = I 46) : Sht sh I' ow s := by
  rcases h with ⟨h1, h2, h3⟩ | ⟨q, w, r, n, h1, h2, h3, h4, h5, h6, h7, h8, h9, h10⟩
  · exact Or.inl ⟨h1, by rw [e1]; exact h2, by rw [e2]; exact h3⟩
  · exact Or.inr ⟨q, w, r, n, h1, h2, h3, h4, h5, h6, h7, by rw [e1]; exact h8, by rw [e2]; exact h9, fun k hk => by rw [e r h6, e3]; exact h10 k hk⟩
theorem InvO.gen {n n' : Nat} {sh : SH} {I I' : II} {ow : Nat → Nat} {a a' : AS} {v : Nat} (h : InvO n sh I ow a v) (hn : n ≤ n') (e : ∀ x, ¬ scr x → x ≠ 21 → x ≠ 30 → x ≠ 7 → x ≠ 8 → x ≠ 43 → x ≠ 28 → ow x ≠ 1 → I' x = I x) (e2 : I' 27 2 = I 27 2) (he : ∀ k, k < 6 → I' 21 k = I' 30 k) (ht : I' 7 1 = I' 27 27 ∧ ∃ m, m ≤ 40 ∧ I' 27 27 = nI m ∧ ∀ k, k < m → I' 8 k = I' 43 k) (hA : AOK a') (hR : RowIs (I' 28) a') (hV : Vil sh I' ow 1 a' v) : InvO n' sh I' ow a' v := by
  obtain ⟨h1, h2, h3, h4, h5, h6, h7, h8, h9, h10, h11, h12, h13, im, i1, i2, i3, i4⟩ := h
  have nsc : ∀ x, ow x ≠ 9 → ow x ≠ 1 → I' x = I x := by
    intro x hx hx1
    have hb : ∀ b, b < 48 → ¬ (2 ≤ b ∧ b ≤ 6) → x ≠ b := fun b b1 b2 => h8.ne hx b1 b2
    refine e x (fun hs => ?_) (hb 21 (by decide) (by decide)) (hb 30 (by decide) (by decide)) (hb 7 (by decide) (by decide)) (hb 8 (by decide) (by decide)) (hb 43 (by decide) (by decide)) (hb 28 (by decide) (by decide)) hx1
    unfold scr at hs
    exact hb x (by omega) (by omega) rfl
  have lo : ∀ x, x < 48 → ¬ (2 ≤ x ∧ x ≤ 6) → ¬ scr x → x ≠ 21 → x ≠ 30 → x ≠ 7 → x ≠ 8 → x ≠ 43 → x ≠ 28 → I' x = I x := fun x a1 a2 a3 a4 a5 a6 a7 a8 a9 => e x a3 a4 a5 a6 a7 a8 a9 (by rw [h8.1 x a1 a2]; decide)
  have xA : exA = 1000000000 := rfl
  have hout : Out sh I' := ⟨h4.1, fun x hx => ⟨(h4.2.1 x hx).1, fun hx2 => by
    rw [e x (by unfold scr; omega) (by omega) (by omega) (by omega) (by omega) (by omega) (by omega) (by rw [h8.2 x hx]; decide)]
    exact (h4.2.1 x hx).2 hx2⟩, h4.2.2⟩
  refine ⟨h1, h2, by omega, hout, h5.of (lo _ (by decide) (by decide) (by unfold scr; decide) (by decide) (by decide) (by decide) (by decide) (by decide) (by decide)) (lo _ (by decide) (by decide) (by unfold scr; decide) (by decide) (by decide) (by decide) (by decide) (by decide) (by decide)) (lo _ (by decide) (by decide) (by unfold scr; decide) (by decide) (by decide) (by decide) (by decide) (by decide) (by decide)) (lo _ (by decide) (by decide) (by unfold scr; decide) (by decide) (by decide) (by decide) (by decide) (by decide) (by decide)), he, ht, h8, hA, hR, h11, hV, fun s hs => (h13 s hs).kept hs (fun x hx => nsc x (by omega) (by omega)) (lo _ (by decide) (by decide) (by unfold scr; decide) (by decide) (by decide) (by decide) (by decide) (by decide) (by decide)) (lo _ (by decide) (by decide) (by unfold scr; decide) (by decide) (by decide) (by decide) (by decide) (by decide) (by decide)) (lo _ (by decide) (by decide) (by unfold scr; decide) (by decide) (by decide) (by decide) (by decide) (by decide) (by decide)), im, by omega, ?_, by rw [e2]; exact i3, ?_⟩
  · rw [lo 0 (by decide) (by decide) (by unfold scr; decide) (by decide) (by decide) (by decide) (by decide) (by decide) (by decide)]
    exact i2
  · rcases i4 with i4 | ⟨i4, b, w, j1, j2, j3, j4⟩
    · exact Or.inl i4
    · refine Or.inr ⟨i4, b, w, j1, ?_, j3, j4.kept (fun x hx => nsc x (by rcases hx with hx | hx <;> rw [hx] <;> decide) (by rcases hx with hx | hx <;> rw [hx] <;> decide))⟩
      rw [lo 29 (by decide) (by decide) (by unfold scr; decide) (by decide) (by decide) (by decide) (by decide) (by decide) (by decide)]
      exact j2
/-- nothing but scratch and counts of findings is changed -/
theorem InvO.err {n n' : Nat} {sh : SH} {I I' : II} {ow : Nat → Nat} {a : AS} {v : Nat} (h : InvO n sh I ow a v) (hn : n ≤ n') (e : ∀ x, ¬ scr x → x ≠ 21 → x ≠ 30 → I' x = I x) (e2 : I' 27 2 = I 27 2) (e3 : I' 27 27 = I 27 27) (he : ∀ k, k < 6 → I' 21 k = I' 30 k) : InvO n' sh I' ow a v := by
  have hM := h.mrk
  refine h.gen hn (fun x a1 a2 a3 _ _ _ _ _ => e x a1 a2 a3) e2 he ?_ h.aok ?_ ?_
  · obtain ⟨q1, m, q2, q3, q4⟩ := h.2.2.2.2.2.2.1
    rw [e 7 (by unfold scr; decide) (by decide) (by decide), e 8 (by unfold scr; decide) (by decide) (by decide), e 43 (by unfold scr; decide) (by decide) (by decide), e3]
    exact ⟨q1, m, q2, q3, q4⟩
  · rw [e 28 (by unfold scr; decide) (by decide) (by decide)]
    exact h.row
  · refine h.2.2.2.2.2.2.2.2.2.2.2.1.kept (fun x hx => ?_)
    have hx9 : ow x ≠ 9 := by rcases hx with hx | hx <;> rw [hx] <;> decide
    refine e x (fun hs => ?_) (hM.ne hx9 (by decide) (by decide)) (hM.ne hx9 (by decide) (by decide))
    unfold scr at hs
    exact hM.ne hx9 (b := x) (by omega) (by omega) rfl
/-- nothing but scratch is changed -/
theorem InvO.sc {n n' : Nat} {sh : SH} {I I' : II} {ow : Nat → Nat} {a : AS} {v : Nat} (h : InvO n sh I ow a v) (hn : n ≤ n') (e : ∀ x, ¬ scr x → I' x = I x) (e2 : I' 27 2 = I 27 2) (e3 : I' 27 27 = I 27 27) : InvO n' sh I' ow a v := h.err hn (fun x hx _ _ => e x hx) e2 e3 (fun k hk => by rw [e 21 (by unfold scr; decide), e 30 (by unfold scr; decide)]; exact h.2.2.2.2.2.1 k hk)
/-! findings -/
def EN (I : II) (e : Nat) : II := up2 (up2 I 1 6 (nI e)) 21 e (I 21 e + nI 1)
def EM (I : II) (e : Nat) : II := up2 I 30 e (I 30 e + nI 1)
theorem EN_x {I : II} {e x : Nat} (h1 : x ≠ 1) (h2 : x ≠ 21) : EN I e x = I x := by
  unfold EN
  rw [up2_n h2, up2_n h1]
theorem EM_x {I : II} {e x : Nat} (h : x ≠ 30) : EM I e x = I x := up2_n h
theorem EN_21 {I : II} {e k : Nat} : EN I e 21 k = if k = e then I 21 e + nI 1 else I 21 k := by
  unfold EN
  rw [up2_at]
  simp [up2_n]
theorem EM_30 {I : II} {e k : Nat} : EM I e 30 k = if k = e then I 30 e + nI 1 else I 30 k := by
  unfold EM
  rw [up2_at]
  simp
theorem nbad {sh : SH} {I : II} {e : Nat} {x : Int32} (hS : stN sh) (he : e < 6) (hx : (-1000000) - nI e = x) {A : II → Unit → Option (Int32 × II)} : bd2 (f_X0_need sh (nI 0) (nI e) I) (fun u I' => oex u (A I') (fun w => ock sh w 1 <| bd2 (f_X0_finds sh w I') fun r I'' => some (r, I''))) = some (x, EN I e) := by
  have h1 : obw sh 1 1 := stN_o1 hS
  rw [← hx]
  unfold f_X0_need f_X1_of
  rw [if_pos (by decide), bd2_ok rfl, og_ok rfl, bd2_ok rfl]
  show (ock sh 1 1 <| bd2 (f_X0_finds sh 1 (up2 I 1 6 (nI e))) fun r I'' => some (r, I'')) = _
  unfold f_X0_finds
  rw [ock_ok h1.r, ock_ok h1.r, up2_eq, oix_ok (j := e) rfl he (by decide), oix_ok (j := e) rfl he (by decide), bd2_ok rfl, up2_n (show (1 : Nat) ≠ 21 by decide), up2_eq, up2_n (show (21 : Nat) ≠ 1 by decide)]
  rfl
theorem ngood {sh : SH} {I : II} {e : Int32} {β : Type} {A : II → Unit → Option β} {B : II → Nat → Option β} : bd2 (f_X0_need sh (nI 1) e I) (fun u I' => oex u (A I') (B I')) = A I () := by
  unfold f_X0_need
  rw [if_neg (by decide)]
  rfl
theorem mbad {I : II} {e : Nat} {x : Int32} (he : e < 6) (hx : (-1000000) - x = nI e) : f_X9_finding x I = some (x, EM I e) := by
  unfold f_X9_finding
  rw [hx, oix_ok (j := e) rfl he (by decide), oix_ok (j := e) rfl he (by decide)]
  rfl
theorem mbad2 {I : II} {e : Nat} {x : Int32} (he : e < 6) (hx : (-1000000) - x = nI e) : bd2 (f_X9_finding x I) (fun r I' => some (r, I')) = some (x, EM I e) := by rw [bd2_ok (mbad he hx)]
theorem arm2 {ρ : Type} [DecidableEq ρ] {X : Option (ρ × II)} {Y : II → Option (ρ × II)} {r : ρ} {I1 I2 : II} {S : SH} (h1 : X = some (r, I1)) (h2 : Y I1 = some (r, I2)) : bd2 X (fun r1 I1 => bd2 (Y I1) fun r2 I2 => og (r1 = r2) <| some (S, I2)) = some (S, I2) := by
  rw [bd2_ok h1, bd2_ok h2, og_ok rfl]
/-- what every act must show -/
def Act (n : Nat) (x : Option (SH × II)) : Prop := ∃ S I, x = some (S, I) ∧ Inv (n + 1) S I
theorem Act.of {n : Nat} {x : Option (SH × II)} {S : SH} {I : II} {ow : Nat → Nat} {a : AS} {v : Nat} (h : x = some (S, I)) (hI : InvO (n + 1) S I ow a v) : Act n x := ⟨S, I, h, hI.cl⟩
/-- both find the same, at once -/
theorem InvO.bad {n : Nat} {sh : SH} {I : II} {ow : Nat → Nat} {a : AS} {v e : Nat} (h : InvO n sh I ow a v) : InvO (n + 1) sh (EM (EN I e) e) ow a v := by
  refine h.err (by omega) (fun x x1 x2 x3 => ?_) ?_ ?_ (fun k hk => ?_)
  · rw [EM_x x3, EN_x (fun e => x1 (Or.inl e)) x2]
  · rw [EM_x (by decide), EN_x (by decide) (by decide)]
  · rw [EM_x (by decide), EN_x (by decide) (by decide)]
  · rw [EM_x (by decide), EN_21, EM_30, EN_x (by decide) (by decide)]
    have h6 := h.2.2.2.2.2.1
    by_cases e1 : k = e
    · subst e1
      rw [if_pos rfl, if_pos rfl, h6 k hk]
    · rw [if_neg e1, if_neg e1, h6 k hk]
