/-! PLAIN SIDE: new cells; a sheet laid down -/
set_option maxRecDepth 100000
theorem nS_k {sh : SH} {t q x : Nat} (h : x ≠ sh.1) : (newS sh t q).2.1 x = sh.2.1 x := if_neg h
theorem nS_kn {sh : SH} {t q : Nat} : (newS sh t q).2.1 sh.1 = (t, q) := if_pos rfl
theorem nS_f {sh : SH} {t q x : Nat} (h : x ≠ sh.1) : (newS sh t q).2.2 x = sh.2.2 x := if_neg h
theorem nS_fn {sh : SH} {t q : Nat} : (newS sh t q).2.2 sh.1 = fun _ => none := if_pos rfl
theorem nI_x {sh : SH} {I : II} {x : Nat} (h : x ≠ sh.1) : newI sh I x = I x := if_neg h
theorem nI_n {sh : SH} {I : II} : newI sh I sh.1 = fun _ => 0 := if_pos rfl
theorem sR_n {sh : SH} {a k x : Nat} {o : Option Nat} (h : x ≠ a) : (shR sh a k o).2.2 x = sh.2.2 x := if_neg h
theorem sR_s {sh : SH} {a k : Nat} {o : Option Nat} : (shR sh a k o).2.2 a k = o := by
  show (if a = a then va_up (sh.2.2 a) k o else sh.2.2 a) k = o
  rw [if_pos rfl]
  exact va_up_self _ _ _
theorem sR_j {sh : SH} {a k j : Nat} {o : Option Nat} (h : j ≠ k) : (shR sh a k o).2.2 a j = sh.2.2 a j := by
  show (if a = a then va_up (sh.2.2 a) k o else sh.2.2 a) j = _
  rw [if_pos rfl]
  exact va_up_ne _ _ h
theorem onl_ok {β : Type} {m : Nat} {f : Nat → Option β} (h : m ≤ 200) : onl (nI m) f = f m := by
  unfold onl
  rw [nI_clamp (by omega), if_neg]
  rintro (h1 | h1)
  · exact nI_pos (by omega) h1
  · omega
/-- the sheets' cells are given anew, the heap may have grown -/
theorem InvO.grow2 {n n' : Nat} {sh sh' : SH} {I I' : II} {ow ow' : Nat → Nat} {a : AS} {v : Nat} (h : InvO n sh I ow a v) (hn : n ≤ n') (g : Grw sh sh') (hl : sh'.1 ≤ 48 + 300 * n') (e : ∀ x, (x < sh.1 ∨ exA ≤ x) → ¬ scr x → x ≠ 44 → x ≠ 45 → x ≠ 46 → ¬ (10 ≤ ow x ∧ ow x < 14) → I' x = I x) (e2 : I' 27 2 = I 27 2) (e3 : I' 27 27 = I 27 27) (f1 : sh'.2.2 0 = sh.2.2 0) (f2 : ∀ x, x < sh.1 → ow x < 3 → sh'.2.2 x = sh.2.2 x) (fo : ∀ x, (x < sh.1 ∨ exA ≤ x) → ow' x = ow x) (hs : ∀ s, s < 4 → Sht sh' I' ow' s) : InvO n' sh' I' ow' a v := by
  obtain ⟨h1, h2, h3, h4, h5, h6, h7, h8, h9, h10, h11, h12, h13, im, i1, i2, i3, i4⟩ := h
  have h48 : 47 < sh.1 := h2.2.2.2.2.2.2.2.2.2.2.2.2.2.2.2.2.2.2.2.2.2.2.2.2.2.2.2.2.2.2.2.2.2.2.2.2.2.2.2.2.1
  have lo : ∀ x, x < 48 → ¬ (2 ≤ x ∧ x ≤ 6) → ¬ scr x → x ≠ 44 → x ≠ 45 → x ≠ 46 → I' x = I x := fun x a1 a2 a3 a4 a5 a6 => e x (by omega) a3 a4 a5 a6 (by rw [h8.1 x a1 a2]; decide)
  have mk : ∀ x, x < sh.1 → ow x < 3 → I' x = I x := by
    intro x hl hx
    have hb : ∀ b, b < 48 → ¬ (2 ≤ b ∧ b ≤ 6) → x ≠ b := fun b b1 b2 => h8.ne (by omega) b1 b2
    refine e x (Or.inl hl) (fun hs => ?_) (hb 44 (by decide) (by decide)) (hb 45 (by decide) (by decide)) (hb 46 (by decide) (by decide)) (by omega)
    unfold scr at hs
    exact hb x (by omega) (by omega) rfl
  have l0 : ∀ x, (x = 0 ∨ x = 7 ∨ x = 8 ∨ x = 21 ∨ (28 ≤ x ∧ x ≤ 34) ∨ x = 43) → I' x = I x := fun x hx => lo x (by omega) (by omega) (by unfold scr; omega) (by omega) (by omega) (by omega)
  have xA : exA = 1000000000 := rfl
  refine ⟨stN_grow h1 g, StM_grow h2 g, hl, h4.grow g (fun x hx hx2 => e x (Or.inr hx) (by unfold scr; omega) (by omega) (by omega) (by omega) (by rw [h8.2 x hx]; decide)), h5.of (l0 _ (by omega)) (l0 _ (by omega)) (l0 _ (by omega)) (l0 _ (by omega)), ?_, ?_, ⟨fun x x1 x2 => by rw [fo x (by omega)]; exact h8.1 x x1 x2, fun x hx => by rw [fo x (Or.inr hx)]; exact h8.2 x hx⟩, h9, ?_, by rw [f1]; exact h11, h12.grow h9 g.1 (fun x x1 x2 => ⟨g.k (Or.inl x1), f2 x x1 (by omega), mk x x1 (by omega), fo x (Or.inl x1)⟩), hs, im, by omega, ?_, by rw [e2]; exact i3, ?_⟩
  · rw [l0 21 (by omega), l0 30 (by omega)]; exact h6
  · rw [l0 7 (by omega), l0 8 (by omega), l0 43 (by omega), e3]; exact h7
  · rw [l0 28 (by omega)]; exact h10
  · rw [l0 0 (by omega)]; exact i2
  · rw [f1]
    rcases i4 with i4 | ⟨i4, b, w, j1, j2, j3, j4⟩
    · exact Or.inl i4
    · exact Or.inr ⟨i4, b, w, j1, by rw [l0 29 (by omega)]; exact j2, j3, j4.grow j1 g.1 (fun x x1 x2 => ⟨g.k (Or.inl x1), f2 x x1 (by omega), mk x x1 (by omega), fo x (Or.inl x1)⟩)⟩
theorem Act.of3 {n : Nat} {x : Option (SH × II)} {S : SH} {I : II} {ow : Nat → Nat} {a : AS} {v : Nat} (hI : InvO (n + 1) S I ow a v) (h : x = some (S, I)) : Act n x := ⟨S, I, h, hI.cl⟩
theorem sheetM {I : II} {s : Nat} {y z : Int32} (hs : s < 4) : ∃ I4, (oix (nI s) 4 fun i75 => f_X9_sheet_J90 FU (nI s) (nI s) z (up2 I 44 i75 y)) = some (nI 1, I4) ∧ (∀ x, x ≠ 44 → x ≠ 45 → x ≠ 46 → I4 x = I x) ∧ (∀ j, I4 44 j = if j = s then y else I 44 j) ∧ (∀ j, I4 45 j = if j = s then z else I 45 j) ∧ ∀ j, I4 46 j = if 40 * s ≤ j ∧ j < 40 * s + 40 then 0 else I 46 j := by
  have loop : ∀ (d k q : Nat) (I3 : II), k + d = 40 → d + 1 ≤ q → ∃ I4, f_X9_sheet_L94 FU (nI s) q (nI k) I3 = some (nI 1, I4) ∧ (∀ x, x ≠ 46 → I4 x = I3 x) ∧ ∀ j, I4 46 j = if 40 * s + k ≤ j ∧ j < 40 * s + 40 then 0 else I3 46 j := by
    intro d
    induction d with
    | zero =>
      intro k q I3 hk hq
      obtain ⟨q, rfl⟩ := pred1 hq
      refine ⟨I3, ?_, fun _ _ => rfl, fun j => by rw [if_neg (by omega)]⟩
      rw [f_X9_sheet_L94, if_pos (nI_le (by omega) (by omega))]
    | succ d ih =>
      intro k q I3 hk hq
      obtain ⟨q, rfl⟩ := pred1 hq
      replace hq := Nat.le_of_succ_le_succ hq
      rw [f_X9_sheet_L94, if_neg (nI_ge (by omega) (by omega)), oix_ok (j := 40 * s + k) (by rw [pk_mul, nI_add]) (by omega) (by decide), nI_add]
      obtain ⟨I4, a1, a2, a3⟩ := ih (k + 1) q (up2 I3 46 (40 * s + k) (nI 0)) (by omega) hq
      refine ⟨I4, a1, fun x hx => by rw [a2 x hx, up2_n hx], fun j => ?_⟩
      rw [a3 j]
      by_cases e : j = 40 * s + k
      · subst e; rw [if_neg (by omega), if_pos (by omega), up2_eq]; rfl
      · rw [up2_ne e]
        by_cases e2 : 40 * s + k ≤ j ∧ j < 40 * s + 40
        · rw [if_pos (by omega), if_pos e2]
        · rw [if_neg (by omega), if_neg e2]
  obtain ⟨I4, a1, a2, a3⟩ := loop 40 0 FU (up2 (up2 I 44 s y) 45 s z) (by omega) (by have := FU5; omega)
  refine ⟨I4, ?_, fun x x1 x2 x3 => by rw [a2 x x3, up2_n x2, up2_n x1], fun j => ?_, fun j => ?_, fun j => ?_⟩
  · rw [oix_ok (j := s) rfl hs (by decide)]
    unfold f_X9_sheet_J90
    rw [oix_ok (j := s) rfl hs (by decide)]
    exact a1
  · rw [a2 44 (by decide), up2_n (by decide), up2_at]; simp
  · rw [a2 45 (by decide), up2_at, up2_n (show (45 : Nat) ≠ 44 by decide)]; simp
  · rw [a3 j, up2_n (show (46 : Nat) ≠ 45 by decide), up2_n (show (46 : Nat) ≠ 44 by decide)]; rfl
/-- a sheet laid down: the heap -/
def shS (S : SH) (s w m : Nat) : SH := shR (shR (newS (newS S (24 + w) 0) (skd w) m) S.1 0 (some (S.1 + 1))) (23 + s) 0 (some S.1)
theorem shS_grw {S : SH} {s w m : Nat} (hS : stN S) (hl : S.1 + 2 < exA) (hs : s < 4) : Grw S (shS S s w m) := by
  have h27 : 27 ≤ S.1 := hS.1
  refine ⟨Nat.le_trans (Nat.le_succ _) (Nat.le_succ _), fun x hx => ?_, fun x k hx h0 h1 _ _ => ?_⟩
  · show (newS (newS S (24 + w) 0) (skd w) m).2.1 x = _
    rw [nS_k (show x ≠ S.1 + 1 by omega), nS_k (show x ≠ S.1 by omega)]
  · unfold shS
    by_cases e : x = 23 + s
    · subst e
      rw [sR_j (by omega), sR_n (by omega), nS_f (show 23 + s ≠ S.1 + 1 by omega), nS_f (show 23 + s ≠ S.1 by omega)]
    · rw [sR_n e, sR_n (show x ≠ S.1 by omega), nS_f (show x ≠ S.1 + 1 by omega), nS_f (show x ≠ S.1 by omega)]
theorem shN {S : SH} {I : II} {s w m : Nat} (hS : stN S) (hl : S.1 + 2 < exA) (hs : s < 4) (hw : w < 3) (hm : m ≤ 40) : f_X0_sheet_J70 (nI s) (nI (swd w)) (nI m) (nI 1) S I = some (nI 1, shS S s w m, newI (newS S (24 + w) 0) (newI S I)) := by
  have h27 : 27 ≤ S.1 := hS.1
  have xA : exA = 1000000000 := rfl
  obtain ⟨e1, e2⟩ := st22 hS hs
  unfold f_X0_sheet_J70
  rw [ngood3 hS, oix_ok (j := s) rfl hs (by decide), orf_ok e1]
  have h9 : ∀ t, obw (shR (newS (newS S (24 + w) 0) t m) S.1 0 (some (S.1 + 1))) (23 + s) 9 := fun t => ⟨show 23 + s < S.1 + 1 + 1 by omega, by
    show ((newS (newS S (24 + w) 0) t m).2.1 (23 + s)).1 = 9
    rw [nS_k (show 23 + s ≠ S.1 + 1 by omega), nS_k (show 23 + s ≠ S.1 by omega)]
    exact e2.2⟩
  have h24 : ∀ t, obw (newS (newS S (24 + w) 0) t m) S.1 (24 + w) := fun t => ⟨show S.1 < S.1 + 1 + 1 by omega, by
    rw [nS_k (show S.1 ≠ S.1 + 1 by omega), nS_kn]⟩
  rcases w3 hw with rfl | rfl | rfl
  · rw [if_pos (show nI (swd 0) = nI 8 from rfl), onw_ok (by omega)]
    have hi : f_X25_init (newS S 24 0) S.1 (nI m) (newI S I) = some (shR (newS (newS S 24 0) 101 m) S.1 0 (some (S.1 + 1)), newI (newS S 24 0) (newI S I)) := by
      unfold f_X25_init f_X24_init
      rw [Option.bind_some, onl_ok (by omega), onw_ok (show S.1 + 1 < exA by omega), ockw_ok (h24 101)]
      exact omn2_ok (omn2_ok rfl (Nat.le_refl _)) (Nat.le_succ _)
    rw [bd2_ok hi, og_ok (show S.1 + 1 ≤ (shR (newS (newS S 24 0) 101 m) S.1 0 (some (S.1 + 1))).1 from Nat.le_succ _)]
    unfold f_X0_sheet_J122
    rw [ockw_ok (h9 101)]
    exact omn3_ok (omn3_ok rfl (Nat.le_refl _)) (Nat.le_succ _)
  · rw [if_neg (by decide), if_pos (show nI (swd 1) = nI 16 from rfl), onw_ok (by omega)]
    have hi : f_X26_init (newS S 25 0) S.1 (nI m) (newI S I) = some (shR (newS (newS S 25 0) 102 m) S.1 0 (some (S.1 + 1)), newI (newS S 25 0) (newI S I)) := by
      unfold f_X26_init f_X24_init
      rw [Option.bind_some, onl_ok (by omega), onw_ok (show S.1 + 1 < exA by omega), ockw_ok (h24 102)]
      exact omn2_ok (omn2_ok rfl (Nat.le_refl _)) (Nat.le_succ _)
    rw [bd2_ok hi, og_ok (show S.1 + 1 ≤ (shR (newS (newS S 25 0) 102 m) S.1 0 (some (S.1 + 1))).1 from Nat.le_succ _)]
    unfold f_X0_sheet_J122
    rw [ockw_ok (h9 102)]
    exact omn3_ok (omn3_ok rfl (Nat.le_refl _)) (Nat.le_succ _)
  · rw [if_neg (by decide), if_neg (by decide), onw_ok (by omega)]
    have hi : f_X27_init (newS S 26 0) S.1 (nI m) (newI S I) = some (shR (newS (newS S 26 0) 100 m) S.1 0 (some (S.1 + 1)), newI (newS S 26 0) (newI S I)) := by
      unfold f_X27_init f_X24_init
      rw [Option.bind_some, onl_ok (by omega), onw_ok (show S.1 + 1 < exA by omega), ockw_ok (h24 100)]
      exact omn2_ok (omn2_ok rfl (Nat.le_refl _)) (Nat.le_succ _)
    rw [bd2_ok hi, og_ok (show S.1 + 1 ≤ (shR (newS (newS S 26 0) 100 m) S.1 0 (some (S.1 + 1))).1 from Nat.le_succ _)]
    unfold f_X0_sheet_J122
    rw [ockw_ok (h9 100)]
    exact omn3_ok (omn3_ok rfl (Nat.le_refl _)) (Nat.le_succ _)
