/-! PLAIN SIDE: act 32, its numbers -/
set_option maxRecDepth 100000
theorem i64t {x : Nat} (h : x < 2 ^ 31) : (Int32.toInt64 (nI x)).toInt = x := by
  rw [Int32.toInt_toInt64, nI_toInt h]
theorem i64a {p c : Nat} (hp : p < 2 ^ 31) (hc : c < 2 ^ 31) : (Int32.toInt64 (nI p) + Int32.toInt64 (nI c)).toInt = (p : Int) + c := by
  rw [Int64.toInt_add, i64t hp, i64t hc]
  exact Int.bmod_eq_of_le (by omega) (by omega)
theorem lc1 {p c m : Nat} (hp : p < 2 ^ 31) (hc : c < 2 ^ 31) (hm : m < 2 ^ 31) : (0 < lg_cmp (Int32.toInt64 (nI p) + Int32.toInt64 (nI c)) (Int32.toInt64 (nI m))) ↔ m < p + c := by
  rw [lg_cmp_gt, Int64.lt_iff_toInt_lt, i64a hp hc, i64t hm]
  omega
theorem lc2 {p c m : Nat} (hp : p < 2 ^ 31) (hc : c < 2 ^ 31) (hm : m < 2 ^ 31) : (lg_cmp (Int32.toInt64 (nI p) + Int32.toInt64 (nI c)) (Int32.toInt64 (nI m)) ≤ 0) ↔ p + c ≤ m := by
  rw [lg_cmp_le, Int64.le_iff_toInt_le, i64a hp hc, i64t hm]
  omega
theorem lcN {p c m : Nat} (hp : p < 2 ^ 31) (hc : c < 2 ^ 31) (hm : m ≤ 40) : (nI m - nI c < nI p) ↔ m < p + c := by
  rw [Int32.lt_iff_toInt_lt, Int32.toInt_sub, nI_toInt (by omega), nI_toInt hc, nI_toInt hp, Int.bmod_eq_of_le (by omega) (by omega)]
  omega
/-- a copy of a sheet's row -/
theorem row_ok {S : SH} {I : II} {q w r m : Nat} (hS : stN S) (hl : S.1 + 2 < exA) (hw : w < 3) (h : obw S q (24 + w)) (hr : S.2.2 q 0 = some r) (ha : arw S r (skd w) m) (hm : m ≤ 40) : ∃ I4, v_X24_row FU S q I = some (S.1, newS S 100 m, I4) ∧ (∀ x, x ≠ S.1 → I4 x = I x) ∧ ∀ k, k < m → I4 S.1 k = I r k := by
  have h27 : 27 ≤ S.1 := hS.1
  have xA : exA = 1000000000 := rfl
  have hq1 : q < S.1 := h.1
  have hr1 : r < S.1 := ha.1
  have g : Grw S (newS S 100 m) := ⟨Nat.le_succ _, fun x hx => nS_k (show x ≠ S.1 by omega), fun x k hx _ _ _ _ => by rw [nS_f (show x ≠ S.1 by omega)]⟩
  have hS' := stN_grow hS g
  have h' : obw (newS S 100 m) q (24 + w) := ⟨Nat.lt_succ_of_lt h.1, by rw [nS_k (by omega)]; exact h.2⟩
  have hr' : (newS S 100 m).2.2 q 0 = some r := by rw [nS_f (by omega)]; exact hr
  have ha' : arw (newS S 100 m) r (skd w) m := ⟨Nat.lt_succ_of_lt ha.1, by rw [nS_k (by omega)]; exact ha.2⟩
  have hn : arw (newS S 100 m) S.1 100 m := ⟨Nat.lt_succ_self _, nS_kn⟩
  have loop : ∀ (d k z : Nat) (I3 : II), k + d = m → d + 1 ≤ z → (∀ x, x ≠ S.1 → I3 x = I x) → (∀ j, j < k → I3 S.1 j = I r j) → ∃ I4, f_X24_row_L9 FU q S.1 z (nI k) (newS S 100 m) I3 = some (S.1, newS S 100 m, I4) ∧ (∀ x, x ≠ S.1 → I4 x = I x) ∧ ∀ k, k < m → I4 S.1 k = I r k := by
    intro d
    induction d with
    | zero =>
      intro k z I3 hk hz k1 k2
      obtain ⟨z, rfl⟩ := pred1 hz
      obtain rfl : k = m := by omega
      refine ⟨I3, ?_, k1, k2⟩
      rw [f_X24_row_L9, oar_ok hn.r, if_pos (nI_le (Nat.le_refl _) (by omega))]
    | succ d ih =>
      intro k z I3 hk hz k1 k2
      obtain ⟨z, rfl⟩ := pred1 hz
      replace hz := Nat.le_of_succ_le_succ hz
      rw [f_X24_row_L9, oar_ok hn.r, if_neg (nI_ge (by omega) (by omega)), ost_ok hS', get_ok hw h' hr' ha' hm (by omega), Option.bind_some, oarw_ok hn, oix_ok (j := k) rfl (by omega) (by omega), nI_add]
      refine ih (k + 1) z _ (by omega) hz (fun x hx => by rw [up2_n hx]; exact k1 x hx) (fun j hj => ?_)
      by_cases e : j = k
      · subst e; rw [up2_eq, k1 r (by omega)]
      · rw [up2_ne e]; exact k2 j (by omega)
  obtain ⟨I4, e4, k4, k5⟩ := loop m 0 FU (newI S I) (by omega) (by have := FU5; omega) (fun x hx => nI_x hx) (fun j hj => by omega)
  refine ⟨I4, ?_, k4, k5⟩
  have hrow : f_X24_row FU S q I = some (S.1, newS S 100 m, I4) := by
    unfold f_X24_row
    rw [ost_ok hS, size_ok hw h hr ha, Option.bind_some, onl_ok (by omega), onw_ok (by omega), e4]
    exact omn3_ok (omn3_ok rfl (Nat.le_refl _)) (Nat.le_succ _)
  unfold v_X24_row
  rw [og_ok (Or.inl h.1), h.2, hrow]
  rcases w3 hw with rfl | rfl | rfl
  · rw [if_pos rfl]
  · rw [if_neg (by decide), if_pos rfl]
  · rw [if_neg (by decide), if_neg (by decide), if_pos rfl]
theorem width_ok {S : SH} {I : II} {q w : Nat} (hw : w < 3) (h : obw S q (24 + w)) : v_X24_width S q I = some (nI (swd w)) := by
  unfold v_X24_width
  rw [og_ok (Or.inl h.1), h.2]
  rcases w3 hw with rfl | rfl | rfl
  · rw [if_pos rfl]; rfl
  · rw [if_neg (by decide), if_pos rfl]; rfl
  · rw [if_neg (by decide), if_neg (by decide), if_pos rfl]; rfl
/-- a finding thrown below, in an act that may make the heap grow -/
theorem ncaught3 {sh : SH} {I : II} {e : Nat} {x : Int32} (hS : stN sh) (he : e < 6) (hx : (-1000000) - nI e = x) : (ock sh 1 1 <| ost sh <| bd2 (f_X0_finds sh 1 (up2 I 1 6 (nI e))) fun r I'' => some (r, sh, I'')) = some (x, sh, EN I e) := by
  have h := nbad3 (I := I) (A := fun _ _ => none) hS he hx
  rw [ost_ok hS] at h
  unfold f_X0_need f_X1_of at h
  rw [if_pos (by decide), bd2_ok rfl, og_ok rfl, bd2_ok rfl] at h
  exact h
