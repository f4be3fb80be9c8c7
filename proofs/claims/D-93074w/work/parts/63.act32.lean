/-! PLAIN SIDE: act 32 -/
set_option maxRecDepth 100000
theorem narrow {S : SH} {I : II} {ow : Nat → Nat} {s q w r m : Nat} (h : Sht S I ow s) (h1 : S.2.2 (23 + s) 0 = some q) (h2 : obw S q (24 + w)) (h3 : S.2.2 q 0 = some r) (h4 : arw S r (skd w) m) : ∀ k, k < m → cut w (I r k) = I r k := by
  rcases h with ⟨g1, -⟩ | ⟨q', w', r', n', g1, g2, g3, g4, g5, g6, g7, g8, g9, g10⟩
  · rw [h1] at g1; cases g1
  · rw [h1] at g1; cases g1
    rw [h3] at g4; cases g4
    have e : w' = w := by have z := g3.2; rw [h2.2] at z; omega
    subst e
    have e2 : n' = m := by have z := g5.2; rw [h4.2] at z; exact (Prod.mk.inj z).2.symm
    subst e2
    exact fun k hk => (g10 k hk).2
theorem swd_inj {w w' : Nat} (h : w < 3) (h' : w' < 3) : nI (swd w) = nI (swd w') ↔ w = w' := by
  rcases w3 h with rfl | rfl | rfl <;> rcases w3 h' with rfl | rfl | rfl <;> decide
/-- the reference's move -/
theorem moveM {I : II} {s t p b c : Nat} (hs : s < 4) (ht : t < 4) (hp : p + c ≤ 40) (hb : b + c ≤ 40) : ∃ I2, f_X9_move_L127 FU (nI s) (nI p) (nI t) (nI b) (nI c) FU (nI 0) I = some (nI c, I2) ∧ (∀ x, x ≠ 46 → x ≠ 47 → I2 x = I x) ∧ ∀ j, I2 46 j = if 40 * t + b ≤ j ∧ j < 40 * t + b + c then I 46 (40 * s + p + (j - (40 * t + b))) else I 46 j := by
  have F5 := FU5
  have l2 : ∀ (I0 : II) (d k z : Nat) (I3 : II), k + d = c → d + 1 ≤ z → (∀ x, x ≠ 46 → I3 x = I0 x) → (∀ j, I3 46 j = if 40 * t + b ≤ j ∧ j < 40 * t + b + k then I0 47 (j - (40 * t + b)) else I0 46 j) → ∃ I2, f_X9_move_L164 FU (nI t) (nI b) (nI c) z (nI k) I3 = some (nI c, I2) ∧ (∀ x, x ≠ 46 → I2 x = I0 x) ∧ ∀ j, I2 46 j = if 40 * t + b ≤ j ∧ j < 40 * t + b + c then I0 47 (j - (40 * t + b)) else I0 46 j := by
    intro I0 d
    induction d with
    | zero =>
      intro k z I3 hk hz k1 k2
      obtain ⟨z, rfl⟩ := pred1 hz
      obtain rfl : k = c := by omega
      refine ⟨I3, ?_, k1, k2⟩
      rw [f_X9_move_L164, if_pos (nI_le (Nat.le_refl _) (by omega))]
    | succ d ih =>
      intro k z I3 hk hz k1 k2
      obtain ⟨z, rfl⟩ := pred1 hz
      replace hz := Nat.le_of_succ_le_succ hz
      rw [f_X9_move_L164, if_neg (nI_ge (by omega) (by omega)), oix_ok (j := k) rfl (by omega) (by decide), oix_ok (j := 40 * t + b + k) (by rw [pk_mul, nI_add, nI_add]) (by omega) (by decide), k1 47 (by decide), nI_add]
      refine ih (k + 1) z _ (by omega) hz (fun x hx => by rw [up2_n hx]; exact k1 x hx) (fun j => ?_)
      by_cases e : j = 40 * t + b + k
      · subst e; rw [up2_eq, if_pos (by omega), Nat.add_sub_cancel_left]
      · rw [up2_ne e, k2 j]
        by_cases e2 : 40 * t + b ≤ j ∧ j < 40 * t + b + k
        · rw [if_pos e2, if_pos (by omega)]
        · rw [if_neg e2, if_neg (by omega)]
  have l1 : ∀ (d k z : Nat) (I3 : II), k + d = c → d + 1 ≤ z → (∀ x, x ≠ 47 → I3 x = I x) → (∀ j, j < k → I3 47 j = I 46 (40 * s + p + j)) → ∃ I4, f_X9_move_L127 FU (nI s) (nI p) (nI t) (nI b) (nI c) z (nI k) I3 = f_X9_move_L164 FU (nI t) (nI b) (nI c) FU (nI 0) I4 ∧ (∀ x, x ≠ 47 → I4 x = I x) ∧ ∀ j, j < c → I4 47 j = I 46 (40 * s + p + j) := by
    intro d
    induction d with
    | zero =>
      intro k z I3 hk hz k1 k2
      obtain ⟨z, rfl⟩ := pred1 hz
      obtain rfl : k = c := by omega
      refine ⟨I3, ?_, k1, k2⟩
      rw [f_X9_move_L127, if_pos (nI_le (Nat.le_refl _) (by omega))]
    | succ d ih =>
      intro k z I3 hk hz k1 k2
      obtain ⟨z, rfl⟩ := pred1 hz
      replace hz := Nat.le_of_succ_le_succ hz
      rw [f_X9_move_L127, if_neg (nI_ge (by omega) (by omega)), oix_ok (j := 40 * s + p + k) (by rw [pk_mul, nI_add, nI_add]) (by omega) (by decide), oix_ok (j := k) rfl (by omega) (by decide), k1 46 (by decide), nI_add]
      refine ih (k + 1) z _ (by omega) hz (fun x hx => by rw [up2_n hx]; exact k1 x hx) (fun j hj => ?_)
      by_cases e : j = k
      · subst e; exact up2_eq
      · rw [up2_ne e]; exact k2 j (by omega)
  obtain ⟨I4, e4, k4, k5⟩ := l1 c 0 FU I (by omega) (by omega) (fun _ _ => rfl) (fun j hj => by omega)
  obtain ⟨I2, e2, q1, q2⟩ := l2 I4 c 0 FU I4 (by omega) (by omega) (fun _ _ => rfl) (fun j => by rw [if_neg (by omega)])
  refine ⟨I2, e4.trans e2, fun x x1 x2 => by rw [q1 x x1, k4 x x2], fun j => ?_⟩
  rw [q2 j, k4 46 (by decide)]
  by_cases e : 40 * t + b ≤ j ∧ j < 40 * t + b + c
  · rw [if_pos e, if_pos e, k5 _ (by omega)]
  · rw [if_neg e, if_neg e]
