/-! PLAIN SIDE: a block from a sheet -/
set_option maxRecDepth 100000
def isCh (x : Int32) : Bool := decide (f_X0_isChoice x = some (nI 1))
theorem isCh_cases (x : Int32) : (isCh x = false ∧ f_X0_isChoice x = some (nI 0) ∧ f_X9_isChoice x = some (nI 0)) ∨ (isCh x = true ∧ f_X0_isChoice x = some (nI 1) ∧ f_X9_isChoice x = some (nI 1) ∧ 1 ≤ x.toNatClampNeg ∧ x.toNatClampNeg ≤ 3 ∧ x = nI x.toNatClampNeg) := by
  rcases choice_cases x with ⟨h1, h2⟩ | ⟨c, c1, c3, rfl, h1, h2⟩
  · left
    refine ⟨?_, h1, h2⟩
    unfold isCh
    rw [h1]
    decide
  · right
    refine ⟨?_, h1, h2, ?_⟩
    · unfold isCh
      rw [h1]
      decide
    · have hc : c = 1 ∨ c = 2 ∨ c = 3 := by omega
      rcases hc with rfl | rfl | rfl <;> decide
theorem act_4 {n : Nat} {S : SH} {I : II} {a1 : Int32} (h : Inv n S I) : Act n (f_arm_4 FU a1 S I) := by
  obtain ⟨ow, a, v, hO⟩ := h.op
  have hM := hO.mrk
  have hA := hO.aok
  unfold f_arm_4
  rcases sheet_cases a1 with ⟨h1, h2⟩ | ⟨s, hs, rfl, h1, h2⟩
  · refine Act.of (arm2 (r := -1000001) (I1 := EN I 1) ?_ ?_) (hO.bad (e := 1))
    · unfold f_X0_block f_X0_block_J99
      rw [h1, Option.bind_some]
      exact nbad hO.1 (by decide) (by decide)
    · unfold f_X9_block
      rw [h2, Option.bind_some, if_pos (by decide)]
      exact mbad2 (by decide) (by decide)
  · rcases sheet_at hO.1 hs (hO.sht s hs) with ⟨e1, e2, -⟩ | ⟨q, w, r, m, e1, g1, hw, hq, hr, ha, hm, m40, g2, g3, g4⟩
    · refine Act.of (arm2 (r := -1000002) (I1 := EN I 2) ?_ ?_) (hO.bad (e := 2))
      · unfold f_X0_block f_X0_block_J99
        rw [h1, Option.bind_some, ngood, bd2_ok e1]
        exact ncaught hO.1 (by decide) (by decide)
      · unfold f_X9_block
        rw [h2, Option.bind_some, if_neg (by decide), oix_ok (j := s) rfl hs (by decide), EN_x (by decide) (by decide), if_pos e2]
        exact mbad2 (by decide) (by decide)
    · obtain ⟨mm, m1, m2, m3⟩ : ∃ mm, mm ≤ m ∧ mm ≤ 12 ∧ (if nI m < nI 12 then nI m else nI 12) = nI mm := by
        by_cases hh : m < 12
        · exact ⟨m, by omega, by omega, if_pos (nI_lt hh (by omega))⟩
        · exact ⟨12, by omega, by omega, if_neg (nI_nlt (by omega) (by omega))⟩
      obtain ⟨hS, -, -, hv, w1, w2, w3, w4, ⟨tl, t1, t2, t3, t4⟩, -⟩ := hO.vn
      have t9 : ow tl ≠ 9 := by rw [t3]; decide
      have ntr : r ≠ tl := fun e => by rw [e, t3] at hm; omega
      have n46 : tl ≠ 46 := hM.ne t9 (by decide) (by decide)
      have n28 : tl ≠ 28 := hM.ne t9 (by decide) (by decide)
      have lN : ∀ (d k z : Nat) (b : Bool), k + d = mm → d + 1 ≤ z → f_X0_block_L31 FU S q (nI mm) z (bI b) (nI k) I = f_X0_block_J59 FU S q (nI mm) (bI (b && alF (fun i => isCh (I 46 (40 * s + i))) k d)) I := by
        intro d
        induction d with
        | zero =>
          intro k z b hk hz
          obtain ⟨z, rfl⟩ := pred1 hz
          rw [f_X0_block_L31, if_pos (nI_le (by omega) (by omega)), alF, Bool.and_true]
        | succ d ih =>
          intro k z b hk hz
          obtain ⟨z, rfl⟩ := pred1 hz
          replace hz := Nat.le_of_succ_le_succ hz
          rw [f_X0_block_L31, if_neg (nI_ge (by omega) (by omega))]
          cases b with
          | false => rw [if_pos (by decide), Bool.false_and]
          | true =>
            rw [if_neg (by decide), get_ok hw hq hr ha m40 (by omega), Option.bind_some, g4 k (by omega), alF, Bool.true_and, nI_add]
            rcases isCh_cases (I 46 (40 * s + k)) with ⟨c1, c2, c3⟩ | ⟨c1, c2, c3, -⟩
            · rw [c2, c1, Option.bind_some]
              exact ih (k + 1) z false (by omega) hz
            · rw [c2, c1, Option.bind_some]
              exact ih (k + 1) z true (by omega) hz
      have lM : ∀ (I' : II), I' 46 = I 46 → ∀ (d k z : Nat), k + d = mm → d + 1 ≤ z → f_X9_block_L44 FU (nI s) (nI mm) z (nI k) I' = if alF (fun i => isCh (I 46 (40 * s + i))) k d = true then f_X9_block_L81 FU (nI s) (nI mm) FU (nI 0) I' else bd2 (f_X9_finding (-1000005) I') fun r69 I69 => some (r69, I69) := by
        intro I' e46 d
        induction d with
        | zero =>
          intro k z hk hz
          obtain ⟨z, rfl⟩ := pred1 hz
          rw [f_X9_block_L44, if_pos (nI_le (by omega) (by omega)), alF, if_pos rfl]
        | succ d ih =>
          intro k z hk hz
          obtain ⟨z, rfl⟩ := pred1 hz
          replace hz := Nat.le_of_succ_le_succ hz
          rw [f_X9_block_L44, if_neg (nI_ge (by omega) (by omega)), oix_ok (j := 40 * s + k) (by rw [pk_mul, nI_add]) (by omega) (by decide), e46, alF, nI_add]
          rcases isCh_cases (I 46 (40 * s + k)) with ⟨c1, c2, c3⟩ | ⟨c1, c2, c3, -⟩
          · rw [c3, c1, Option.bind_some, if_pos (by decide), Bool.false_and, if_neg (by decide)]
          · rw [c3, c1, Option.bind_some, if_neg (by decide), Bool.true_and]
            exact ih (k + 1) z (by omega) hz
      have hN : f_X0_block FU S (nI s) I = f_X0_block_J59 FU S q (nI mm) (bI (alF (fun i => isCh (I 46 (40 * s + i))) 0 mm)) I := by
        unfold f_X0_block
        rw [h1, Option.bind_some, ngood, bd2_ok e1, oexL, size_ok hw hq hr ha, Option.bind_some, m3]
        have := lN mm 0 FU true (by omega) (by have := FU5; omega)
        rw [Bool.true_and] at this
        exact this
      have hMM : ∀ I', I' 44 = I 44 → I' 45 = I 45 → I' 46 = I 46 → f_X9_block FU (nI s) I' = if alF (fun i => isCh (I 46 (40 * s + i))) 0 mm = true then f_X9_block_L81 FU (nI s) (nI mm) FU (nI 0) I' else bd2 (f_X9_finding (-1000005) I') fun r69 I69 => some (r69, I69) := by
        intro I' e44 e45 e46
        unfold f_X9_block
        rw [h2, Option.bind_some, if_neg (by decide), oix_ok (j := s) rfl hs (by decide), e44, g2, if_neg swd0, oix_ok (j := s) rfl hs (by decide), e45, g3, m3]
        exact lM I' e46 mm 0 FU (by omega) (by have := FU5; omega)
      cases hc : alF (fun i => isCh (I 46 (40 * s + i))) 0 mm with
      | false =>
        refine Act.of (arm2 (r := -1000005) (I1 := EN I 5) ?_ ?_) (hO.bad (e := 5))
        · rw [hN, hc]
          unfold f_X0_block_J59 f_X0_block_J99
          exact nbad hO.1 (by decide) (by decide)
        · rw [hMM _ (EN_x (by decide) (by decide)) (EN_x (by decide) (by decide)) (EN_x (by decide) (by decide)), hc, if_neg (by decide)]
          exact mbad2 (by decide) (by decide)
      | true =>
        have hall := (alF_iff _ _).mp hc
        have hz : ∀ k, k < mm → 1 ≤ (I 46 (40 * s + k)).toNatClampNeg ∧ (I 46 (40 * s + k)).toNatClampNeg ≤ 3 ∧ I 46 (40 * s + k) = nI (I 46 (40 * s + k)).toNatClampNeg := by
          intro k hk
          have h0 : isCh (I 46 (40 * s + k)) = true := hall k (by omega) (by omega)
          rcases isCh_cases (I 46 (40 * s + k)) with ⟨c1, -⟩ | ⟨-, -, -, c4⟩
          · rw [c1] at h0; cases h0
          · exact c4
        have cN : ∀ (d k z : Nat) (I3 : II), k + d = mm → d + 1 ≤ z → (∀ x, x ≠ tl → I3 x = I x) → (∀ j, j < k → I3 tl j = I 46 (40 * s + j)) → (∀ j, k ≤ j → I3 tl j = I tl j) → ∃ I4, f_X0_block_L69 FU S q (nI mm) z (nI k) I3 = some (nI mm, I4) ∧ (∀ x, x ≠ tl → I4 x = I x) ∧ (∀ j, j < mm → I4 tl j = I 46 (40 * s + j)) ∧ (∀ j, mm ≤ j → I4 tl j = I tl j) := by
          intro d
          induction d with
          | zero =>
            intro k z I3 hk hz k1 k2 k3
            obtain ⟨z, rfl⟩ := pred1 hz
            obtain rfl : k = mm := by omega
            refine ⟨I3, ?_, k1, k2, k3⟩
            rw [f_X0_block_L69, if_pos (nI_le (by omega) (by omega))]
          | succ d ih =>
            intro k z I3 hk hz k1 k2 k3
            obtain ⟨z, rfl⟩ := pred1 hz
            replace hz := Nat.le_of_succ_le_succ hz
            rw [f_X0_block_L69, if_neg (nI_ge (by omega) (by omega)), orf_ok hv, ock_ok w1.r, orf_ok t1, get_ok hw hq hr ha m40 (by omega), Option.bind_some, oarw_ok t2, oix_ok (j := k) rfl (by omega) (by decide), k1 r ntr, g4 k (by omega), nI_add]
            refine ih (k + 1) z _ (by omega) hz (fun x hx => by rw [up2_n hx]; exact k1 x hx) (fun j hj => ?_) (fun j hj => by rw [up2_ne (by omega)]; exact k3 j (by omega))
            by_cases e : j = k
            · subst e; exact up2_eq
            · rw [up2_ne e]; exact k2 j (by omega)
        obtain ⟨I1, u1, u2, u3, u4⟩ := cN mm 0 FU I (by omega) (by have := FU5; omega) (fun _ _ => rfl) (fun j hj => by omega) (fun _ _ => rfl)
        have cM : ∀ (d k z : Nat) (I3 : II), k + d = mm → d + 1 ≤ z → (∀ x, x ≠ 28 → I3 x = I1 x) → (∀ j, j < k → I3 28 (10 + j) = I 46 (40 * s + j)) → (∀ j, ¬ (10 ≤ j ∧ j < 10 + k) → I3 28 j = I1 28 j) → ∃ I4, f_X9_block_L81 FU (nI s) (nI mm) z (nI k) I3 = some (nI mm, I4) ∧ (∀ x, x ≠ 28 → I4 x = I1 x) ∧ (∀ j, j < mm → I4 28 (10 + j) = I 46 (40 * s + j)) ∧ (∀ j, ¬ (10 ≤ j ∧ j < 10 + mm) → I4 28 j = I1 28 j) := by
          intro d
          induction d with
          | zero =>
            intro k z I3 hk hz k1 k2 k3
            obtain ⟨z, rfl⟩ := pred1 hz
            obtain rfl : k = mm := by omega
            refine ⟨I3, ?_, k1, k2, k3⟩
            rw [f_X9_block_L81, if_pos (nI_le (by omega) (by omega))]
          | succ d ih =>
            intro k z I3 hk hz k1 k2 k3
            obtain ⟨z, rfl⟩ := pred1 hz
            replace hz := Nat.le_of_succ_le_succ hz
            rw [f_X9_block_L81, if_neg (nI_ge (by omega) (by omega)), oix_ok (j := 40 * s + k) (by rw [pk_mul, nI_add]) (by omega) (by decide), oix_ok (j := 10 + k) (by rw [nI_add]) (by omega) (by decide), k1 46 (by decide), u2 46 n46.symm, nI_add]
            refine ih (k + 1) z _ (by omega) hz (fun x hx => by rw [up2_n hx]; exact k1 x hx) (fun j hj => ?_) (fun j hj => by rw [up2_ne (by omega)]; exact k3 j (by omega))
            by_cases e : j = k
            · subst e; exact up2_eq
            · rw [up2_ne (by omega)]; exact k2 j (by omega)
        obtain ⟨I2, v1, v2, v3, v4⟩ := cM mm 0 FU I1 (by omega) (by have := FU5; omega) (fun _ _ => rfl) (fun j hj => by omega) (fun _ _ => rfl)
        refine Act.of (arm2 (r := nI mm) (I1 := I1) (I2 := I2) ?_ ?_) (hO.told (R := fun h => if h < mm then (I 46 (40 * s + h)).toNatClampNeg else aR a h) (by omega) (fun j hj => ?_) t1 t3 (fun x x1 x2 x3 => by rw [v2 x x2, u2 x x3]) ?_ ?_ (fun k hk => ?_) (fun j hj => ?_) (fun j hj => ?_))
        · rw [hN, hc]
          unfold f_X0_block_J59
          rw [bI_t, ngood]
          exact u1
        · rw [hMM I1 (u2 44 (hM.ne t9 (by decide) (by decide)).symm) (u2 45 (hM.ne t9 (by decide) (by decide)).symm) (u2 46 n46.symm), hc, if_pos rfl]
          exact v1
        · show 1 ≤ (if j < mm then (I 46 (40 * s + j)).toNatClampNeg else aR a j) ∧ (if j < mm then (I 46 (40 * s + j)).toNatClampNeg else aR a j) ≤ 3
          split
          · rename_i hj2; exact ⟨(hz j hj2).1, (hz j hj2).2.1⟩
          · exact hA.2.2.2.1 j hj
        · rw [v2 27 (by decide), u2 27 (hM.ne t9 (by decide) (by decide)).symm]
        · rw [v2 27 (by decide), u2 27 (hM.ne t9 (by decide) (by decide)).symm]
        · rw [v4 k (by omega), u2 28 n28.symm]
        · show I2 28 (10 + j) = nI (if j < mm then (I 46 (40 * s + j)).toNatClampNeg else aR a j)
          split
          · rename_i hj2; rw [v3 j hj2]; exact (hz j hj2).2.2
          · rw [v4 (10 + j) (by omega), u2 28 n28.symm]; exact hO.row.2.2.2.1 j hj
        · show I2 tl j = nI (if j < mm then (I 46 (40 * s + j)).toNatClampNeg else aR a j)
          rw [v2 tl n28]
          split
          · rename_i hj2; rw [u3 j hj2]; exact (hz j hj2).2.2
          · rw [u4 j (by omega)]; exact t4 j hj
