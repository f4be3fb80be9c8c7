/-! PLAIN SIDE: act 6, feeding the tape -/
set_option maxRecDepth 100000
theorem b255 : ∀ i, i < 64 → (255 : Int64).toBitVec.getLsbD i = decide (i < 8) := by decide
theorem fd1 (y : Int64) : Int64.toInt32 (y &&& 255) = nI (y.toBitVec.toNat % 256) := by
  apply Int32.toBitVec_inj.1
  apply BitVec.eq_of_getLsbD_eq
  intro i hi
  have e1 : (nI (y.toBitVec.toNat % 256)).toBitVec.getLsbD i = (y.toBitVec.toNat % 256).testBit i := bvb _ i hi
  rw [e1, Int64.toBitVec_toInt32, BitVec.getLsbD_signExtend, Int64.toBitVec_and, BitVec.getLsbD_and, b255 i (by omega), show 256 = 2 ^ 8 from rfl, Nat.testBit_mod_two_pow]
  simp only [hi, decide_true, Bool.true_and, show i < 64 by omega, if_true]
  rw [Bool.and_comm]
  rfl
theorem fd2 (y : Int64) : Int32.toInt8 (Int64.toInt32 y) = Int32.toInt8 (nI (y.toBitVec.toNat % 256)) := by
  apply Int8.toBitVec_inj.1
  apply BitVec.eq_of_getLsbD_eq
  intro i hi
  have e1 : (nI (y.toBitVec.toNat % 256)).toBitVec.getLsbD i = (y.toBitVec.toNat % 256).testBit i := bvb _ i (by omega)
  rw [Int32.toBitVec_toInt8, Int32.toBitVec_toInt8, BitVec.getLsbD_signExtend, BitVec.getLsbD_signExtend, e1, Int64.toBitVec_toInt32, BitVec.getLsbD_signExtend, show 256 = 2 ^ 8 from rfl, Nat.testBit_mod_two_pow]
  simp only [hi, decide_true, Bool.true_and, show i < 64 by omega, show i < 32 by omega, if_true]
  rfl
/-- byte k of a long -/
def byt (x : Int64) (k : Nat) : Nat := (x >>> (Int32.toInt64 (nI 8 * nI k) &&& 63)).toBitVec.toNat % 256
theorem byt_lt {x : Int64} {k : Nat} : byt x k < 256 := Nat.mod_lt _ (by decide)
theorem act_6 {n : Nat} {S : SH} {I : II} {a1 a2 a3 : Int32} (h : Inv n S I) : Act n (f_arm_6 FU a1 a2 a3 S I) := by
  obtain ⟨ow, a, v, hO⟩ := h.op
  have hA := hO.aok
  have F5 := FU5
  obtain ⟨hS, hM, -, hv, w1, w2, w3, w4, ⟨tl, t1, t2, t3, t4⟩, ⟨al, b1, b2⟩, ⟨tp, c1, c2, c3, c4⟩, wl, y1, y2, y3, y4⟩ := hO.vn
  have hT := hA.2.1
  unfold f_arm_6
  generalize ((Int32.toInt64 a1) <<< (Int32.toInt64 (nI 32) &&& 63)) ||| ((Int32.toInt64 a2) &&& (4294967295)) = x
  rcases in_cases a3 1 8 (by decide) (by decide) with ⟨h1, h2⟩ | ⟨m, m1, m8, rfl, h1, h2⟩
  · refine Act.of (arm2 (r := -1000001) (I1 := EN I 1) ?_ ?_) (hO.bad (e := 1))
    · unfold f_X0_feed f_X0_feed_J96
      rw [h1, Option.bind_some]
      exact nbad hO.1 (by decide) (by decide)
    · unfold f_X9_feed
      rw [h2, Option.bind_some, if_pos (by decide)]
      exact mbad2 (by decide) (by decide)
  · by_cases h50 : 50 < aT a + m
    · refine Act.of (arm2 (r := -1000004) (I1 := EN I 4) ?_ ?_) (hO.bad (e := 4))
      · unfold f_X0_feed
        rw [h1, Option.bind_some, ngood, orf_ok hv, ock_ok w1.r, w3, nI_add, if_pos (nI_lt h50 (by omega))]
        unfold f_X0_feed_J32 f_X0_feed_J96
        exact nbad hO.1 (by decide) (by decide)
      · unfold f_X9_feed
        rw [h2, Option.bind_some, if_neg (by decide), oix_ok (j := 1) rfl (by decide) (by decide), EN_x (by decide) (by decide), hO.row.2.1, nI_add, if_neg (nI_ge h50 (by omega))]
        exact mbad2 (by decide) (by decide)
    · have v9 : ow v ≠ 9 := by rw [w2]; decide
      have p9 : ow tp ≠ 9 := by rw [c3]; decide
      have lo : ∀ b, b < 48 → ¬ (2 ≤ b ∧ b ≤ 6) → b ≠ v ∧ b ≠ tp := fun b b1 b2 => ⟨(hM.ne v9 b1 b2).symm, (hM.ne p9 b1 b2).symm⟩
      have nvp : tp ≠ v := fun e => by
        have q1 := c2.2
        have q2 := w1.2
        rw [← e, q1] at q2
        cases q2
      have lN : ∀ (d k q : Nat) (I3 : II), k + d = m → d + 1 ≤ q → (∀ z, z ≠ v → z ≠ tp → I3 z = I z) → I3 v 3 = nI (aT a + k) → (∀ j, j ≠ 3 → I3 v j = I v j) → (∀ j, I3 tp j = if aT a ≤ j ∧ j < aT a + k then Int8.toInt32 (Int32.toInt8 (nI (byt x (j - aT a)))) else I tp j) → ∃ I4, f_X0_feed_L39 FU S x (nI m) q (nI k) I3 = some (nI (aT a + m), I4) ∧ (∀ z, z ≠ v → z ≠ tp → I4 z = I z) ∧ I4 v 3 = nI (aT a + m) ∧ (∀ j, j ≠ 3 → I4 v j = I v j) ∧ ∀ j, I4 tp j = if aT a ≤ j ∧ j < aT a + m then Int8.toInt32 (Int32.toInt8 (nI (byt x (j - aT a)))) else I tp j := by
        intro d
        induction d with
        | zero =>
          intro k q I3 hk hq k1 k2 k3 k4
          obtain ⟨q, rfl⟩ := pred1 hq
          obtain rfl : k = m := by omega
          refine ⟨I3, ?_, k1, k2, k3, k4⟩
          rw [f_X0_feed_L39, if_pos (nI_le (Nat.le_refl _) (by omega)), orf_ok hv, ock_ok w1.r, k2]
        | succ d ih =>
          intro k q I3 hk hq k1 k2 k3 k4
          obtain ⟨q, rfl⟩ := pred1 hq
          replace hq := Nat.le_of_succ_le_succ hq
          rw [f_X0_feed_L39, if_neg (nI_ge (by omega) (by omega)), orf_ok hv, ock_ok w1.r, orf_ok c1, orf_ok hv, ock_ok w1.r, oarw_ok c2, oix_ok (j := aT a + k) k2 (by omega) (by decide), orf_ok hv, ock_ok w1.r, ockw_ok w1, up2_n nvp.symm, k2, nI_add, nI_add, fd2]
          refine ih (k + 1) q _ (by omega) hq (fun z z1 z2 => by rw [up2_n z1, up2_n z2]; exact k1 z z1 z2) (by rw [up2_eq, Nat.add_assoc]) (fun j hj => by rw [up2_ne hj, up2_n nvp.symm]; exact k3 j hj) (fun j => ?_)
          rw [up2_n nvp]
          by_cases e : j = aT a + k
          · subst e
            rw [up2_eq, if_pos (by omega), Nat.add_sub_cancel_left]
            rfl
          · rw [up2_ne e, k4 j]
            by_cases e2 : aT a ≤ j ∧ j < aT a + k
            · rw [if_pos e2, if_pos (by omega)]
            · rw [if_neg e2, if_neg (by omega)]
      obtain ⟨I1, e1, k1, k2, k3, k4⟩ := lN m 0 FU I (by omega) (by omega) (fun _ _ _ => rfl) w3 (fun _ _ => rfl) (fun j => by rw [if_neg (by omega)])
      have l28 := lo 28 (by decide) (by decide)
      have k28 : I1 28 = I 28 := k1 28 l28.1 l28.2
      have lM : ∀ (d k q : Nat) (I3 : II), k + d = m → d + 1 ≤ q → (∀ z, z ≠ 28 → I3 z = I1 z) → I3 28 1 = nI (aT a + k) → (∀ j, j ≠ 1 → ¬ (40 ≤ j ∧ j < 90) → I3 28 j = I 28 j) → (∀ j, j < 50 → I3 28 (40 + j) = if aT a ≤ j ∧ j < aT a + k then nI (byt x (j - aT a)) else I 28 (40 + j)) → ∃ I4, f_X9_feed_L40 FU x (nI m) q (nI k) I3 = some (nI (aT a + m), I4) ∧ (∀ z, z ≠ 28 → I4 z = I1 z) ∧ I4 28 1 = nI (aT a + m) ∧ (∀ j, j ≠ 1 → ¬ (40 ≤ j ∧ j < 90) → I4 28 j = I 28 j) ∧ ∀ j, j < 50 → I4 28 (40 + j) = if aT a ≤ j ∧ j < aT a + m then nI (byt x (j - aT a)) else I 28 (40 + j) := by
        intro d
        induction d with
        | zero =>
          intro k q I3 hk hq g1 g2 g3 g4
          obtain ⟨q, rfl⟩ := pred1 hq
          obtain rfl : k = m := by omega
          refine ⟨I3, ?_, g1, g2, g3, g4⟩
          rw [f_X9_feed_L40, if_pos (nI_le (Nat.le_refl _) (by omega)), oix_ok (j := 1) rfl (by decide) (by decide), g2]
        | succ d ih =>
          intro k q I3 hk hq g1 g2 g3 g4
          obtain ⟨q, rfl⟩ := pred1 hq
          replace hq := Nat.le_of_succ_le_succ hq
          rw [f_X9_feed_L40, if_neg (nI_ge (by omega) (by omega)), oix_ok (j := 1) rfl (by decide) (by decide), oix_ok (j := 40 + (aT a + k)) (by rw [g2, nI_add]) (by omega) (by decide), oix_ok (j := 1) rfl (by decide) (by decide), oix_ok (j := 1) rfl (by decide) (by decide), up2_ne (show 1 ≠ 40 + (aT a + k) by omega), g2, nI_add, nI_add, fd1]
          refine ih (k + 1) q _ (by omega) hq (fun z z1 => by rw [up2_n z1, up2_n z1]; exact g1 z z1) (by rw [up2_eq, Nat.add_assoc]) (fun j hj hj2 => by rw [up2_ne hj, up2_ne (by omega)]; exact g3 j hj hj2) (fun j hj => ?_)
          rw [up2_ne (by omega)]
          by_cases e : j = aT a + k
          · subst e
            rw [up2_eq, if_pos (by omega), Nat.add_sub_cancel_left]
            rfl
          · rw [up2_ne (by omega), g4 j hj]
            by_cases e2 : aT a ≤ j ∧ j < aT a + k
            · rw [if_pos e2, if_pos (by omega)]
            · rw [if_neg e2, if_neg (by omega)]
      have R0 := hO.row
      obtain ⟨I2, e2, q1, q2, q3, q4⟩ := lM m 0 FU I1 (by omega) (by omega) (fun _ _ => rfl) (by rw [k28]; exact R0.2.1) (fun j _ _ => by rw [k28]) (fun j _ => by rw [k28, if_neg (by omega)])
      have m28 : ∀ z, ow z = 1 → z ≠ 28 := fun z hz => hM.ne (by rw [hz]; decide) (by decide) (by decide)
      have nk : ∀ z (p : Nat × Nat), S.2.1 z = p → p.1 ≠ 2 → p ≠ (101, 50) → z ≠ v ∧ z ≠ tp := fun z p hp hq hq2 => ⟨fun e => hq (by rw [← hp, e]; exact w1.2), fun e => hq2 (by rw [← hp, e]; exact c2.2)⟩
      have ktl := nk tl _ t2.2 (by decide) (by decide)
      have kwl := nk wl _ y2.2 (by decide) (by decide)
      have l27 := lo 27 (by decide) (by decide)
      have l21 := lo 21 (by decide) (by decide)
      have l30 := lo 30 (by decide) (by decide)
      refine Act.of (arm2 (r := nI (aT a + m)) (I1 := I1) (I2 := I2) ?_ ?_) (hO.re (T := aT a + m) (W := aW a) (R := aR a) (B := fun j => if aT a ≤ j ∧ j < aT a + m then byt x (j - aT a) else aB a j) (V' := aV a) (by omega) t1 c1 y1 (fun z _ _ _ z4 z5 _ z7 _ => by rw [q1 z z4, k1 z z5 z7]) ?_ ?_ (fun k hk => ?_) ⟨by omega, hA.2.2.1, hA.2.2.2.1, fun k hk => ?_⟩ (fun k hk => ?_) q2 ?_ (fun z hz => ?_) (fun z hz => ?_) (fun z hz => ?_) ?_ ?_ (fun z hz => ?_) (fun z hz => ?_) (fun z hz => ?_))
      · unfold f_X0_feed
        rw [h1, Option.bind_some, ngood, orf_ok hv, ock_ok w1.r, w3, nI_add, if_neg (nI_nlt (by omega) (by omega))]
        unfold f_X0_feed_J32
        rw [ngood]
        exact e1
      · unfold f_X9_feed
        rw [h2, Option.bind_some, if_neg (by decide), oix_ok (j := 1) rfl (by decide) (by decide), k28, R0.2.1, nI_add, if_pos (nI_le (by omega) (by omega))]
        exact e2
      · rw [q1 27 (by decide), k1 27 l27.1 l27.2]
      · rw [q1 27 (by decide), k1 27 l27.1 l27.2]
      · rw [q1 21 (by decide), q1 30 (by decide), k1 21 l21.1 l21.2, k1 30 l30.1 l30.2]
        exact hO.2.2.2.2.2.1 k hk
      · show (if aT a ≤ k ∧ k < aT a + m then byt x (k - aT a) else aB a k) < 256
        split
        · exact byt_lt
        · exact hA.2.2.2.2.2 k hk
      · exact q3 k (by omega) (by omega)
      · rw [q3 2 (by omega) (by omega)]; exact R0.2.2.1
      · rw [q3 _ (by omega) (by omega)]; exact R0.2.2.2.1 z hz
      · rw [q4 z hz]
        show _ = nI (if aT a ≤ z ∧ z < aT a + m then byt x (z - aT a) else aB a z)
        split
        · rfl
        · exact R0.2.2.2.2.2.1 z hz
      · rw [q3 _ (by omega) (by omega)]; exact R0.2.2.2.2.2.2 z hz
      · rw [q1 v (m28 v w2), k2]
      · rw [q1 v (m28 v w2), k3 5 (by decide)]; exact w4
      · rw [q1 tl (m28 tl t3), k1 tl ktl.1 ktl.2]; exact t4 z hz
      · rw [q1 tp (m28 tp c3), k4 z]
        show _ = Int8.toInt32 (Int32.toInt8 (nI (if aT a ≤ z ∧ z < aT a + m then byt x (z - aT a) else aB a z)))
        split
        · rfl
        · exact c4 z hz
      · rw [q1 wl (m28 wl y3), k1 wl kwl.1 kwl.2]; exact y4 z hz
