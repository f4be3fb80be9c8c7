/-! PLAIN SIDE: checking steps that are told -/
set_option maxRecDepth 100000
theorem in_sub {p n : Nat} (hp : p < 2 ^ 31) (hn : n < 2 ^ 31) : f_X0_in (nI p) (nI 0) (nI n - nI 1) = some (bI (decide (p < n))) := by
  unfold f_X0_in
  rw [if_neg (nI_nlt (by omega) hp)]
  by_cases h0 : n = 0
  · subst h0
    have h2 : nI 0 - nI 1 < nI p := by
      have e1 : (nI 0 - nI 1).toInt = -1 := by decide
      rw [Int32.lt_iff_toInt_lt, e1, nI_toInt hp]
      omega
    rw [if_pos h2]
    simp
    rfl
  · rw [pk_sub (by omega)]
    by_cases h : p < n
    · rw [if_neg (nI_nlt (by omega) (by omega))]
      simp [h]
      rfl
    · rw [if_pos (nI_lt (by omega) hp)]
      simp [h]
      rfl
theorem nlaw_ok {S : SH} {I : II} {ow : Nat → Nat} {a : AS} {v p : Nat} (hV : VN S I ow a v) (hp : p < 2 ^ 31) : f_X0_isLaw S (nI p) I = some (bI (decide (p < aN a))) := by
  have h8 := hV.2.2.1.1
  obtain ⟨-, -, -, hv, z1, -, -, -, -, ⟨al, b1, b2⟩, -⟩ := hV
  unfold f_X0_isLaw
  rw [orf_ok hv, ock_ok z1.r, orf_ok b1, ock_ok b2.1.r, lst_size b2, Option.bind_some, in_sub hp (by omega), Option.bind_some, og_ok (bI_01 _)]
theorem mlaw_ok {I : II} {a : AS} {p : Nat} (hR : RowIs (I 28) a) (h8 : aN a ≤ 8) (hp : p < 2 ^ 31) : f_X9_isLaw (nI p) I = some (bI (decide (p < aN a))) := by
  unfold f_X9_isLaw
  rw [oix_ok (j := 0) rfl (by decide) (by decide), hR.1]
  have h := in_sub hp (show aN a < 2 ^ 31 by omega)
  have h' : f_X9_within (nI p) (nI 0) (nI (aN a) - nI 1) = some (bI (decide (p < aN a))) := h
  rw [h', Option.bind_some, og_ok (bI_01 _)]
def fo1 (a : AS) (l h c : Nat) (L : Nat → Nat) (i : Nat) : Bool := (decide (hCa a l i = h) && !goF a l i false L c) || (prd (aK a l) && (decide (kCa a l i = h) && !goF a l i true L c))
def folF (a : AS) (l h c : Nat) (L : Nat → Nat) : Nat → Nat → Bool
  | 0, _ => false
  | d + 1, i => fo1 a l h c L i || folF a l h c L d (i + 1)
theorem nfollows_ok {sh : SH} {I : II} {ow : Nat → Nat} {t : Nat} {a : AS} {l dm h c : Nat} {L : Nat → Nat} (hD : Dem sh I ow t a l dm) (hA : AOK a) (hl : l < aN a) (hh : h < 12) (c1 : 1 ≤ c) (c3 : c ≤ 3) (hL : ∀ h, h < 12 → I 19 h = nI (L h) ∧ L h < 16) : f_X7_follows FU sh dm (nI h) (nI c) I = some (bI (folF a l h c L (cN (aK a l)) 0 && (L h).testBit c)) := by
  have F5 := FU5
  have hk := (hA.2.2.2.2.1 l hl).1
  have hcN := (cN_le _ hk).1
  obtain ⟨x1, x2, x3, x4, x5, cl, x6, hC⟩ := id hD
  obtain ⟨y1, y2, y3, ff, ss, gg, y4, y5, y6, y7, y8, y9, o1, o2, o3, y10⟩ := id hC
  have fin : ∀ b : Bool, f_X7_follows_J98 FU sh I (nI h) (nI c) (bI b) = some (bI (b && (L h).testBit c)) := by
    intro b
    obtain ⟨L1, L2⟩ := hL h hh
    unfold f_X7_follows_J98
    rw [oix_ok (j := h) rfl hh (by decide), L1, has_if (by omega) (by omega)]
    cases b <;> cases (L h).testBit c <;> rfl
  have loop : ∀ (d i q : Nat) (b : Bool), i + d = cN (aK a l) → d + 1 ≤ q → f_X7_follows_L6 FU sh I dm (nI h) (nI c) q (bI b) (nI i) = some (bI ((b || folF a l h c L d i) && (L h).testBit c)) := by
    intro d
    induction d with
    | zero =>
      intro i q b hi hq
      obtain ⟨q, rfl⟩ := pred1 hq
      rw [f_X7_follows_L6, ockD_ok x1.r hk, orf_ok x6, ock_ok y1.r, y3, if_pos (nI_le (by omega) (by omega)), fin, folF, Bool.or_false]
    | succ d ih =>
      intro i q b hi hq
      obtain ⟨q, rfl⟩ := pred1 hq
      replace hq := Nat.le_of_succ_le_succ hq
      have hic : i < cN (aK a l) := by omega
      obtain ⟨q1, q2, q3, q4⟩ := cs_ok _ hk i hic
      have i1 := ih (i + 1) q true (by omega) hq
      have i0 := ih (i + 1) q false (by omega) hq
      rw [bI_t] at i1
      rw [bI_f] at i0
      rw [f_X7_follows_L6, ockD_ok x1.r hk, orf_ok x6, ock_ok y1.r, y3, if_neg (nI_ge hic (by omega))]
      cases b with
      | true => rw [if_neg (show ¬ bI true = 0 by decide), fin, Bool.true_or]
      | false =>
        have J48 : f_X7_follows_J48 FU sh I (f_X7_follows_L6 FU sh I dm (nI h) (nI c) q) dm (nI h) (nI c) (nI i) = some (bI ((prd (aK a l) && (decide (kCa a l i = h) && !goF a l i true L c) || folF a l h c L d (i + 1)) && (L h).testBit c)) := by
          unfold f_X7_follows_J48
          rw [ockD_ok x1.r hk, orf_ok x6, ock_ok y1.r, isPair_ok hC hk hic, bind_if, nI_add, i1, i0]
          cases hp : prd (aK a l) with
          | false => rw [if_neg (by decide), Bool.false_and]
          | true =>
            obtain ⟨k1, k2, k3⟩ := q3 hp
            have y2' := (y10 i hic).2.1
            rw [k3] at y2'
            rw [if_pos rfl, orf_ok x6, ock_ok y1.r, orf_ok y5, oarw_ok y8, oix_ok (j := i) rfl (by omega) (by decide), y2', goesS_ok hD hA hl hic hp c1 c3 hL, bind_if]
            by_cases e : kCa a l i = h
            · rw [if_pos (by rw [← e])]
              cases goF a l i true L c <;> simp [e]
            · rw [if_neg (by rw [nI_eq (by omega) (by omega)]; exact e)]
              simp [e]
        rw [if_pos (show bI false = 0 from rfl), orf_ok x6, ock_ok y1.r, orf_ok y4, oarw_ok y7, oix_ok (j := i) rfl (by omega) (by decide), (y10 i hic).1, goesF_ok hD hA hl hic c1 c3 hL, bind_if, J48, nI_add, i1, folF]
        unfold fo1
        by_cases e : hCa a l i = h
        · rw [if_pos (by rw [← e])]
          cases goF a l i false L c <;> simp [e]
        · rw [if_neg (by rw [nI_eq (by omega) (by omega)]; exact e)]
          simp [e]
  have := loop (cN (aK a l)) 0 FU false (by omega) (by omega)
  rw [bI_f, Bool.false_or] at this
  exact this
def stB (a : AS) (x j : Nat) (L : Nat → Nat) : Bool := decide (j / 48 < aN a) && (x.testBit (j / 48) && (decide (j % 4 ≠ 0) && ((L (j % 48 / 4)).testBit (j % 4) && folF a (j / 48) (j % 48 / 4) (j % 4) L (cN (aK a (j / 48))) 0)))
def stp (a : AS) (x : Nat) (v : Int32) (L : Nat → Nat) : Bool := if v < 0 then false else stB a x v.toNatClampNeg L
def hitv (v : Int32) (s : SS) : SS := hit (v.toNatClampNeg / 48) (v.toNatClampNeg % 48 / 4) (v.toNatClampNeg % 4) s
theorem stp_n {a : AS} {x j : Nat} {L : Nat → Nat} (hj : j < 2 ^ 31) : stp a x (nI j) L = stB a x j L := by
  unfold stp
  rw [if_neg (nI_pos hj), nI_clamp hj]
theorem hitv_n {j : Nat} {s : SS} (hj : j < 2 ^ 31) : hitv (nI j) s = hit (j / 48) (j % 48 / 4) (j % 4) s := by
  unfold hitv
  rw [nI_clamp hj]
theorem stB_t {a : AS} {x j : Nat} {L : Nat → Nat} (h : stB a x j L = true) : j / 48 < aN a ∧ x.testBit (j / 48) = true ∧ j % 4 ≠ 0 ∧ (L (j % 48 / 4)).testBit (j % 4) = true := by
  unfold stB at h
  simp only [Bool.and_eq_true, decide_eq_true_iff] at h
  exact ⟨h.1, h.2.1, h.2.2.1, h.2.2.2.1⟩
theorem quo48 {j : Nat} (hj : j < 2 ^ 31) : nI j / nI 48 = nI (j / 48) ∧ nI j - nI j / nI 4 * nI 4 = nI (j % 4) ∧ (nI j - nI j / nI 48 * nI 48) / nI 4 = nI (j % 48 / 4) := by
  refine ⟨pk_div hj (by decide) (by decide), pk_rem hj (by decide) (by decide), ?_⟩
  rw [pk_rem hj (by decide) (by decide), pk_div (by omega) (by decide) (by decide)]
theorem choice_n {c : Nat} (hc : c < 4) : f_X0_isChoice (nI c) = some (bI (decide (c ≠ 0))) := by
  have h : c = 0 ∨ c = 1 ∨ c = 2 ∨ c = 3 := by omega
  rcases h with rfl | rfl | rfl | rfl <;> decide
theorem isStep_ok {S : SH} {I : II} {ow : Nat → Nat} {a : AS} {v x : Nat} {w : Int32} {s : SS} (hV : VN S I ow a v) (hx : x < 256) (hS : SOK s) (hN : NSt I s) : ∃ I', f_X0_isStep FU S (nI x) w I = some (bI (stp a x w s.1), I') ∧ NFr I I' ∧ (stp a x w s.1 = true → NSt I' (hitv w s) ∧ SOK (hitv w s)) ∧ (stp a x w s.1 = false → I' = I) := by
  have hA := hV.2.2.1
  have hM := hV.2.1
  have h8 := hA.1
  by_cases hneg : w < 0
  · have hs : stp a x w s.1 = false := by unfold stp; rw [if_pos hneg]
    rw [hs]
    refine ⟨I, ?_, fun _ _ _ _ => rfl, fun h => (by cases h), fun _ => rfl⟩
    obtain ⟨-, -, -, hv, z1, -, -, -, -, ⟨al, b1, b2⟩, -⟩ := hV
    unfold f_X0_isStep f_X0_isStep_J12 f_X0_isLaw f_X0_in
    rw [if_neg (Int32.not_le.mpr hneg), orf_ok hv, ock_ok z1.r, orf_ok b1, ock_ok b2.1.r, lst_size b2, Option.bind_some, if_pos (by decide), Option.bind_some, og_ok (Or.inl (by decide)), Option.bind_some, if_pos (by decide)]
    rfl
  · obtain ⟨j, hj, rfl⟩ := nI_of hneg
    obtain ⟨p1, p2, p3⟩ := quo48 hj
    rw [stp_n hj, hitv_n hj]
    have hV' := hV
    obtain ⟨-, -, -, hv, z1, -, -, -, -, ⟨al, b1, b2⟩, -⟩ := hV
    unfold f_X0_isStep f_X0_isStep_J12
    rw [if_pos (nI_pos' hj), p3, p2, p1, nlaw_ok hV' (by omega), bind_if]
    have no : stB a x j s.1 = false → ∃ I', some (nI 0, I) = some (bI (stB a x j s.1), I') ∧ NFr I I' ∧ (stB a x j s.1 = true → NSt I' (hit (j / 48) (j % 48 / 4) (j % 4) s) ∧ SOK (hit (j / 48) (j % 48 / 4) (j % 4) s)) ∧ (stB a x j s.1 = false → I' = I) := by
      intro h
      rw [h]
      exact ⟨I, rfl, fun _ _ _ _ => rfl, fun h => (by cases h), fun _ => rfl⟩
    by_cases hl : j / 48 < aN a
    · rw [if_pos (by simp [hl]), has_if (by omega) (by omega)]
      by_cases hb : x.testBit (j / 48) = true
      · rw [if_pos hb, choice_n (by omega), bind_if]
        by_cases hc : j % 4 ≠ 0
        · rw [if_pos (by simp [hc])]
          have hk := (hA.2.2.2.2.1 _ hl).1
          obtain ⟨dm, ed, hD⟩ := lst_get b2 h8 hl
          have hse : stB a x j s.1 = (folF a (j / 48) (j % 48 / 4) (j % 4) s.1 (cN (aK a (j / 48))) 0 && (s.1 (j % 48 / 4)).testBit (j % 4)) := by
            unfold stB
            simp only [hl, hb, hc, decide_true, Bool.true_and, ne_eq, not_false_iff]
            exact Bool.and_comm _ _
          rw [orf_ok hv, ock_ok z1.r, orf_ok b1, ock_ok b2.1.r, ed, Option.bind_some, ockD_ok hD.1.r hk, nfollows_ok hD hA hl (by omega) (by omega) (by omega) (fun h hh => ⟨hN.1 h hh, hS.1 h hh⟩), ← hse, bind_if]
          cases hst : stB a x j s.1 with
          | false =>
            rw [if_neg (by decide)]
            exact ⟨I, rfl, fun _ _ _ _ => rfl, fun h => (by cases h), fun _ => rfl⟩
          | true =>
            have hbit := (stB_t hst).2.2.2
            obtain ⟨I2, e2, n2, f2⟩ := nstrike_ok hM hD hk hS hN (show j % 48 / 4 < 12 by omega) (show 1 ≤ j % 4 by omega) (by omega) hbit
            rw [if_pos rfl, orf_ok hv, ock_ok z1.r, orf_ok b1, ock_ok b2.1.r, ed, Option.bind_some, ockD_ok hD.1.r hk, e2, Option.bind_some]
            exact ⟨I2, rfl, f2, fun _ => ⟨n2, (hS.hit (by omega) (by omega) (by omega) hbit).1⟩, fun h => (by cases h)⟩
        · rw [if_neg (by simp [hc])]
          exact no (by unfold stB; simp [hc])
      · rw [if_neg hb]
        exact no (by unfold stB; simp [hb])
    · rw [if_neg (by simp [hl])]
      exact no (by unfold stB; simp [hl])
theorem folNow_ok {I : II} {a : AS} {x : Nat} {w : Int32} {L : Nat → Nat} (hR : RowIs (I 28) a) (hA : AOK a) (hT : Tab I) (hx : x < 256) (hL : ∀ h, h < 12 → I 41 h = nI (L h) ∧ L h < 16) : f_X9_followsNow FU (nI x) w I = some (bI (stp a x w L)) := by
  have F5 := FU5
  have h8 := hA.1
  unfold f_X9_followsNow
  by_cases hneg : w < 0
  · have hs : stp a x w L = false := by unfold stp; rw [if_pos hneg]
    rw [hs, if_pos hneg]
    rfl
  · obtain ⟨j, hj, rfl⟩ := nI_of hneg
    obtain ⟨p1, p2, p3⟩ := quo48 hj
    rw [stp_n hj, if_neg hneg, p3, p2, p1, mlaw_ok hR h8 (by omega), bind_if]
    by_cases hl : j / 48 < aN a
    · rw [if_pos (by simp [hl]), has_ifM (by omega) (by omega)]
      by_cases hb : x.testBit (j / 48) = true
      · rw [if_pos hb]
        by_cases hc : j % 4 = 0
        · rw [hc, if_pos (show nI 0 = 0 from rfl)]
          have : stB a x j L = false := by unfold stB; simp [hc]
          rw [this]
          rfl
        · obtain ⟨L1, L2⟩ := hL (j % 48 / 4) (by omega)
          rw [if_neg (nI_ne0 (by omega) (by omega)), oix_ok (j := j % 48 / 4) rfl (by omega) (by decide), L1, has_ifM (by omega) (by omega)]
          by_cases hbit : (L (j % 48 / 4)).testBit (j % 4) = true
          · rw [if_pos hbit]
            have hse : stB a x j L = folF a (j / 48) (j % 48 / 4) (j % 4) L (cN (aK a (j / 48))) 0 := by
              unfold stB
              simp [hl, hb, hc, hbit]
            rw [hse]
            have hk := (hA.2.2.2.2.1 _ hl).1
            have hcN := (cN_le _ hk).1
            generalize hlj : j / 48 = l at hl hk hcN ⊢
            generalize hhj : j % 48 / 4 = h at ⊢
            generalize hcj : j % 4 = c at ⊢
            have hh : h < 12 := by omega
            have c1 : 1 ≤ c := by omega
            have c3 : c ≤ 3 := by omega
            have loop : ∀ (d i q : Nat) (b : Bool), i + d = cN (aK a l) → d + 1 ≤ q → f_X9_followsNow_L66 FU I (nI l) (nI h) (nI c) q (bI b) (nI i) = some (bI (b || folF a l h c L d i)) := by
              intro d
              induction d with
              | zero =>
                intro i q b hi hq
                obtain ⟨q, rfl⟩ := pred1 hq
                rw [f_X9_followsNow_L66, casesOf_ok hR hA hT hl, Option.bind_some, if_pos (nI_le (by omega) (by omega)), og_ok (bI_01 b), folF, Bool.or_false]
              | succ d ih =>
                intro i q b hi hq
                obtain ⟨q, rfl⟩ := pred1 hq
                replace hq := Nat.le_of_succ_le_succ hq
                have hic : i < cN (aK a l) := by omega
                obtain ⟨q1, q2, q3, q4⟩ := cs_ok _ hk i hic
                have i1 := ih (i + 1) q true (by omega) hq
                have i0 := ih (i + 1) q false (by omega) hq
                rw [bI_t] at i1
                rw [bI_f] at i0
                rw [f_X9_followsNow_L66, casesOf_ok hR hA hT hl, Option.bind_some, if_neg (nI_ge hic (by omega))]
                cases b with
                | true => rw [if_neg (show ¬ bI true = 0 by decide), nI_add, i1, Bool.true_or, Bool.true_or]
                | false =>
                  have g1 := goesO_ok (oth := true) (L := L) hR hA hT hl hic c1 c3 hL
                  have g0 := goesO_ok (oth := false) (L := L) hR hA hT hl hic c1 c3 hL
                  rw [bI_t] at g1
                  rw [bI_f] at g0
                  have J106 : f_X9_followsNow_J106 FU I (f_X9_followsNow_L66 FU I (nI l) (nI h) (nI c) q) (nI l) (nI h) (nI c) (nI i) = some (bI (prd (aK a l) && (decide (kCa a l i = h) && !goF a l i true L c) || folF a l h c L d (i + 1))) := by
                    unfold f_X9_followsNow_J106
                    rw [otherOf_ok hR hA hT hl hic, Option.bind_some, nI_add, i1, i0, g1, bind_if]
                    cases hp : prd (aK a l) with
                    | false =>
                      rw [q4 hp, if_neg (fun e => nI_m1 (by omega) e.symm), Bool.false_and]
                    | true =>
                      obtain ⟨k1, k2, k3⟩ := q3 hp
                      rw [k3]
                      by_cases e : kCa a l i = h
                      · rw [if_pos (by rw [← e])]
                        cases goF a l i true L c <;> simp [e]
                      · rw [if_neg (by rw [nI_eq (by omega) (by omega)]; exact e)]
                        simp [e]
                  rw [if_pos (show bI false = 0 from rfl), hallOf_ok hR hA hT hl hic, Option.bind_some, g0, bind_if, J106, nI_add, i1, folF]
                  unfold fo1
                  by_cases e : hCa a l i = h
                  · rw [if_pos (by rw [← e])]
                    cases goF a l i false L c <;> simp [e]
                  · rw [if_neg (by rw [nI_eq (by omega) (by omega)]; exact e)]
                    simp [e]
            have := loop (cN (aK a l)) 0 FU false (by omega) (by omega)
            rw [bI_f, Bool.false_or] at this
            exact this
          · rw [if_neg hbit]
            have : stB a x j L = false := by unfold stB; simp [hbit]
            rw [this]
            rfl
      · rw [if_neg hb]
        have : stB a x j L = false := by unfold stB; simp [hb]
        rw [this]
        rfl
    · rw [if_neg (by simp [hl])]
      have : stB a x j L = false := by unfold stB; simp [hl]
      rw [this]
      rfl
/-- what checking answers -/
def chkR (a : AS) (x : Nat) (V : Nat → Int32) : Nat → Nat → SS → Int32
  | 0, k, s => if empt s.1 = true then nI 0 else nI (k + 1)
  | d + 1, k, s => if stp a x (V k) s.1 = true then chkR a x V d (k + 1) (hitv (V k) s) else nI (k + 1)
theorem act_21 {n : Nat} {S : SH} {I : II} {a1 a2 : Int32} (h : Inv n S I) : Act n (f_arm_21 FU a1 a2 S I) := by
  obtain ⟨ow, a, v, hO⟩ := h.op
  have hA := hO.aok
  have hM := hO.mrk
  have F5 := FU5
  unfold f_arm_21
  have bad : ∀ (X : Option (Int32 × II)) (Y : II → Option (Int32 × II)), X = f_X0_check_J20 FU S a1 a2 I → Y (EN I 1) = f_X9_check_J15 FU (EN I 1) → Act n (bd2 X fun r1 I1 => bd2 (Y I1) fun r2 I2 => og (r1 = r2) <| some (S, I2)) := by
    intro X Y hX hY
    refine Act.of (arm2 (r := -1000001) (I1 := EN I 1) ?_ ?_) (hO.bad (e := 1))
    · rw [hX]
      unfold f_X0_check_J20 f_X0_check_J21 f_X0_check_J98
      exact nbad hO.1 (by decide) (by decide)
    · rw [hY]
      unfold f_X9_check_J15
      exact mbad2 (by decide) (by decide)
  rcases set_cases hO a1 with ⟨h1, h2⟩ | ⟨x, -, hx, rfl, h1, h2⟩
  · refine bad _ _ ?_ ?_
    · unfold f_X0_check; rw [h1]; rfl
    · unfold f_X9_check; rw [isSetEN, h2]; rfl
  · rcases sheet_cases a2 with ⟨g1, g2⟩ | ⟨s, hs, rfl, g1, g2⟩
    · refine bad _ _ ?_ ?_
      · unfold f_X0_check; rw [h1, g1]; rfl
      · unfold f_X9_check; rw [isSetEN, h2, g2]; rfl
    · rcases sheet_at hO.1 hs (hO.sht s hs) with ⟨e1, e2, -⟩ | ⟨q, w, r, m, e1, k1, hw, hq, hr, ha, hm, m40, k2, k3, k4⟩
      · refine Act.of (arm2 (r := -1000002) (I1 := EN I 2) ?_ ?_) (hO.bad (e := 2))
        · unfold f_X0_check f_X0_check_J21 f_X0_check_J98
          rw [h1, Option.bind_some, if_neg (by decide), g1, Option.bind_some, if_neg (by decide), ngood, bd2_ok e1]
          exact ncaught hO.1 (by decide) (by decide)
        · unfold f_X9_check
          rw [isSetEN, h2, Option.bind_some, if_neg (by decide), g2, Option.bind_some, if_neg (by decide), oix_ok (j := s) rfl hs (by decide), EN_x (by decide) (by decide), if_pos e2]
          exact mbad2 (by decide) (by decide)
      · have r9 : ow r ≠ 9 := by rw [hm]; omega
        have rn : ∀ b, b < 48 → ¬ (2 ≤ b ∧ b ≤ 6) → r ≠ b := fun b b1 b2 => hM.ne r9 b1 b2
        obtain ⟨I1, c1, n1, f1⟩ := nbegin_ok (sh := S) (I := I)
        have lN : ∀ (d k z : Nat) (I2 : II) (t : SS), k + d = m → d + 1 ≤ z → SOK t → NSt I2 t → NFr I I2 → ∃ I3, f_X0_check_L41 FU S (nI x) q z (nI k) I2 = some (chkR a x (fun k => I 46 (40 * s + k)) d k t, I3) ∧ NFr I I3 := by
          intro d
          induction d with
          | zero =>
            intro k z I2 t hk hz hS hN hf
            obtain ⟨z, rfl⟩ := pred1 hz
            obtain rfl : k = m := by omega
            refine ⟨I2, ?_, hf⟩
            unfold f_X0_check_L41 f_X0_check_J70
            rw [size_ok hw hq hr ha, Option.bind_some, if_pos (nI_le (by omega) (by omega)), Option.bind_some, if_pos rfl, hN.2.2.2, nI_add, chkR]
            cases empt t.1 <;> rfl
          | succ d ih =>
            intro k z I2 t hk hz hS hN hf
            obtain ⟨z, rfl⟩ := pred1 hz
            replace hz := Nat.le_of_succ_le_succ hz
            have er : I2 r k = I 46 (40 * s + k) := by rw [hf r (rn 17 (by decide) (by decide)) (rn 18 (by decide) (by decide)) (rn 19 (by decide) (by decide))]; exact k4 k (by omega)
            obtain ⟨I3, e3, f3, y3, z3⟩ := isStep_ok (w := I 46 (40 * s + k)) (hO.vn.nfr hf) hx hS hN
            have hf3 : NFr I I3 := fun x x1 x2 x3 => by rw [f3 x x1 x2 x3, hf x x1 x2 x3]
            rw [f_X0_check_L41, size_ok hw hq hr ha, Option.bind_some, if_neg (nI_ge (by omega) (by omega)), get_ok hw hq hr ha m40 (by omega), Option.bind_some, er, bd2_ok e3, nI_add, chkR]
            cases hst : stp a x (I 46 (40 * s + k)) t.1 with
            | true =>
              obtain ⟨n3, s3⟩ := y3 hst
              rw [if_neg (show ¬ bI true = 0 by decide), if_pos rfl]
              exact ih (k + 1) z I3 _ (by omega) hz s3 n3 hf3
            | false =>
              rw [if_pos (show bI false = 0 from rfl), if_neg (by decide)]
              unfold f_X0_check_J70
              rw [size_ok hw hq hr ha, Option.bind_some, if_neg (by rw [nI_eq (by omega) (by omega)]; omega), nI_add]
              exact ⟨I3, rfl, hf3⟩
        obtain ⟨I3, e3, f3⟩ := lN m 0 FU I1 ss0 (by omega) (by omega) ss0_ok n1 f1
        obtain ⟨I4, c4, n4, f4⟩ := mbegin_ok (I := I3)
        have r3 : RowIs (I3 28) a := by rw [f3 28 (by decide) (by decide) (by decide)]; exact hO.row
        have t3 : Tab I3 := hO.tab.of (f3 _ (by decide) (by decide) (by decide)) (f3 _ (by decide) (by decide) (by decide)) (f3 _ (by decide) (by decide) (by decide)) (f3 _ (by decide) (by decide) (by decide))
        have lM : ∀ (d k z : Nat) (I2 : II) (t : SS), k + d = m → d + 1 ≤ z → SOK t → (∀ h, h < 12 → I2 41 h = nI (t.1 h)) → MFr I3 I2 → ∃ I5, f_X9_check_L44 FU (nI x) (nI s) z (nI k) I2 = some (chkR a x (fun k => I 46 (40 * s + k)) d k t, I5) ∧ MFr I3 I5 := by
          intro d
          induction d with
          | zero =>
            intro k z I2 t hk hz hS hN hf
            obtain ⟨z, rfl⟩ := pred1 hz
            obtain rfl : k = m := by omega
            refine ⟨I2, ?_, hf⟩
            have e45 : I2 45 s = nI k := by rw [hf.1 45 (by decide) (by decide) (by decide), f3 45 (by decide) (by decide) (by decide)]; exact k3
            rw [f_X9_check_L44, oix_ok (j := s) rfl hs (by decide), e45, if_pos (nI_le (by omega) (by omega)), isEmpty_ok (fun h hh => ⟨hN h hh, hS.1 h hh⟩), Option.bind_some, oix_ok (j := s) rfl hs (by decide), e45, nI_add, chkR, Nat.add_comm 1 k]
            cases empt t.1 <;> rfl
          | succ d ih =>
            intro k z I2 t hk hz hS hN hf
            obtain ⟨z, rfl⟩ := pred1 hz
            replace hz := Nat.le_of_succ_le_succ hz
            have e45 : I2 45 s = nI m := by rw [hf.1 45 (by decide) (by decide) (by decide), f3 45 (by decide) (by decide) (by decide)]; exact k3
            have e46 : I2 46 (40 * s + k) = I 46 (40 * s + k) := by rw [hf.1 46 (by decide) (by decide) (by decide), f3 46 (by decide) (by decide) (by decide)]
            rw [f_X9_check_L44, oix_ok (j := s) rfl hs (by decide), e45, if_neg (nI_ge (by omega) (by omega)), oix_ok (j := 40 * s + k) (by rw [pk_mul, nI_add]) (by omega) (by decide), e46, folNow_ok (hf.row r3) hA (hf.tab t3) hx (fun h hh => ⟨hN h hh, hS.1 h hh⟩), bind_if, nI_add, nI_add, Nat.add_comm 1 k, chkR]
            cases hst : stp a x (I 46 (40 * s + k)) t.1 with
            | true =>
              rw [if_pos rfl, if_pos rfl]
              generalize hw46 : I 46 (40 * s + k) = w46 at hst ⊢
              have hneg : ¬ w46 < 0 := fun hneg => by unfold stp at hst; rw [if_pos hneg] at hst; cases hst
              obtain ⟨j, hj, rfl⟩ := nI_of hneg
              obtain ⟨p1, p2, p3⟩ := quo48 hj
              rw [stp_n hj] at hst
              obtain ⟨u1, u2, u3, u4⟩ := stB_t hst
              obtain ⟨m1, m2, -, -⟩ := msk1 _ (hS.1 (j % 48 / 4) (by omega)) (j % 4) (by omega) u4
              have hS2 := (hS.hit (l := j / 48) (show j % 48 / 4 < 12 by omega) (show 1 ≤ j % 4 by omega) (by omega) u4).1
              rw [hitv_n hj, p3, p2, oix_ok (j := j % 48 / 4) rfl (by omega) (by decide), oix_ok (j := j % 48 / 4) rfl (by omega) (by decide), hN _ (by omega), m1]
              refine ih (k + 1) z _ _ (by omega) hz hS2 (fun h hh => ?_) ⟨fun x x1 x2 x3 => by rw [up2_n x1]; exact hf.1 x x1 x2 x3, fun k hk => by rw [up2_n (by decide)]; exact hf.2 k hk⟩
              show _ = nI (upN _ _ _ _)
              by_cases e : h = j % 48 / 4
              · rw [e, up2_eq, upN_s]
              · rw [up2_ne e, upN_n e]; exact hN h hh
            | false =>
              rw [if_neg (by decide), if_neg (by decide)]
              exact ⟨I2, rfl, hf⟩
        obtain ⟨I5, e5, f5⟩ := lM m 0 FU I4 ss0 (by omega) (by omega) ss0_ok n4.1 f4
        have e28 : I3 28 = I 28 := f3 28 (by decide) (by decide) (by decide)
        refine Act.of (arm2 (r := chkR a x (fun k => I 46 (40 * s + k)) m 0 ss0) (I1 := I3) (I2 := I5) ?_ ?_) (hO.scr2 f3 f5)
        · unfold f_X0_check f_X0_check_J21
          rw [h1, Option.bind_some, if_neg (by decide), g1, Option.bind_some, if_neg (by decide), ngood, bd2_ok e1, oexL, bind_ok c1]
          exact e3
        · unfold f_X9_check
          rw [isSet_congr e28, h2, Option.bind_some, if_neg (by decide), g2, Option.bind_some, if_neg (by decide), oix_ok (j := s) rfl hs (by decide), f3 44 (by decide) (by decide) (by decide), k2, if_neg swd0, bind_ok c4]
          exact e5
