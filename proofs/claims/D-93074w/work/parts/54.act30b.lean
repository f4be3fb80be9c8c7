/-! PLAIN SIDE: act 30 -/
set_option maxRecDepth 100000
theorem InvO.sz {n : Nat} {sh : SH} {I : II} {ow : Nat → Nat} {a : AS} {v : Nat} (h : InvO n sh I ow a v) : sh.1 ≤ 48 + 300 * n := h.2.2.1
theorem InvO.stM {n : Nat} {sh : SH} {I : II} {ow : Nat → Nat} {a : AS} {v : Nat} (h : InvO n sh I ow a v) : StM sh := h.2.1
theorem InvO.h48 {n : Nat} {sh : SH} {I : II} {ow : Nat → Nat} {a : AS} {v : Nat} (h : InvO n sh I ow a v) : 47 < sh.1 := h.2.1.2.2.2.2.2.2.2.2.2.2.2.2.2.2.2.2.2.2.2.2.2.2.2.2.2.2.2.2.2.2.2.2.2.2.2.2.2.2.2.2.1
/-- a finding in an act that may make the heap grow -/
theorem InvO.act3 {n : Nat} {S : SH} {I : II} {ow : Nat → Nat} {a : AS} {v e : Nat} {X : Option (Int32 × SH × II)} {Y : II → Option (Int32 × II)} {r : Int32} (hO : InvO n S I ow a v) (hn : n < 64) (h1 : X = some (r, S, EN I e)) (h2 : Y (EN I e) = some (r, EM (EN I e) e)) : Act n (bd3 X (fun r1 S1 I1 => og (S.1 ≤ S1.1 ∧ S1.1 ≤ 36000) <| ost S1 <| ostM S1 <| bd2 (Y I1) fun r2 I2 => og (r1 = r2) <| some (S1, I2))) := by
  have := hO.sz
  exact Act.of3 (hO.bad (e := e)) (arm3 h1 (Nat.le_refl _) (by omega) hO.1 hO.stM h2)
theorem isW_ok {w : Nat} (h : w < 3) : f_X0_isWidth (nI (swd w)) = some (nI 1) := by
  rcases w3 h with rfl | rfl | rfl <;> decide
theorem sheetN0 {S : SH} {I : II} {s w : Nat} {a3 : Int32} (hS : stN S) (h1 : f_X0_isSheet (nI s) = some (nI 1)) (hw : w < 3) : f_X0_sheet S (nI s) (nI (swd w)) a3 I = omn3 S (if a3 < 0 then f_X0_sheet_J54 (nI s) (nI (swd w)) a3 (nI 0) S I else f_X0_sheet_J54 (nI s) (nI (swd w)) a3 (nI 1) S I) := by
  have hz : nI (swd w) ≠ 0 := swd0
  unfold f_X0_sheet
  rw [h1, Option.bind_some, if_neg (by decide), if_neg hz, isW_ok hw, Option.bind_some, if_neg (by decide)]
  unfold f_X0_sheet_J19 f_X0_sheet_J24
  rw [ngood3 hS, if_neg hz]
theorem sheetM0 {I : II} {s w : Nat} {a3 : Int32} (h2 : f_X9_isSheet (nI s) = some (nI 1)) (hw : w < 3) : f_X9_sheet FU (nI s) (nI (swd w)) a3 I = if 0 ≤ a3 then (if a3 ≤ nI 40 then (oix (nI s) 4 fun i75 => f_X9_sheet_J90 FU (nI s) (nI s) a3 (up2 I 44 i75 (nI (swd w)))) else bd2 (f_X9_finding (-1000001) I) fun r65 I65 => some (r65, I65)) else bd2 (f_X9_finding (-1000003) I) fun r48 I48 => some (r48, I48) := by
  have hz : nI (swd w) ≠ 0 := swd0
  have hJ : f_X9_sheet FU (nI s) (nI (swd w)) a3 I = f_X9_sheet_J36 FU (nI s) (nI (swd w)) a3 I := by
    unfold f_X9_sheet
    rw [h2, Option.bind_some, if_neg (by decide), if_neg hz]
    rcases w3 hw with rfl | rfl | rfl
    · rw [if_pos (show nI (swd 0) = nI 8 from rfl)]
    · rw [if_neg (by decide), if_pos (show nI (swd 1) = nI 16 from rfl)]
    · rw [if_neg (by decide), if_neg (by decide), if_pos (show nI (swd 2) = nI 32 from rfl)]
  rw [hJ]
  unfold f_X9_sheet_J36
  rw [if_neg hz]
  unfold f_X9_sheet_J52
  rw [if_neg hz]
  unfold f_X9_sheet_J69
  simp only [if_neg hz]
theorem sheetM00 {I : II} {s : Nat} {a3 : Int32} (h2 : f_X9_isSheet (nI s) = some (nI 1)) : f_X9_sheet FU (nI s) 0 a3 I = oix (nI s) 4 fun i75 => f_X9_sheet_J90 FU (nI s) (nI s) (nI 0) (up2 I 44 i75 0) := by
  unfold f_X9_sheet
  rw [h2, Option.bind_some, if_neg (by decide), if_pos rfl]
  unfold f_X9_sheet_J36
  rw [if_pos rfl]
  unfold f_X9_sheet_J52
  rw [if_pos rfl]
  unfold f_X9_sheet_J69
  simp only [↓reduceIte]
theorem sheetN00 {S : SH} {I : II} {s : Nat} {a3 : Int32} (hS : stN S) (hs : s < 4) (h1 : f_X0_isSheet (nI s) = some (nI 1)) : f_X0_sheet S (nI s) 0 a3 I = some (nI 1, shR S (23 + s) 0 none, I) := by
  obtain ⟨q1, q2⟩ := st22 hS hs
  unfold f_X0_sheet
  rw [h1, Option.bind_some, if_neg (by decide), if_pos rfl]
  unfold f_X0_sheet_J19 f_X0_sheet_J24
  rw [ngood3 hS, if_pos rfl, oix_ok (j := s) rfl hs (by decide), orf_ok q1, ockw_ok q2]
  exact omn3_ok rfl (Nat.le_refl _)
theorem act_30 {n : Nat} {S : SH} {I : II} {a1 a2 a3 : Int32} (h : Inv n S I) (hn : n < 64) : Act n (f_arm_30 FU a1 a2 a3 S I) := by
  obtain ⟨ow, a, v, hO⟩ := h.op
  have hM := hO.mrk
  have hS := hO.1
  have hsz := hO.sz
  have h48 := hO.h48
  have xA : exA = 1000000000 := rfl
  unfold f_arm_30
  rcases sheet_cases a1 with ⟨h1, h2⟩ | ⟨s, hs, rfl, h1, h2⟩
  · refine hO.act3 (e := 1) (r := -1000001) hn ?_ ?_
    · unfold f_X0_sheet
      rw [h1, Option.bind_some, if_pos (by decide)]
      unfold f_X0_sheet_J23 f_X0_sheet_J24 f_X0_sheet_J127
      exact omn3_ok (nbad3 hS (by decide) (by decide)) (Nat.le_refl _)
    · unfold f_X9_sheet f_X9_sheet_J29
      rw [h2, Option.bind_some, if_pos (by decide)]
      exact mbad2 (by decide) (by decide)
  · by_cases hz : a2 = 0
    · subst hz
      obtain ⟨I4, m1, m2, m3, m4, m5⟩ := sheetM (I := I) (s := s) (y := 0) (z := nI 0) hs
      obtain ⟨q1, q2⟩ := st22 hS hs
      have g : Grw S (shR S (23 + s) 0 none) := ⟨Nat.le_refl _, fun _ _ => rfl, fun x k _ _ x3 _ _ => by
        by_cases e : x = 23 + s
        · subst e; rw [sR_j (by omega)]
        · rw [sR_n e]⟩
      refine Act.of3 (hO.grow2 (ow' := ow) (by omega) g (show S.1 ≤ _ by omega) (fun x _ _ x1 x2 x3 _ => m2 x x1 x2 x3) (by rw [m2 27 (by decide) (by decide) (by decide)]) (by rw [m2 27 (by decide) (by decide) (by decide)]) (sR_n (by omega)) (fun x x1 x2 => sR_n (fun e => by rw [e, hM.1 (23 + s) (by omega) (by omega)] at x2; omega)) (fun _ _ => rfl) (fun s' hs' => ?_)) (arm3 (r := nI 1) (I1 := I) (I2 := I4) ?_ (Nat.le_refl _) (show S.1 ≤ 36000 by omega) (stN_grow hS g) (StM_grow hO.stM g) ?_)
      · by_cases es : s' = s
        · subst es
          exact Or.inl ⟨sR_s, by rw [m3, if_pos rfl], by rw [m4, if_pos rfl]; rfl⟩
        · exact (hO.sht s' hs').grow hS hs' g (by rw [sR_n (by omega)]) (fun x x1 x2 => ⟨m2 x (hM.ne (by rw [x2]; omega) (by decide) (by decide)) (hM.ne (by rw [x2]; omega) (by decide) (by decide)) (hM.ne (by rw [x2]; omega) (by decide) (by decide)), rfl⟩) (by rw [m3, if_neg es]) (by rw [m4, if_neg es]) (fun k hk => by rw [m5, if_neg (by omega)])
      · exact sheetN00 hS hs h1
      · rw [sheetM00 h2]; exact m1
    · by_cases hwd : ∃ w, w < 3 ∧ a2 = nI (swd w)
      · obtain ⟨w, hw, rfl⟩ := hwd
        have hN := sheetN0 (I := I) (a3 := a3) hS h1 hw
        have hMM : ∀ I', f_X9_sheet FU (nI s) (nI (swd w)) a3 I' = _ := fun I' => sheetM0 (I := I') h2 hw
        by_cases h0 : a3 < 0
        · refine hO.act3 (e := 3) (r := -1000003) hn ?_ ?_
          · rw [hN, if_pos h0]
            unfold f_X0_sheet_J54 f_X0_sheet_J127
            exact omn3_ok (nbad3 hS (by decide) (by decide)) (Nat.le_refl _)
          · rw [hMM, if_neg (Int32.not_le.mpr h0)]
            exact mbad2 (by decide) (by decide)
        · obtain ⟨m, hm, rfl⟩ := nI_of h0
          by_cases h40 : 40 < m
          · refine hO.act3 (e := 1) (r := -1000001) hn ?_ ?_
            · rw [hN, if_neg h0]
              unfold f_X0_sheet_J54
              rw [ngood3 hS, if_pos (nI_lt h40 hm)]
              unfold f_X0_sheet_J70 f_X0_sheet_J127
              exact omn3_ok (nbad3 hS (by decide) (by decide)) (Nat.le_refl _)
            · rw [hMM, if_pos (nI_pos' hm), if_neg (nI_ge h40 hm)]
              exact mbad2 (by decide) (by decide)
          · obtain ⟨I4, m1, m2, m3, m4, m5⟩ := sheetM (I := newI (newS S (24 + w) 0) (newI S I)) (s := s) (y := nI (swd w)) (z := nI m) hs
            have hl2 : S.1 + 2 < exA := by omega
            have g := shS_grw (w := w) (m := m) hS hl2 hs
            have nI2 : ∀ x, (x < S.1 ∨ exA ≤ x) → newI (newS S (24 + w) 0) (newI S I) x = I x := fun x hx => by rw [nI_x (show x ≠ S.1 + 1 by omega), nI_x (show x ≠ S.1 by omega)]
            have fr : ∀ x, (x < S.1 ∨ exA ≤ x) → x ≠ 44 → x ≠ 45 → x ≠ 46 → I4 x = I x := fun x hx x1 x2 x3 => by rw [m2 x x1 x2 x3, nI2 x hx]
            have rw0 : ∀ x, (x < S.1 ∨ exA ≤ x) → x ≠ 23 + s → (shS S s w m).2.2 x = S.2.2 x := fun x hx x1 => by
              unfold shS
              rw [sR_n x1, sR_n (show x ≠ S.1 by omega), nS_f (show x ≠ S.1 + 1 by omega), nS_f (show x ≠ S.1 by omega)]
            refine Act.of3 (hO.grow2 (ow' := fun x => if x = S.1 + 1 then 10 + s else ow x) (by omega) g (show S.1 + 1 + 1 ≤ _ by omega) (fun x hx _ x1 x2 x3 _ => fr x hx x1 x2 x3) (by rw [fr 27 (by omega) (by decide) (by decide) (by decide)]) (by rw [fr 27 (by omega) (by decide) (by decide) (by decide)]) (rw0 0 (by omega) (by omega)) (fun x x1 x2 => rw0 x (Or.inl x1) (fun e => by rw [e, hM.1 (23 + s) (by omega) (by omega)] at x2; omega)) (fun x hx => if_neg (show x ≠ S.1 + 1 by omega)) (fun s' hs' => ?_)) (arm3 (r := nI 1) (I1 := newI (newS S (24 + w) 0) (newI S I)) (I2 := I4) ?_ (show S.1 ≤ S.1 + 1 + 1 by omega) (show S.1 + 1 + 1 ≤ 36000 by omega) (stN_grow hS g) (StM_grow hO.stM g) ?_)
            · by_cases es : s' = s
              · subst es
                refine Or.inr ⟨S.1, w, S.1 + 1, m, sR_s, hw, ⟨show S.1 < S.1 + 1 + 1 by omega, ?_⟩, ?_, ⟨show S.1 + 1 < S.1 + 1 + 1 by omega, ?_⟩, if_pos rfl, by omega, by rw [m3, if_pos rfl], by rw [m4, if_pos rfl], fun k hk => ?_⟩
                · show ((newS (newS S (24 + w) 0) (skd w) m).2.1 S.1).1 = 24 + w
                  rw [nS_k (show S.1 ≠ S.1 + 1 by omega), nS_kn]
                · unfold shS
                  rw [sR_n (show S.1 ≠ 23 + s' by omega), sR_s]
                · show (newS (newS S (24 + w) 0) (skd w) m).2.1 (newS S (24 + w) 0).1 = (skd w, m)
                  rw [nS_kn]
                · rw [m5, if_pos (by omega), m2 (S.1 + 1) (by omega) (by omega) (by omega)]
                  have z0 : newI (newS S (24 + w) 0) (newI S I) (S.1 + 1) k = 0 := by
                    show newI (newS S (24 + w) 0) (newI S I) (newS S (24 + w) 0).1 k = 0
                    rw [nI_n]
                  rw [z0]
                  refine ⟨rfl, ?_⟩
                  rcases w3 hw with rfl | rfl | rfl <;> decide
              · exact (hO.sht s' hs').grow hS hs' g (by rw [rw0 (23 + s') (by omega) (by omega)]) (fun x x1 x2 => ⟨fr x (Or.inl x1) (hM.ne (by rw [x2]; omega) (by decide) (by decide)) (hM.ne (by rw [x2]; omega) (by decide) (by decide)) (hM.ne (by rw [x2]; omega) (by decide) (by decide)), if_neg (by omega)⟩) (by rw [m3, if_neg es, nI2 44 (by omega)]) (by rw [m4, if_neg es, nI2 45 (by omega)]) (fun k hk => by rw [m5, if_neg (by omega), nI2 46 (by omega)])
            · rw [hN, if_neg h0]
              unfold f_X0_sheet_J54
              rw [ngood3 hS, if_neg (nI_nlt (by omega) (by omega))]
              exact omn3_ok (shN hS hl2 hs hw (by omega)) (show S.1 ≤ S.1 + 1 + 1 by omega)
            · rw [hMM, if_pos (nI_pos' hm), if_pos (nI_le (by omega) (by omega))]
              exact m1
      · have hw0 : ∀ w, w < 3 → a2 ≠ nI (swd w) := fun w hw e => hwd ⟨w, hw, e⟩
        refine hO.act3 (e := 1) (r := -1000001) hn ?_ ?_
        · unfold f_X0_sheet f_X0_isWidth
          rw [h1, Option.bind_some, if_neg (by decide), if_neg hz, if_neg (show a2 ≠ nI 8 from hw0 0 (by decide)), if_neg (show a2 ≠ nI 16 from hw0 1 (by decide)), if_neg (show a2 ≠ nI 32 from hw0 2 (by decide)), Option.bind_some, if_pos (by decide)]
          unfold f_X0_sheet_J23 f_X0_sheet_J24 f_X0_sheet_J127
          exact omn3_ok (nbad3 hS (by decide) (by decide)) (Nat.le_refl _)
        · unfold f_X9_sheet f_X9_sheet_J29
          rw [h2, Option.bind_some, if_neg (by decide), if_neg hz, if_neg (show a2 ≠ nI 8 from hw0 0 (by decide)), if_neg (show a2 ≠ nI 16 from hw0 1 (by decide)), if_neg (show a2 ≠ nI 32 from hw0 2 (by decide))]
          exact mbad2 (by decide) (by decide)
