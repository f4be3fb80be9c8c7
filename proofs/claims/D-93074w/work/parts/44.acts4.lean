/-! PLAIN SIDE: parts of laws; prices; telling -/
set_option maxRecDepth 100000
theorem oexL {τ β : Type} {v : τ} {f : τ → Option β} {g : Nat → Option β} : oex (Sum.inl v) f g = f v := rfl
theorem isLaw_congr {x : Int32} {I I' : II} (e : I' 28 = I 28) : f_X9_isLaw x I' = f_X9_isLaw x I := by unfold f_X9_isLaw; rw [e]
theorem isSet_congr {x : Int32} {I I' : II} (e : I' 28 = I 28) : f_X9_isSet x I' = f_X9_isSet x I := by unfold f_X9_isSet; rw [e]
theorem rowEN {I : II} {a : AS} {e : Nat} (h : RowIs (I 28) a) : RowIs (EN I e 28) a := by rw [EN_x (by decide) (by decide)]; exact h
theorem tabEN {I : II} {e : Nat} (h : Tab I) : Tab (EN I e) := h.of (EN_x (by decide) (by decide)) (EN_x (by decide) (by decide)) (EN_x (by decide) (by decide)) (EN_x (by decide) (by decide))
theorem isLawEN {x : Int32} {I : II} {e : Nat} : f_X9_isLaw x (EN I e) = f_X9_isLaw x I := isLaw_congr (EN_x (by decide) (by decide))
theorem isSetEN {x : Int32} {I : II} {e : Nat} : f_X9_isSet x (EN I e) = f_X9_isSet x I := isSet_congr (EN_x (by decide) (by decide))
/-- the law and the case asked for, in both -/
theorem case_cases {n : Nat} {sh : SH} {I : II} {ow : Nat → Nat} {a : AS} {v : Nat} (h : InvO n sh I ow a v) (x y : Int32) : (f_X0_casesOf sh x y I = some (.inr 1, up2 I 1 6 (nI 1)) ∧ (∀ I', I' 28 = I 28 → Tab I' → f_X9_isCase x y I' = some (nI 0))) ∨ ∃ l i dm cl : Nat, l < aN a ∧ x = nI l ∧ i < cN (aK a l) ∧ y = nI i ∧ f_X0_casesOf sh x y I = some (.inl cl, I) ∧ (∀ I', I' 28 = I 28 → Tab I' → f_X9_isCase x y I' = some (nI 1)) ∧ Dem sh I ow 1 a l dm ∧ Cas sh I ow cl (aK a l) (aX a l) ∧ (∀ al, sh.2.2 v 1 = some al → f_J5_get sh al x I = some dm) := by
  obtain ⟨hS, hM, hA, hv, v1, -, -, -, -, ⟨al, b1, b2⟩, -⟩ := h.vn
  rcases law_cases h x with ⟨h1, h2⟩ | ⟨l, hl, rfl, h1, h2⟩
  · left
    refine ⟨?_, fun I' e _ => ?_⟩
    · unfold f_X0_casesOf
      rw [h1, Option.bind_some]
      rfl
    · unfold f_X9_isCase
      rw [isLaw_congr e, h2]
      rfl
  · have hk := (hA.2.2.2.2.1 l hl).1
    have hcN := (cN_le _ hk).1
    obtain ⟨dm, g1, g2⟩ := lst_get b2 hA.1 hl
    obtain ⟨x1, x2, x3, x4, x5, cl, x6, hC⟩ := id g2
    have hN : f_X0_casesOf sh (nI l) y I = (f_X0_in y (nI 0) (nI (cN (aK a l)) - nI 1)).bind fun r37 => bd2 (f_X0_need sh r37 (nI 1) I) fun u41 I41 => oex u41 (fun _w41 => some ((.inl cl), I41)) (fun w41 => some (.inr w41, I41)) := by
      unfold f_X0_casesOf
      rw [h1, Option.bind_some, ngood, orf_ok hv, ock_ok v1.r, orf_ok b1, ock_ok b2.1.r, g1, Option.bind_some, ockD_ok x1.r hk, orf_ok x6, ock_ok hC.1.r, hC.2.2.1]
    have hMc : ∀ I', I' 28 = I 28 → Tab I' → f_X9_isCase (nI l) y I' = (f_X9_within y (nI 0) (nI (cN (aK a l)) - nI 1)).bind fun r17 => if r17 = 0 then some (nI 0) else some (nI 1) := by
      intro I' e hT
      have hR' : RowIs (I' 28) a := by rw [e]; exact h.row
      unfold f_X9_isCase
      rw [isLaw_congr e, h2, Option.bind_some, if_neg (by decide), casesOf_ok hR' hA hT hl, Option.bind_some]
    rcases sub_cases y (cN (aK a l)) (by omega) with ⟨k1, k2⟩ | ⟨i, hi, rfl, k1, k2⟩
    · left
      refine ⟨?_, fun I' e hT => ?_⟩
      · rw [hN, k1, Option.bind_some]; rfl
      · rw [hMc I' e hT, k2, Option.bind_some, if_pos (by decide)]
    · right
      refine ⟨l, i, dm, cl, hl, rfl, hi, rfl, ?_, fun I' e hT => ?_, g2, hC, fun al' hal => ?_⟩
      · rw [hN, k1, Option.bind_some, ngood]
      · rw [hMc I' e hT, k2, Option.bind_some, if_neg (by decide)]
      · rw [b1] at hal
        cases hal
        exact g1
/-- what was thrown below is caught above -/
theorem ncaught {sh : SH} {I : II} {e : Nat} {x : Int32} (hS : stN sh) (he : e < 6) (hx : (-1000000) - nI e = x) : (ock sh 1 1 <| bd2 (f_X0_finds sh 1 (up2 I 1 6 (nI e))) fun r I'' => some (r, I'')) = some (x, EN I e) := by
  have h := nbad (I := I) (A := fun _ _ => none) hS he hx
  unfold f_X0_need f_X1_of at h
  rw [if_pos (by decide), bd2_ok rfl, og_ok rfl, bd2_ok rfl] at h
  exact h
theorem act_10 {n : Nat} {S : SH} {I : II} {a1 a2 a3 : Int32} (h : Inv n S I) : Act n (f_arm_10 FU a1 a2 a3 S I) := by
  obtain ⟨ow, a, v, hO⟩ := h.op
  have hA := hO.aok
  unfold f_arm_10
  rcases case_cases hO a1 a2 with ⟨h1, h2⟩ | ⟨l, i, dm, cl, hl, rfl, hi, rfl, h1, h2, hD, hC, -⟩
  · refine Act.of (arm2 (r := -1000001) (I1 := EN I 1) ?_ ?_) (hO.bad (e := 1))
    · unfold f_X0_part f_X0_part_J64
      rw [bd2_ok h1]
      exact ncaught hO.1 (by decide) (by decide)
    · unfold f_X9_part f_X9_part_J18
      rw [h2 _ (EN_x (by decide) (by decide)) (tabEN hO.tab), Option.bind_some, if_pos (by decide)]
      exact mbad2 (by decide) (by decide)
  · have hk := (hA.2.2.2.2.1 l hl).1
    have hcN := (cN_le _ hk).1
    obtain ⟨c1, c2, c3, c4⟩ := cs_ok _ hk i hi
    have hip := isPair_ok hC hk hi
    obtain ⟨y1, y2, y3, ff, ss, gg, y4, y5, y6, y7, y8, y9, o1, o2, o3, y10⟩ := hC
    obtain ⟨q1, q2, q3⟩ := y10 i hi
    rcases in_cases a3 0 1 (by decide) (by decide) with ⟨g1, g2⟩ | ⟨p, -, p2, rfl, g1, g2⟩
    · refine Act.of (arm2 (r := -1000001) (I1 := EN I 1) ?_ ?_) (hO.bad (e := 1))
      · unfold f_X0_part f_X0_part_J64
        rw [bd2_ok h1]
        rw [oexL]
        rw [g1, Option.bind_some]
        exact nbad hO.1 (by decide) (by decide)
      · unfold f_X9_part f_X9_part_J18
        rw [h2 _ (EN_x (by decide) (by decide)) (tabEN hO.tab), Option.bind_some, if_neg (by decide), g2, Option.bind_some, if_pos (by decide)]
        exact mbad2 (by decide) (by decide)
    · by_cases hp : p = 0
      · subst hp
        refine Act.of (arm2 (r := nI (cH (cF (aK a l) + i))) (I1 := I) ?_ ?_) hO.same
        · unfold f_X0_part
          rw [bd2_ok h1]
          rw [oexL]
          rw [g1, Option.bind_some, ngood, if_pos (by decide)]
          unfold f_X0_part_J33 f_X0_part_J38
          rw [ngood, if_pos (by decide), ock_ok y1.r, orf_ok y4, oarw_ok y7, oix_ok (j := i) rfl (by omega) (by decide), q1]
        · unfold f_X9_part
          rw [h2 _ rfl hO.tab, Option.bind_some, if_neg (by decide), g2, Option.bind_some, if_neg (by decide), if_pos (by decide), hallOf_ok hO.row hA hO.tab hl hi]
          rfl
      · obtain rfl : p = 1 := by omega
        cases hpr : prd (aK a l) with
        | true =>
          obtain ⟨k1, k2, k3⟩ := c3 hpr
          refine Act.of (arm2 (r := nI (cK (cF (aK a l) + i))) (I1 := I) ?_ ?_) hO.same
          · unfold f_X0_part
            rw [bd2_ok h1]
            rw [oexL]
            rw [g1, Option.bind_some, ngood, if_neg (by decide), ock_ok y1.r, hip, bind_if, hpr, if_pos rfl]
            unfold f_X0_part_J33 f_X0_part_J38
            rw [ngood, if_neg (by decide), ock_ok y1.r, orf_ok y5, oarw_ok y8, oix_ok (j := i) rfl (by omega) (by decide), q2, k3]
          · unfold f_X9_part
            rw [h2 _ rfl hO.tab, Option.bind_some, if_neg (by decide), g2, Option.bind_some, if_neg (by decide), if_neg (by decide), hasOther_ok hO.row hA hl, bind_if, hpr, if_pos rfl, otherOf_ok hO.row hA hO.tab hl hi, k3]
            rfl
        | false =>
          refine Act.of (arm2 (r := -1000002) (I1 := EN I 2) ?_ ?_) (hO.bad (e := 2))
          · unfold f_X0_part
            rw [bd2_ok h1]
            rw [oexL]
            rw [g1, Option.bind_some, ngood, if_neg (by decide), ock_ok y1.r, hip, bind_if, hpr, if_neg (by decide)]
            unfold f_X0_part_J38 f_X0_part_J64
            exact nbad hO.1 (by decide) (by decide)
          · unfold f_X9_part
            rw [h2 _ (EN_x (by decide) (by decide)) (tabEN hO.tab), Option.bind_some, if_neg (by decide), g2, Option.bind_some, if_neg (by decide), if_neg (by decide), hasOther_ok (rowEN hO.row) hA hl, bind_if, hpr, if_neg (by decide)]
            exact mbad2 (by decide) (by decide)
theorem act_11 {n : Nat} {S : SH} {I : II} {a1 a2 a3 a4 : Int32} (h : Inv n S I) : Act n (f_arm_11 FU a1 a2 a3 a4 S I) := by
  obtain ⟨ow, a, v, hO⟩ := h.op
  have hA := hO.aok
  unfold f_arm_11
  rcases case_cases hO a1 a2 with ⟨h1, h2⟩ | ⟨l, i, dm, cl, hl, rfl, hi, rfl, h1, h2, hD, hC, hg⟩
  · refine Act.of (arm2 (r := -1000001) (I1 := EN I 1) ?_ ?_) (hO.bad (e := 1))
    · unfold f_X0_so f_X0_so_J85
      rw [bd2_ok h1]
      exact ncaught hO.1 (by decide) (by decide)
    · unfold f_X9_so f_X9_so_J32
      rw [h2 _ (EN_x (by decide) (by decide)) (tabEN hO.tab), Option.bind_some, if_pos (by decide)]
      exact mbad2 (by decide) (by decide)
  · have hk := (hA.2.2.2.2.1 l hl).1
    have hip := isPair_ok hC hk hi
    obtain ⟨hS, hM, -, hv, v1, -, -, -, -, ⟨al, b1, b2⟩, -⟩ := hO.vn
    have bad : ∀ (X : Option (Int32 × II)) (Y : II → Option (Int32 × II)), X = f_X0_so_J37 S (nI l) (nI i) a3 a4 cl I → Y (EN I 1) = f_X9_so_J32 (EN I 1) → Act n (bd2 X fun r1 I1 => bd2 (Y I1) fun r2 I2 => og (r1 = r2) <| some (S, I2)) := by
      intro X Y hX hY
      refine Act.of (arm2 (r := -1000001) (I1 := EN I 1) ?_ ?_) (hO.bad (e := 1))
      · rw [hX]
        unfold f_X0_so_J37 f_X0_so_J38 f_X0_so_J85
        exact nbad hO.1 (by decide) (by decide)
      · rw [hY]
        unfold f_X9_so_J32
        exact mbad2 (by decide) (by decide)
    have hN : f_X0_so S (nI l) (nI i) a3 a4 I = (f_X0_isChoice a3).bind fun r10 => if r10 = 0 then f_X0_so_J37 S (nI l) (nI i) a3 a4 cl I else if prd (aK a l) = true then (f_X0_isChoice a4).bind fun r27 => if r27 = 0 then f_X0_so_J37 S (nI l) (nI i) a3 a4 cl I else f_X0_so_J33 S (nI l) (nI i) a3 a4 cl I else f_X0_so_J33 S (nI l) (nI i) a3 a4 cl I := by
      unfold f_X0_so
      rw [bd2_ok h1]
      rw [oexL]
      rw [ock_ok hC.1.r, hip, bind_if]
    have hMM : ∀ I', I' 28 = I 28 → Tab I' → f_X9_so (nI l) (nI i) a3 a4 I' = (f_X9_isChoice a3).bind fun r10 => if r10 = 0 then f_X9_so_J32 I' else if prd (aK a l) = true then (f_X9_isChoice a4).bind fun r26 => if r26 = 0 then f_X9_so_J32 I' else f_X9_so_J39 (nI l) (nI i) a3 a4 I' else f_X9_so_J39 (nI l) (nI i) a3 a4 I' := by
      intro I' e hT
      have hR' : RowIs (I' 28) a := by rw [e]; exact hO.row
      unfold f_X9_so
      rw [h2 _ e hT, Option.bind_some, if_neg (by decide), hasOther_ok hR' hA hl, bind_if]
    have good : ∀ c d : Nat, 1 ≤ c → c ≤ 3 → 1 ≤ d → d ≤ 3 → ∀ y : Int32, (prd (aK a l) = true → y = nI d) → f_X0_so_J33 S (nI l) (nI i) (nI c) y cl I = some (bI (gob a l i c d), I) ∧ f_X9_so_J39 (nI l) (nI i) (nI c) y I = some (bI (gob a l i c d), I) := by
      intro c d c1 c3 d1 d3 y hy
      constructor
      · unfold f_X0_so_J33 f_X0_so_J38
        rw [ngood, orf_ok hv, ock_ok v1.r, orf_ok b1, ock_ok b2.1.r, hg al b1, Option.bind_some, ockD_ok hD.1.r hk, ock_ok hC.1.r, hip, bind_if]
        unfold f_X0_so_J73
        cases hp : prd (aK a l) with
        | true =>
          rw [if_pos rfl, hy hp, vgoes_ok hD hA hl hi c1 c3 d1 d3]
          cases gob a l i c d <;> rfl
        | false =>
          have e1 : gob a l i c 1 = gob a l i c d := by unfold gob; rw [hp]; rfl
          rw [if_neg (by decide), vgoes_ok hD hA hl hi c1 c3 (by decide) (by decide), e1]
          cases gob a l i c d <;> rfl
      · unfold f_X9_so_J39
        rw [mgoes_ok (d := d) hO.row hA hl hi c1 c3 (fun hp => ⟨hy hp, d1, d3⟩)]
        cases gob a l i c d <;> rfl
    rcases choice_cases a3 with ⟨g1, g2⟩ | ⟨c, c1, c3, rfl, g1, g2⟩
    · refine bad _ _ ?_ ?_
      · rw [hN, g1]; rfl
      · rw [hMM _ (EN_x (by decide) (by decide)) (tabEN hO.tab), g2]; rfl
    · cases hp : prd (aK a l) with
      | true =>
        rcases choice_cases a4 with ⟨k1, k2⟩ | ⟨d, d1, d3, rfl, k1, k2⟩
        · refine bad _ _ ?_ ?_
          · rw [hN, g1, hp, k1]; rfl
          · rw [hMM _ (EN_x (by decide) (by decide)) (tabEN hO.tab), g2, hp, k2]; rfl
        · obtain ⟨z1, z2⟩ := good c d c1 c3 d1 d3 (nI d) (fun _ => rfl)
          refine Act.of (arm2 (r := bI (gob a l i c d)) (I1 := I) ?_ ?_) hO.same
          · rw [hN, g1, hp, k1, ← z1]; rfl
          · rw [hMM _ rfl hO.tab, g2, hp, k2, ← z2]; rfl
      | false =>
        obtain ⟨z1, z2⟩ := good c 1 c1 c3 (by decide) (by decide) a4 (fun h => by rw [hp] at h; cases h)
        refine Act.of (arm2 (r := bI (gob a l i c 1)) (I1 := I) ?_ ?_) hO.same
        · rw [hN, g1, hp, ← z1]; rfl
        · rw [hMM _ rfl hO.tab, g2, hp, ← z2]; rfl
