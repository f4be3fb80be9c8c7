/-! PLAIN SIDE: act 32, joined -/
set_option maxRecDepth 100000
theorem act_32 {n : Nat} {S : SH} {I : II} {a1 a2 a3 a4 a5 : Int32} (h : Inv n S I) (hn : n < 64) : Act n (f_arm_32 FU a1 a2 a3 a4 a5 S I) := by
  obtain ⟨ow, a, v, hO⟩ := h.op
  have hM := hO.mrk
  have hS := hO.1
  have hsz := hO.sz
  have h48 := hO.h48
  have F5 := FU5
  have xA : exA = 1000000000 := rfl
  unfold f_arm_32
  have bad1 : ∀ (X : Option (Int32 × SH × II)) (Y : II → Option (Int32 × II)), X = omn3 S (f_X0_move_J19 FU a1 a2 a3 a4 a5 S I) → Y (EN I 1) = f_X9_move_J14 FU (EN I 1) → Act n (bd3 X (fun r1 S1 I1 => og (S.1 ≤ S1.1 ∧ S1.1 ≤ 36000) <| ost S1 <| ostM S1 <| bd2 (Y I1) fun r2 I2 => og (r1 = r2) <| some (S1, I2))) := by
    intro X Y hX hY
    refine hO.act3 (e := 1) (r := -1000001) hn ?_ ?_
    · rw [hX]
      unfold f_X0_move_J19 f_X0_move_J20 f_X0_move_J153
      exact omn3_ok (nbad3 hS (by decide) (by decide)) (Nat.le_refl _)
    · rw [hY]
      unfold f_X9_move_J14
      exact mbad2 (by decide) (by decide)
  rcases sheet_cases a1 with ⟨h1, h2⟩ | ⟨s, hs, rfl, h1, h2⟩
  · refine bad1 _ _ ?_ ?_
    · unfold f_X0_move; rw [h1]; rfl
    · unfold f_X9_move; rw [h2]; rfl
  rcases sheet_cases a3 with ⟨g1, g2⟩ | ⟨t, ht, rfl, g1, g2⟩
  · refine bad1 _ _ ?_ ?_
    · unfold f_X0_move; rw [h1, g1]; rfl
    · unfold f_X9_move; rw [h2, g2]; rfl
  have hN : f_X0_move FU S (nI s) a2 (nI t) a4 a5 I = omn3 S (f_X0_move_J20 FU (nI s) a2 (nI t) a4 a5 (nI 1) S I) := by
    unfold f_X0_move; rw [h1, g1]; rfl
  have bad2 : (f_X0_move FU S (nI s) a2 (nI t) a4 a5 I = some (-1000002, S, EN I 2)) → (f_X9_move FU (nI s) a2 (nI t) a4 a5 (EN I 2) = f_X9_move_J39 FU (EN I 2)) → Act n (bd3 (f_X0_move FU S (nI s) a2 (nI t) a4 a5 I) (fun r1 S1 I1 => og (S.1 ≤ S1.1 ∧ S1.1 ≤ 36000) <| ost S1 <| ostM S1 <| bd2 (f_X9_move FU (nI s) a2 (nI t) a4 a5 I1) fun r2 I2 => og (r1 = r2) <| some (S1, I2))) := by
    intro hX hY
    refine hO.act3 (e := 2) (r := -1000002) hn hX ?_
    rw [hY]
    unfold f_X9_move_J39
    exact mbad2 (by decide) (by decide)
  rcases sheet_at hS hs (hO.sht s hs) with ⟨e1, e2, -⟩ | ⟨q, w, r, m, e1, u1, hw, hq, hr, ha, hm, m40, u2, u3, u4⟩
  · refine bad2 ?_ ?_
    · rw [hN]
      unfold f_X0_move_J20 f_X0_move_J153
      rw [ngood3 hS, bd2_ok e1]
      exact omn3_ok (ncaught3 hS (by decide) (by decide)) (Nat.le_refl _)
    · unfold f_X9_move
      rw [h2, Option.bind_some, if_neg (by decide), g2, Option.bind_some, if_neg (by decide), oix_ok (j := s) rfl hs (by decide), EN_x (by decide) (by decide), if_pos e2]
  rcases sheet_at hS ht (hO.sht t ht) with ⟨e1', e2', -⟩ | ⟨q', w', r', m', e1', u1', hw', hq', hr', ha', hm', m40', u2', u3', u4'⟩
  · refine bad2 ?_ ?_
    · rw [hN]
      unfold f_X0_move_J20 f_X0_move_J153
      rw [ngood3 hS, bd2_ok e1, oexL, bd2_ok e1']
      exact omn3_ok (ncaught3 hS (by decide) (by decide)) (Nat.le_refl _)
    · unfold f_X9_move
      rw [h2, Option.bind_some, if_neg (by decide), g2, Option.bind_some, if_neg (by decide), oix_ok (j := s) rfl hs (by decide), EN_x (by decide) (by decide), u2, if_neg swd0, oix_ok (j := t) rfl ht (by decide), EN_x (by decide) (by decide), if_pos e2']
  have hN2 : f_X0_move FU S (nI s) a2 (nI t) a4 a5 I = omn3 S (if nI (swd w) = nI (swd w') then f_X0_move_J57 FU a2 a4 a5 q q' (nI 1) S I else f_X0_move_J57 FU a2 a4 a5 q q' (nI 0) S I) := by
    rw [hN]
    unfold f_X0_move_J20
    rw [ngood3 hS, bd2_ok e1, oexL, bd2_ok e1', oexL, width_ok hw hq, Option.bind_some, width_ok hw' hq', Option.bind_some]
  have hM2 : ∀ I', I' 44 = I 44 → I' 45 = I 45 → f_X9_move FU (nI s) a2 (nI t) a4 a5 I' = if nI (swd w) = nI (swd w') then (if a5 < 0 then f_X9_move_J117 FU I' else if a2 < 0 then f_X9_move_J117 FU I' else if a4 < 0 then f_X9_move_J117 FU I' else if 0 < (lg_cmp ((Int32.toInt64 a2) + (Int32.toInt64 a5)) (Int32.toInt64 (nI m))) then f_X9_move_J117 FU I' else if (lg_cmp ((Int32.toInt64 a4) + (Int32.toInt64 a5)) (Int32.toInt64 (nI m'))) ≤ 0 then f_X9_move_L127 FU (nI s) a2 (nI t) a4 a5 FU (nI 0) I' else f_X9_move_J117 FU I') else bd2 (f_X9_finding (-1000005) I') fun r64 I64 => some (r64, I64) := by
    intro I' e44 e45
    unfold f_X9_move
    rw [h2, Option.bind_some, if_neg (by decide), g2, Option.bind_some, if_neg (by decide), oix_ok (j := s) rfl hs (by decide), e44, u2, if_neg swd0, oix_ok (j := t) rfl ht (by decide), u2', if_neg swd0, oix_ok (j := s) rfl hs (by decide), oix_ok (j := t) rfl ht (by decide), oix_ok (j := s) rfl hs (by decide), oix_ok (j := t) rfl ht (by decide), e45, u3, u3', u2, u2']
  by_cases hww : ¬ w = w'
  · have hne : ¬ nI (swd w) = nI (swd w') := fun e => hww ((swd_inj hw hw').mp e)
    refine hO.act3 (e := 5) (r := -1000005) hn ?_ ?_
    · rw [hN2, if_neg hne]
      unfold f_X0_move_J57 f_X0_move_J153
      exact omn3_ok (nbad3 hS (by decide) (by decide)) (Nat.le_refl _)
    · rw [hM2 _ (EN_x (by decide) (by decide)) (EN_x (by decide) (by decide)), if_neg hne]
      exact mbad2 (by decide) (by decide)
  replace hww : w = w' := Classical.not_not.mp hww
  subst hww
  have badB : f_X0_move FU S (nI s) a2 (nI t) a4 a5 I = omn3 S (f_X0_move_J105 FU a2 a4 a5 q q' S I) → f_X9_move FU (nI s) a2 (nI t) a4 a5 (EN I 1) = f_X9_move_J117 FU (EN I 1) → Act n (bd3 (f_X0_move FU S (nI s) a2 (nI t) a4 a5 I) (fun r1 S1 I1 => og (S.1 ≤ S1.1 ∧ S1.1 ≤ 36000) <| ost S1 <| ostM S1 <| bd2 (f_X9_move FU (nI s) a2 (nI t) a4 a5 I1) fun r2 I2 => og (r1 = r2) <| some (S1, I2))) := by
    intro hX hY
    refine hO.act3 (e := 1) (r := -1000001) hn ?_ ?_
    · rw [hX]
      unfold f_X0_move_J105 f_X0_move_J106 f_X0_move_J153
      exact omn3_ok (nbad3 hS (by decide) (by decide)) (Nat.le_refl _)
    · rw [hY]
      unfold f_X9_move_J117
      exact mbad2 (by decide) (by decide)
  have hN3 : f_X0_move FU S (nI s) a2 (nI t) a4 a5 I = omn3 S (if a5 < 0 then f_X0_move_J105 FU a2 a4 a5 q q' S I else if a2 < 0 then f_X0_move_J105 FU a2 a4 a5 q q' S I else if a4 < 0 then f_X0_move_J105 FU a2 a4 a5 q q' S I else if (nI m - a5) < a2 then f_X0_move_J105 FU a2 a4 a5 q q' S I else if (nI m' - a5) < a4 then f_X0_move_J105 FU a2 a4 a5 q q' S I else f_X0_move_J106 FU a2 a4 a5 q q' (nI 1) S I) := by
    rw [hN2, if_pos rfl]
    unfold f_X0_move_J57
    rw [ngood3 hS, size_ok hw hq hr ha, Option.bind_some, size_ok hw hq' hr' ha', Option.bind_some]
  have hM3 := hM2 (EN I 1) (EN_x (by decide) (by decide)) (EN_x (by decide) (by decide))
  rw [if_pos rfl] at hM3
  by_cases c5 : a5 < 0
  · rw [if_pos c5] at hN3 hM3; exact badB hN3 hM3
  by_cases c2 : a2 < 0
  · rw [if_neg c5, if_pos c2] at hN3 hM3; exact badB hN3 hM3
  by_cases c4 : a4 < 0
  · rw [if_neg c5, if_neg c2, if_pos c4] at hN3 hM3; exact badB hN3 hM3
  rw [if_neg c5, if_neg c2, if_neg c4] at hN3 hM3
  obtain ⟨c, hc, rfl⟩ := nI_of c5
  obtain ⟨p, hp, rfl⟩ := nI_of c2
  obtain ⟨b, hb, rfl⟩ := nI_of c4
  by_cases d1 : m < p + c
  · rw [if_pos ((lcN hp hc m40).mpr d1)] at hN3
    rw [if_pos ((lc1 hp hc (by omega)).mpr d1)] at hM3
    exact badB hN3 hM3
  rw [if_neg (fun h => d1 ((lcN hp hc m40).mp h))] at hN3
  rw [if_neg (fun h => d1 ((lc1 hp hc (by omega)).mp h))] at hM3
  by_cases d2 : m' < b + c
  · rw [if_pos ((lcN hb hc m40').mpr d2)] at hN3
    rw [if_neg (fun h => by have := (lc2 hb hc (by omega)).mp h; omega)] at hM3
    exact badB hN3 hM3
  rw [if_neg (fun h => d2 ((lcN hb hc m40').mp h))] at hN3
  -- both move
  obtain ⟨I4, e4, k4, k5⟩ := row_ok (I := I) hS (by omega) hw hq hr ha m40
  have hr1 : r < S.1 := ha.1
  have hr1' : r' < S.1 := ha'.1
  have hq1' : q' < S.1 := hq'.1
  have g : Grw S (newS S 100 m) := ⟨Nat.le_succ _, fun x hx => nS_k (show x ≠ S.1 by omega), fun x k hx _ _ _ _ => by rw [nS_f (show x ≠ S.1 by omega)]⟩
  have hS' := stN_grow hS g
  have p1 : obw (newS S 100 m) q' (24 + w) := ⟨Nat.lt_succ_of_lt hq1', by rw [nS_k (by omega)]; exact hq'.2⟩
  have p2 : (newS S 100 m).2.2 q' 0 = some r' := by rw [nS_f (by omega)]; exact hr'
  have p3 : arw (newS S 100 m) r' (skd w) m' := ⟨Nat.lt_succ_of_lt hr1', by rw [nS_k (by omega)]; exact ha'.2⟩
  have p4 : arw (newS S 100 m) S.1 100 m := ⟨Nat.lt_succ_self _, nS_kn⟩
  have nar := narrow (hO.sht s hs) u1 hq hr ha
  have nar' := narrow (hO.sht t ht) u1' hq' hr' ha'
  have lN : ∀ (d k z : Nat) (I3 : II), k + d = c → d + 1 ≤ z → (∀ x, x ≠ r' → I3 x = I4 x) → (∀ j, I3 r' j = if b ≤ j ∧ j < b + k then I r (p + (j - b)) else I r' j) → ∃ I5, f_X0_move_L120 FU (nI p) (nI b) (nI c) q' S.1 z (nI k) (newS S 100 m) I3 = some (nI c, newS S 100 m, I5) ∧ (∀ x, x ≠ r' → I5 x = I4 x) ∧ ∀ j, I5 r' j = if b ≤ j ∧ j < b + c then I r (p + (j - b)) else I r' j := by
    intro d
    induction d with
    | zero =>
      intro k z I3 hk hz k1 k2
      obtain ⟨z, rfl⟩ := pred1 hz
      have hkc : k = c := by omega
      refine ⟨I3, ?_, k1, by rw [← hkc]; exact k2⟩
      rw [f_X0_move_L120, if_pos (nI_le (by omega) (by omega))]
    | succ d ih =>
      intro k z I3 hk hz k1 k2
      obtain ⟨z, rfl⟩ := pred1 hz
      replace hz := Nat.le_of_succ_le_succ hz
      rw [f_X0_move_L120, if_neg (nI_ge (by omega) (by omega)), oarw_ok p4, oix_ok (j := p + k) (by rw [nI_add]) (by omega) (by omega), ost_ok hS', nI_add b, put_ok hw p1 p2 p3 m40' (by omega), Option.bind_some, k1 S.1 (by omega), k5 (p + k) (by omega), nar (p + k) (by omega), nI_add]
      refine ih (k + 1) z _ (by omega) hz (fun x hx => by rw [up2_n hx]; exact k1 x hx) (fun j => ?_)
      by_cases e : j = b + k
      · subst e; rw [up2_eq, if_pos (by omega), Nat.add_sub_cancel_left]
      · rw [up2_ne e, k2 j]
        by_cases e2 : b ≤ j ∧ j < b + k
        · rw [if_pos e2, if_pos (by omega)]
        · rw [if_neg e2, if_neg (by omega)]
  obtain ⟨I5, e5, k6, k7⟩ := lN c 0 FU I4 (by omega) (by omega) (fun _ _ => rfl) (fun j => by rw [if_neg (by omega), k4 r' (by omega)])
  have fr : ∀ x, x ≠ S.1 → x ≠ r' → I5 x = I x := fun x x1 x2 => by rw [k6 x x2, k4 x x1]
  have nr' : ∀ y, y < 48 → ¬ (2 ≤ y ∧ y ≤ 6) → y ≠ r' := fun y y1 y2 => (hM.ne (by rw [hm']; omega) y1 y2).symm
  have i46 : I5 46 = I 46 := fr 46 (by omega) (nr' 46 (by decide) (by decide))
  obtain ⟨I2, e2, f2, f3⟩ := moveM (I := I5) hs ht (show p + c ≤ 40 by omega) (show b + c ≤ 40 by omega)
  have hM4 := hM2 I5 (fr 44 (by omega) (nr' 44 (by decide) (by decide))) (fr 45 (by omega) (nr' 45 (by decide) (by decide)))
  rw [if_pos rfl, if_neg c5, if_neg c2, if_neg c4, if_neg (fun h => d1 ((lc1 hp hc (by omega)).mp h)), if_pos ((lc2 hb hc (by omega)).mpr (by omega)), e2] at hM4
  have ff : ∀ x, x ≠ S.1 → x ≠ r' → x ≠ 46 → x ≠ 47 → I2 x = I x := fun x x1 x2 x3 x4 => by rw [f2 x x3 x4, fr x x1 x2]
  refine Act.of3 (hO.grow2 (ow' := ow) (by omega) g (show S.1 + 1 ≤ _ by omega) (fun x hx x0 _ _ x3 x4 => ff x (by omega) (fun e => x4 (by rw [e, hm']; omega)) x3 (fun e => x0 (by rw [e]; unfold scr; decide))) (by rw [ff 27 (by omega) (nr' 27 (by decide) (by decide)) (by decide) (by decide)]) (by rw [ff 27 (by omega) (nr' 27 (by decide) (by decide)) (by decide) (by decide)]) (nS_f (by omega)) (fun x x1 _ => nS_f (by omega)) (fun _ _ => rfl) (fun s' hs' => ?_)) (arm3 (r := nI c) (I1 := I5) (I2 := I2) ?_ (Nat.le_succ _) (show S.1 + 1 ≤ 36000 by omega) hS' (StM_grow hO.stM g) hM4)
  · have h44 : I2 44 = I 44 := ff 44 (by omega) (nr' 44 (by decide) (by decide)) (by decide) (by decide)
    have h45 : I2 45 = I 45 := ff 45 (by omega) (nr' 45 (by decide) (by decide)) (by decide) (by decide)
    by_cases es : s' = t
    · subst es
      refine Or.inr ⟨q', w, r', m', by rw [nS_f (by omega)]; exact u1', hw, p1, p2, p3, hm', m40', by rw [h44]; exact u2', by rw [h45]; exact u3', fun k hk => ?_⟩
      have n46 : r' ≠ 46 := (nr' 46 (by decide) (by decide)).symm
      have n47 : r' ≠ 47 := (nr' 47 (by decide) (by decide)).symm
      rw [f2 r' n46 n47, k7 k, f3, i46]
      by_cases e : b ≤ k ∧ k < b + c
      · rw [if_pos e, if_pos (by omega)]
        refine ⟨?_, nar _ (by omega)⟩
        rw [u4 (p + (k - b)) (by omega)]
        congr 1
        omega
      · rw [if_neg e, if_neg (by omega)]
        exact ⟨u4' k hk, nar' k hk⟩
    · exact (hO.sht s' hs').grow hS hs' g (by rw [nS_f (by omega)]) (fun x x1 x2 => ⟨ff x (by omega) (fun e => by rw [e, hm'] at x2; omega) (hM.ne (by rw [x2]; omega) (by decide) (by decide)) (hM.ne (by rw [x2]; omega) (by decide) (by decide)), rfl⟩) (by rw [h44]) (by rw [h45]) (fun k hk => by rw [f3, if_neg (by omega), i46])
  · rw [hN3]
    unfold f_X0_move_J106
    rw [ngood3 hS, bd3_ok e4, og_ok (show S.1 ≤ (newS S 100 m).1 from Nat.le_succ _), e5]
    exact omn3_ok (omn3_ok rfl (Nat.le_refl _)) (Nat.le_succ _)
