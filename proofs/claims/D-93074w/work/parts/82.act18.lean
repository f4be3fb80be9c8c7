/-! PLAIN SIDE: act 18 -/
set_option maxRecDepth 100000
theorem seekNear_s {F d : Nat} {x y : Int32} {I : II} : f_X9_seekNear F (d + 1) x y I = fb_X9_seekNear F (f_X9_seekNear F d) x y I := rfl
theorem seekNear_ok {P M R : Nat → Nat} (hR : ∀ k, k < 12 → 1 ≤ R k ∧ R k ≤ 3) : ∀ (n h d : Nat) (I : II) (r : Nat → Nat) (left : Nat), h + n = 12 → n + 1 ≤ d → left ≤ 20 → MW3 I P M → (∀ k, k < 12 → I 28 (10 + k) = nI (R k)) → (∀ k, k < h → I 39 k = nI (r k) ∧ 1 ≤ r k ∧ r k ≤ 3) → ∃ (b : Bool) (I' : II), f_X9_seekNear FU d (nI h) (nI left) I = some (bI b, I') ∧ (∀ x, x ≠ 39 → I' x = I x) ∧ (∀ k, k < h → I' 39 k = I 39 k) ∧ (b = true ↔ ∃ r', CpF P M 4095 h r r' ∧ ds 4095 R r' n h ≤ left) := by
  have F5 := FU5
  intro n
  induction n with
  | zero =>
    intro h d I r left hn hd hl hW hT hr
    obtain ⟨d, rfl⟩ := pred1 hd
    obtain rfl : h = 12 := by omega
    refine ⟨true, I, ?_, fun _ _ => rfl, fun _ _ => rfl, fun _ => ⟨r, ⟨fun _ _ => rfl, fun k k1 k2 => by omega⟩, Nat.zero_le _⟩, fun _ => rfl⟩
    rw [seekNear_s]
    unfold fb_X9_seekNear
    rw [if_pos rfl]
    rfl
  | succ n ih =>
    intro h d I r left hn hd hl hW hT hr
    obtain ⟨d, rfl⟩ := pred1 hd
    replace hd := Nat.le_of_succ_le_succ hd
    have hh : h < 12 := by omega
    rw [seekNear_s]
    unfold fb_X9_seekNear
    rw [if_neg (by rw [nI_eq (by omega) (by omega)]; omega)]
    have loop : ∀ (m c q : Nat) (I1 : II), c + m = 4 → 1 ≤ c → m + 1 ≤ q → (∀ x, x ≠ 39 → I1 x = I x) → (∀ k, k < h → I1 39 k = I 39 k) → ∃ (b : Bool) (I' : II), f_X9_seekNear_L10 FU (f_X9_seekNear FU d) (nI h) (nI left) q (nI c) I1 = some (bI b, I') ∧ (∀ x, x ≠ 39 → I' x = I x) ∧ (∀ k, k < h → I' 39 k = I 39 k) ∧ (b = true ↔ ∃ r', CpF P M 4095 h r r' ∧ c ≤ r' h ∧ ds 4095 R r' (n + 1) h ≤ left) := by
      intro m
      induction m with
      | zero =>
        intro c q I1 hc c1 hq g1 g2
        obtain ⟨q, rfl⟩ := pred1 hq
        obtain rfl : c = 4 := by omega
        refine ⟨false, I1, ?_, g1, g2, fun h => (by cases h), fun ⟨r', q1, q2, _⟩ => ?_⟩
        · rw [f_X9_seekNear_L10, if_pos (by decide)]
          rfl
        · have := (q1.2 h (by omega) hh (all_bit h hh)).2.1
          omega
      | succ m im =>
        intro c q I1 hc c1 hq g1 g2
        obtain ⟨q, rfl⟩ := pred1 hq
        replace hq := Nat.le_of_succ_le_succ hq
        have hW1 : MW3 I1 P M := hW.of (g1 37 (by decide)) (g1 38 (by decide))
        have hr1 : ∀ k, k < h → I1 39 k = nI (r k) ∧ 1 ≤ r k ∧ r k ≤ 3 := fun k k1 => by rw [g2 k k1]; exact hr k k1
        -- the rest of the choices
        obtain ⟨b9, I9, n1, n2, n3, n4⟩ := im (c + 1) q I1 (by omega) (by omega) hq g1 g2
        have hds : ∀ r', r' h = c → ds 4095 R r' (n + 1) h = (if c = R h then 0 else 1) + ds 4095 R r' n (h + 1) := by
          intro r' hr'
          rw [ds, hr']
          by_cases e : c = R h
          · rw [if_neg (by simp [e]), if_pos e]
          · rw [if_pos ⟨all_bit h hh, e⟩, if_neg e]
        -- not this choice
        have skip : (∀ r', CpF P M 4095 h r r' → r' h = c → ¬ ds 4095 R r' (n + 1) h ≤ left) → ∀ (I2 : II), (∀ x, x ≠ 39 → I2 x = I x) → (∀ k, k < h → I2 39 k = I 39 k) → ∃ (b : Bool) (I' : II), f_X9_seekNear_L10 FU (f_X9_seekNear FU d) (nI h) (nI left) q (nI (c + 1)) I2 = some (bI b, I') ∧ (∀ x, x ≠ 39 → I' x = I x) ∧ (∀ k, k < h → I' 39 k = I 39 k) ∧ (b = true ↔ ∃ r', CpF P M 4095 h r r' ∧ c ≤ r' h ∧ ds 4095 R r' (n + 1) h ≤ left) := by
          intro hno I2 k1 k2
          obtain ⟨b, I', e1, e2, e3, e4⟩ := im (c + 1) q I2 (by omega) (by omega) hq k1 k2
          refine ⟨b, I', e1, e2, e3, ?_⟩
          rw [e4]
          constructor
          · rintro ⟨r', a1, a2, a3⟩
            exact ⟨r', a1, by omega, a3⟩
          · rintro ⟨r', a1, a2, a3⟩
            refine ⟨r', a1, ?_, a3⟩
            have : r' h ≠ c := fun e => hno r' a1 e a3
            omega
        -- this choice with what is left behind it
        have go : ∀ rest : Nat, rest + (if c = R h then 0 else 1) = left → ∃ (b : Bool) (I' : II), ((f_X9_fitsAhead FU (nI h) (nI c) (nI 4095) I1).bind fun r48 => if r48 = 0 then f_X9_seekNear_L10 FU (f_X9_seekNear FU d) (nI h) (nI left) q (nI (c + 1)) I1 else oix (nI h) 12 fun i60 => bd2 (f_X9_seekNear FU d (nI (h + 1)) (nI rest) (up2 I1 39 i60 (nI c))) fun r67 I67 => if r67 = 0 then f_X9_seekNear_L10 FU (f_X9_seekNear FU d) (nI h) (nI left) q (nI (c + 1)) I67 else some ((nI 1), I67)) = some (bI b, I') ∧ (∀ x, x ≠ 39 → I' x = I x) ∧ (∀ k, k < h → I' 39 k = I 39 k) ∧ (b = true ↔ ∃ r', CpF P M 4095 h r r' ∧ c ≤ r' h ∧ ds 4095 R r' (n + 1) h ≤ left) := by
          intro rest hrest
          rw [fa_ok (H := 4095) (r := r) hW1 hh c1 (by omega) (by decide) (fun k hk _ => hr1 k hk), bind_if]
          by_cases hcc : can P M 4095 r h h c = true
          · rw [if_pos hcc, oix_ok (j := h) rfl hh (by decide)]
            obtain ⟨b, I2, e1, e2, e3, e4⟩ := ih (h + 1) d (up2 I1 39 h (nI c)) (upN r h c) rest (by omega) hd (by omega) (hW1.of (up2_n (by decide)) (up2_n (by decide))) (fun k hk => by rw [up2_n (by decide), g1 28 (by decide)]; exact hT k hk) (fun k hk => by
              by_cases e : k = h
              · subst e; rw [up2_eq, upN_s]; exact ⟨rfl, c1, by omega⟩
              · rw [up2_ne e, upN_n e]; exact hr1 k (by omega))
            have hiff : ∀ r', CpF P M 4095 (h + 1) (upN r h c) r' ↔ CpF P M 4095 h r r' ∧ r' h = c := by
              intro r'
              constructor
              · rintro ⟨b1, b2⟩
                have hc' : r' h = c := by rw [b1 h (by omega), upN_s]
                have hlow : ∀ i, i < h → r' i = r i := fun i hi => by rw [b1 i (by omega), upN_n (by omega)]
                refine ⟨⟨hlow, fun k k1 k2 hk => ?_⟩, hc'⟩
                by_cases e : k = h
                · subst e
                  rw [hc', can_congr (r := r) (fun i hi _ => hlow i hi)]
                  exact ⟨c1, by omega, hcc⟩
                · exact b2 k (by omega) k2 hk
              · rintro ⟨⟨b1, b2⟩, b3⟩
                refine ⟨fun i hi => ?_, fun k k1 k2 hk => b2 k (by omega) k2 hk⟩
                by_cases e : i = h
                · rw [e, upN_s, b3]
                · rw [upN_n e, b1 i (by omega)]
            rw [bd2_ok e1]
            have k1 : ∀ x, x ≠ 39 → I2 x = I x := fun x hx => by rw [e2 x hx, up2_n hx, g1 x hx]
            have k2 : ∀ k, k < h → I2 39 k = I 39 k := fun k hk => by rw [e3 k (by omega), up2_ne (by omega), g2 k hk]
            cases b with
            | false =>
              rw [if_pos (show bI false = 0 from rfl)]
              refine skip (fun r' q1 q2 q3 => ?_) I2 k1 k2
              rw [hds r' q2] at q3
              have := e4.mpr ⟨r', (hiff r').mpr ⟨q1, q2⟩, by omega⟩
              cases this
            | true =>
              rw [if_neg (show ¬ bI true = 0 by decide)]
              obtain ⟨r', q1, q2⟩ := e4.mp rfl
              obtain ⟨q3, q4⟩ := (hiff r').mp q1
              refine ⟨true, I2, rfl, k1, k2, fun _ => ⟨r', q3, by omega, ?_⟩, fun _ => rfl⟩
              rw [hds r' q4]
              omega
          · rw [if_neg hcc]
            refine skip (fun r' q1 q2 _ => hcc ?_) I1 g1 g2
            have := (q1.2 h (by omega) hh (all_bit h hh)).2.2
            rw [q2, can_congr (r := r) (fun i hi _ => q1.1 i hi)] at this
            exact this
        rw [f_X9_seekNear_L10, if_neg (nI_nlt (by omega) (by omega)), oix_ok (j := 10 + h) (by rw [nI_add]) (by omega) (by decide), g1 28 (by decide), hT h hh]
        unfold f_X9_seekNear_J35
        rw [nI_add, nI_add]
        by_cases hco : c = R h
        · rw [if_pos (by rw [hco]), if_neg (nI_pos (by omega))]
          exact go left (by rw [if_pos hco]; rfl)
        · rw [if_neg (by rw [nI_eq (by omega) (by have := (hR h hh).2; omega)]; exact hco)]
          by_cases hl0 : left = 0
          · rw [hl0, if_pos (by decide)]
            have := skip (fun r' q1 q2 q3 => ?_) I1 g1 g2
            · rw [hl0] at this
              exact this
            · rw [hds r' q2, if_neg hco] at q3
              omega
          · rw [pk_sub (by omega), if_neg (nI_pos (by omega))]
            exact go (left - 1) (by rw [if_neg hco]; omega)
    obtain ⟨b, I', e1, e2, e3, e4⟩ := loop 3 1 FU I rfl (by omega) (by omega) (fun _ _ => rfl) (fun _ _ => rfl)
    refine ⟨b, I', e1, e2, e3, ?_⟩
    rw [e4]
    constructor
    · rintro ⟨r', a1, a2, a3⟩
      exact ⟨r', a1, a3⟩
    · rintro ⟨r', a1, a3⟩
      exact ⟨r', a1, (a1.2 h (by omega) hh (all_bit h hh)).1, a3⟩
theorem isOut_ok3 {sh : SH} {I : II} {ow : Nat → Nat} {a : AS} {v s : Nat} (h : VN sh I ow a v) (hs : s < 256) : ∃ I', f_X0_isOut FU sh (nI s) I = some (bI (rul a s).isNone, I') ∧ (∀ x, x ≠ 11 → x ≠ 13 → x ≠ 14 → x ≠ 15 → x ≠ 16 → I' x = I x) ∧ WN I' (web a s).1 (web a s).2 := by
  obtain ⟨I1, e1, g1⟩ := weave_ok h hs
  obtain ⟨I2, e2, b1, b2, b3, b4⟩ := begin_ok (sh := sh) (I := I1) (H := 4095)
  have hw := web_ok a s
  obtain ⟨b, I3, e3, s1, s2⟩ := nfind_ok (sh := sh) (I := I2) (P := (web a s).1) (M := (web a s).2) (H := 4095) (by decide) (fun x y h1 h2 => by rw [b1 14 (by decide) (by decide)]; exact ⟨(g1.2.2 x y h1 h2).1, hw.1 _⟩) b3 (fun x hx => by rw [b4 x hx]; exact ⟨g1.2.1 x hx, hw.2 x⟩)
  have hW : WN I1 (web a s).1 (web a s).2 := ⟨g1.2.1, g1.2.2⟩
  refine ⟨I3, ?_, fun x x1 x2 x3 x4 x5 => by rw [s1 x x4 x5, b1 x x1 x4, g1.1 x x2 x3], hW.of (by rw [s1 13 (by decide) (by decide), b1 13 (by decide) (by decide)]) (by rw [s1 14 (by decide) (by decide), b1 14 (by decide) (by decide)])⟩
  unfold f_X0_isOut
  rw [bind_ok e1, bind_ok e2, bd2_ok e3]
  unfold rul
  cases ho : skR (web a s).1 (web a s).2 4095 12 0 (fun _ => 0) with
  | none => rw [ho] at s2; have s2 : b = nI 0 := s2; rw [s2, if_pos (by decide)]; rfl
  | some z => rw [ho] at s2; rw [s2.1, if_neg (by decide)]; rfl
theorem act_18 {n : Nat} {S : SH} {I : II} {a1 : Int32} (h : Inv n S I) : Act n (f_arm_18 FU a1 S I) := by
  obtain ⟨ow, a, v, hO⟩ := h.op
  have hA := hO.aok
  have hM := hO.mrk
  have F5 := FU5
  unfold f_arm_18
  rcases set_cases hO a1 with ⟨h1, h2⟩ | ⟨s, -, hs, rfl, h1, h2⟩
  · refine Act.of (arm2 (r := -1000001) (I1 := EN I 1) ?_ ?_) (hO.bad (e := 1))
    · unfold f_X0_near f_X0_near_J43
      rw [h1, Option.bind_some]
      exact nbad hO.1 (by decide) (by decide)
    · unfold f_X9_near
      rw [isSetEN, h2, Option.bind_some, if_pos (by decide)]
      exact mbad2 (by decide) (by decide)
  · obtain ⟨I1, e1, f1, hW⟩ := isOut_ok3 hO.vn hs
    have hw := web_ok a s
    have r1 : RowIs (I1 28) a := by rw [f1 28 (by decide) (by decide) (by decide) (by decide) (by decide)]; exact hO.row
    have t1 : Tab I1 := hO.tab.of (f1 _ (by decide) (by decide) (by decide) (by decide) (by decide)) (f1 _ (by decide) (by decide) (by decide) (by decide) (by decide)) (f1 _ (by decide) (by decide) (by decide) (by decide) (by decide)) (f1 _ (by decide) (by decide) (by decide) (by decide) (by decide))
    cases hr : rul a s with
    | none =>
      rw [hr] at e1
      obtain ⟨I2, e2, f2, -⟩ := fitsSome_ok2 (rowEN (e := 2) r1) hA (tabEN (e := 2) t1) hs
      rw [hr] at e2
      refine Act.of (arm2 (r := -1000002) (I1 := EN I1 2) (I2 := EM I2 2) ?_ ?_) (hO.bad2 f1 f2)
      · unfold f_X0_near
        rw [h1, Option.bind_some, ngood, bd2_ok e1, if_neg (show ¬ bI (none : Option (Nat → Nat)).isNone = 0 from (show ¬ bI true = 0 by decide))]
        unfold f_X0_near_J24 f_X0_near_J43
        exact nbad hO.1 (by decide) (by decide)
      · unfold f_X9_near
        rw [isSetEN, isSet_congr (f1 28 (by decide) (by decide) (by decide) (by decide) (by decide)), h2, Option.bind_some, if_neg (by decide), bd2_ok e2, if_pos (show bI (none : Option (Nat → Nat)).isSome = 0 from rfl)]
        exact mbad2 (by decide) (by decide)
    | some r0 =>
      rw [hr] at e1
      obtain ⟨-, -, -, hv, z1, z2, z3, z4, ⟨tl, y1, y2, y3, y4⟩, -⟩ := hO.vn
      have t9 : ow tl ≠ 9 := by rw [y3]; decide
      have tn : ∀ b, b < 48 → ¬ (2 ≤ b ∧ b ≤ 6) → tl ≠ b := fun b b1 b2 => hM.ne t9 b1 b2
      obtain ⟨rf, hf⟩ := skR_iff.mp (show (skR (web a s).1 (web a s).2 4095 12 0 (fun _ => 0)).isSome = true by unfold rul at hr; rw [hr]; rfl)
      have h0 : FtH (web a s).1 (web a s).2 4095 rf := fun k hk _ => by
        obtain ⟨c1, c2, c3⟩ := hf.1 k hk
        exact ⟨c1, c2, can_iff.mpr ⟨c3, fun i hi _ => hf.2 i k hi hk⟩⟩
      obtain ⟨I2, X, e2, hX, g2⟩ := nearest_ok (sh := S) (R := aR a) hW hw.1 hw.2 y2 (tn 11 (by decide) (by decide)) (tn 15 (by decide) (by decide)) hA.2.2.2.1 (fun k hk => by rw [f1 tl (tn 11 (by decide) (by decide)) (tn 13 (by decide) (by decide)) (tn 14 (by decide) (by decide)) (tn 15 (by decide) (by decide)) (tn 16 (by decide) (by decide))]; exact y4 k hk) h0
      have f2 : ∀ x, x ≠ 11 → x ≠ 13 → x ≠ 14 → x ≠ 15 → x ≠ 16 → I2 x = I x := fun x x1 x2 x3 x4 x5 => by rw [g2 x x1 x4, f1 x x1 x2 x3 x4 x5]
      have r2 : RowIs (I2 28) a := by rw [f2 28 (by decide) (by decide) (by decide) (by decide) (by decide)]; exact hO.row
      have t2 : Tab I2 := hO.tab.of (f2 _ (by decide) (by decide) (by decide) (by decide) (by decide)) (f2 _ (by decide) (by decide) (by decide) (by decide) (by decide)) (f2 _ (by decide) (by decide) (by decide) (by decide) (by decide)) (f2 _ (by decide) (by decide) (by decide) (by decide) (by decide))
      obtain ⟨I3, e3, f3, w3⟩ := fitsSome_ok2 r2 hA t2 hs
      rw [hr] at e3
      have hX12 : X ≤ 12 := by
        obtain ⟨⟨r, -, e⟩, -⟩ := hX
        rw [e]
        exact ds_le 12 0
      have hcp : ∀ r, FtH (web a s).1 (web a s).2 4095 r ↔ CpF (web a s).1 (web a s).2 4095 0 (fun _ => 0) r := fun r => ⟨fun hr => ⟨fun i hi => by omega, fun k _ hk hb => hr k hk hb⟩, fun hr k hk hb => hr.2 k (by omega) hk hb⟩
      have loop : ∀ (d k q : Nat) (J : II), k + d = X → d + 1 ≤ q → (∀ x, x ≠ 39 → J x = I3 x) → ∃ I4, f_X9_near_L32 FU q (nI k) J = some (nI X, I4) ∧ ∀ x, x ≠ 39 → I4 x = I3 x := by
        intro d
        induction d with
        | zero =>
          intro k q J hk hq hJ
          obtain ⟨q, rfl⟩ := pred1 hq
          obtain rfl : k = X := by omega
          obtain ⟨b, I4, c1, c2, -, c4⟩ := seekNear_ok (P := (web a s).1) (M := (web a s).2) (R := aR a) hA.2.2.2.1 12 0 13 J (fun _ => 0) k rfl (by omega) (by omega) (w3.of (hJ 37 (by decide)) (hJ 38 (by decide))) (fun j hj => by rw [hJ 28 (by decide), f3 28 (by decide) (by decide) (by decide)]; exact r2.2.2.2.1 j hj) (fun j hj => by omega)
          obtain ⟨⟨r, q1, q2⟩, -⟩ := hX
          have hb : b = true := c4.mpr ⟨r, (hcp r).mp q1, by omega⟩
          rw [hb] at c1
          refine ⟨I4, ?_, fun x hx => by rw [c2 x hx, hJ x hx]⟩
          rw [f_X9_near_L32, bd2_ok c1, if_neg (show ¬ bI true = 0 by decide)]
        | succ d ih =>
          intro k q J hk hq hJ
          obtain ⟨q, rfl⟩ := pred1 hq
          replace hq := Nat.le_of_succ_le_succ hq
          obtain ⟨b, I4, c1, c2, -, c4⟩ := seekNear_ok (P := (web a s).1) (M := (web a s).2) (R := aR a) hA.2.2.2.1 12 0 13 J (fun _ => 0) k rfl (by omega) (by omega) (w3.of (hJ 37 (by decide)) (hJ 38 (by decide))) (fun j hj => by rw [hJ 28 (by decide), f3 28 (by decide) (by decide) (by decide)]; exact r2.2.2.2.1 j hj) (fun j hj => by omega)
          have hb : b = false := by
            cases hb : b with
            | false => rfl
            | true =>
              obtain ⟨r, q1, q2⟩ := c4.mp hb
              have := hX.2 r ((hcp r).mpr q1)
              omega
          rw [hb] at c1
          rw [f_X9_near_L32, bd2_ok c1, if_pos (show bI false = 0 from rfl), nI_add]
          exact ih (k + 1) q I4 (by omega) hq (fun x hx => by rw [c2 x hx, hJ x hx])
      obtain ⟨I4, e4, f4⟩ := loop X 0 FU I3 (by omega) (by omega) (fun _ _ => rfl)
      refine Act.of (arm2 (r := nI X) (I1 := I2) (I2 := I4) ?_ ?_) (hO.good2 f2 (fun x x1 x2 x3 => by rw [f4 x x3, f3 x x1 x2 x3]))
      · unfold f_X0_near
        rw [h1, Option.bind_some, ngood, bd2_ok e1, if_pos (show bI (some r0).isNone = 0 from rfl)]
        unfold f_X0_near_J24
        rw [ngood, orf_ok hv, ock_ok z1.r, orf_ok y1, bd2_ok e2]
      · unfold f_X9_near
        rw [isSet_congr (f2 28 (by decide) (by decide) (by decide) (by decide) (by decide)), h2, Option.bind_some, if_neg (by decide), bd2_ok e3, if_neg (show ¬ bI (some r0).isSome = 0 from (show ¬ bI true = 0 by decide))]
        exact e4
