/-! PLAIN SIDE: sheets -/
set_option maxRecDepth 100000
abbrev skd (w : Nat) : Nat := if w = 0 then 101 else if w = 1 then 102 else 100
abbrev swd (w : Nat) : Nat := if w = 0 then 8 else if w = 1 then 16 else 32
theorem st22 {S : SH} (h : stN S) {s : Nat} (hs : s < 4) : S.2.2 22 s = some (23 + s) ∧ obw S (23 + s) 9 := by
  have hc : s = 0 ∨ s = 1 ∨ s = 2 ∨ s = 3 := by omega
  rcases hc with rfl | rfl | rfl | rfl
  · exact ⟨stN_r22_0 h, stN_o23 h⟩
  · exact ⟨stN_r22_1 h, stN_o24 h⟩
  · exact ⟨stN_r22_2 h, stN_o25 h⟩
  · exact ⟨stN_r22_3 h, stN_o26 h⟩
theorem ockH_ok {β : Type} {S : SH} {q w : Nat} {f : Option β} (h : obw S q (24 + w)) (hw : w < 3) : ockH S q f = f := if_pos ⟨Or.inl h.1, by rw [h.2]; omega⟩
theorem sheet_at {S : SH} {I : II} {ow : Nat → Nat} {s : Nat} (hS : stN S) (hs : s < 4) (h : Sht S I ow s) : (f_X0_sheetAt S (nI s) I = some (.inr 1, up2 I 1 6 (nI 2)) ∧ I 44 s = 0 ∧ S.2.2 (23 + s) 0 = none) ∨ ∃ q w r m : Nat, f_X0_sheetAt S (nI s) I = some (.inl q, I) ∧ S.2.2 (23 + s) 0 = some q ∧ w < 3 ∧ obw S q (24 + w) ∧ S.2.2 q 0 = some r ∧ arw S r (skd w) m ∧ ow r = 10 + s ∧ m ≤ 40 ∧ I 44 s = nI (swd w) ∧ I 45 s = nI m ∧ ∀ k, k < m → I r k = I 46 (40 * s + k) := by
  obtain ⟨e1, e2⟩ := st22 hS hs
  rcases h with ⟨h1, h2, h3⟩ | ⟨q, w, r, n, h1, h2, h3, h4, h5, h6, h7, h8, h9, h10⟩
  · left
    refine ⟨?_, h2, h1⟩
    unfold f_X0_sheetAt
    rw [oix_ok (j := s) rfl hs (by decide), orf_ok e1, ock_ok e2.r, if_pos h1]
    rfl
  · right
    refine ⟨q, w, r, n, ?_, h1, h2, h3, h4, h5, h6, h7, h8, h9, fun k hk => (h10 k hk).1⟩
    unfold f_X0_sheetAt
    rw [oix_ok (j := s) rfl hs (by decide), orf_ok e1, ock_ok e2.r, if_neg (by rw [h1]; simp)]
    unfold f_X0_sheetAt_J18
    rw [ngood, oix_ok (j := s) rfl hs (by decide), orf_ok e1, ock_ok e2.r, orf_ok h1, ockH_ok h3 h2]
theorem swd0 {w : Nat} : nI (swd w) ≠ 0 := by
  unfold swd
  split
  · decide
  · split <;> decide
theorem w3 {w : Nat} (h : w < 3) : w = 0 ∨ w = 1 ∨ w = 2 := by omega
theorem size_ok {S : SH} {I : II} {q w r m : Nat} (hw : w < 3) (h : obw S q (24 + w)) (hr : S.2.2 q 0 = some r) (ha : arw S r (skd w) m) : v_X24_size S q I = some (nI m) := by
  unfold v_X24_size
  rw [og_ok (Or.inl h.1), h.2]
  rcases w3 hw with rfl | rfl | rfl
  · rw [if_pos rfl]; unfold f_X25_size; rw [ock_ok h.r, orf_ok hr, oar_ok (show arw S r 101 m from ha).r]
  · rw [if_neg (by decide), if_pos rfl]; unfold f_X26_size; rw [ock_ok h.r, orf_ok hr, oar_ok (show arw S r 102 m from ha).r]
  · rw [if_neg (by decide), if_neg (by decide), if_pos rfl]; unfold f_X27_size; rw [ock_ok h.r, orf_ok hr, oar_ok (show arw S r 100 m from ha).r]
theorem get_ok {S : SH} {I : II} {q w r m k : Nat} (hw : w < 3) (h : obw S q (24 + w)) (hr : S.2.2 q 0 = some r) (ha : arw S r (skd w) m) (hm : m ≤ 40) (hk : k < m) : v_X24_get S q (nI k) I = some (I r k) := by
  unfold v_X24_get
  rw [og_ok (Or.inl h.1), h.2]
  rcases w3 hw with rfl | rfl | rfl
  · rw [if_pos rfl]; unfold f_X25_get; rw [ock_ok h.r, orf_ok hr, oar_ok (show arw S r 101 m from ha).r, oix_ok (j := k) rfl hk (by omega)]
  · rw [if_neg (by decide), if_pos rfl]; unfold f_X26_get; rw [ock_ok h.r, orf_ok hr, oar_ok (show arw S r 102 m from ha).r, oix_ok (j := k) rfl hk (by omega)]
  · rw [if_neg (by decide), if_neg (by decide), if_pos rfl]; unfold f_X27_get; rw [ock_ok h.r, orf_ok hr, oarw_ok (show arw S r 100 m from ha), oix_ok (j := k) rfl hk (by omega)]
theorem put_ok {S : SH} {I : II} {q w r m k : Nat} {x : Int32} (hw : w < 3) (h : obw S q (24 + w)) (hr : S.2.2 q 0 = some r) (ha : arw S r (skd w) m) (hm : m ≤ 40) (hk : k < m) : v_X24_put S q (nI k) x I = some (up2 I r k (cut w x)) := by
  unfold v_X24_put
  rw [og_ok (Or.inl h.1), h.2]
  rcases w3 hw with rfl | rfl | rfl
  · rw [if_pos rfl]; unfold f_X25_put; rw [ock_ok h.r, orf_ok hr, oarw_ok (show arw S r 101 m from ha), oix_ok (j := k) rfl hk (by omega)]; rfl
  · rw [if_neg (by decide), if_pos rfl]; unfold f_X26_put; rw [ock_ok h.r, orf_ok hr, oarw_ok (show arw S r 102 m from ha), oix_ok (j := k) rfl hk (by omega)]; rfl
  · rw [if_neg (by decide), if_neg (by decide), if_pos rfl]; unfold f_X27_put; rw [ock_ok h.r, orf_ok hr, oarw_ok (show arw S r 100 m from ha), oix_ok (j := k) rfl hk (by omega)]; rfl
/-- sheets are changed, nothing else -/
theorem InvO.shts {n n' : Nat} {sh : SH} {I I' : II} {ow : Nat → Nat} {a : AS} {v : Nat} (h : InvO n sh I ow a v) (hn : n ≤ n') (e : ∀ x, ¬ scr x → x ≠ 44 → x ≠ 45 → x ≠ 46 → ¬ (10 ≤ ow x ∧ ow x < 14) → I' x = I x) (e2 : I' 27 2 = I 27 2) (e3 : I' 27 27 = I 27 27) (hs : ∀ s, s < 4 → Sht sh I' ow s) : InvO n' sh I' ow a v := by
  obtain ⟨h1, h2, h3, h4, h5, h6, h7, h8, h9, h10, h11, h12, h13, im, i1, i2, i3, i4⟩ := h
  have lo : ∀ x, x < 48 → ¬ (2 ≤ x ∧ x ≤ 6) → ¬ scr x → x ≠ 44 → x ≠ 45 → x ≠ 46 → I' x = I x := fun x a1 a2 a3 a4 a5 a6 => e x a3 a4 a5 a6 (by rw [h8.1 x a1 a2]; decide)
  have mk : ∀ x, ow x < 3 → I' x = I x := by
    intro x hx
    have hb : ∀ b, b < 48 → ¬ (2 ≤ b ∧ b ≤ 6) → x ≠ b := fun b b1 b2 => h8.ne (by omega) b1 b2
    refine e x (fun hs => ?_) (hb 44 (by decide) (by decide)) (hb 45 (by decide) (by decide)) (hb 46 (by decide) (by decide)) (by omega)
    unfold scr at hs
    exact hb x (by omega) (by omega) rfl
  have l0 : ∀ x, (x = 0 ∨ x = 7 ∨ x = 8 ∨ x = 21 ∨ (28 ≤ x ∧ x ≤ 34) ∨ x = 43) → I' x = I x := fun x hx => lo x (by omega) (by omega) (by unfold scr; omega) (by omega) (by omega) (by omega)
  have xA : exA = 1000000000 := rfl
  have hout : Out sh I' := ⟨h4.1, fun x hx => ⟨(h4.2.1 x hx).1, fun hx2 => by
    rw [e x (by unfold scr; omega) (by omega) (by omega) (by omega) (by rw [h8.2 x hx]; decide)]
    exact (h4.2.1 x hx).2 hx2⟩, h4.2.2⟩
  refine ⟨h1, h2, by omega, hout, h5.of (l0 _ (by omega)) (l0 _ (by omega)) (l0 _ (by omega)) (l0 _ (by omega)), ?_, ?_, h8, h9, ?_, h11, h12.kept (fun x hx => mk x (by omega)), hs, im, by omega, ?_, by rw [e2]; exact i3, ?_⟩
  · rw [l0 21 (by omega), l0 30 (by omega)]; exact h6
  · rw [l0 7 (by omega), l0 8 (by omega), l0 43 (by omega), e3]; exact h7
  · rw [l0 28 (by omega)]; exact h10
  · rw [l0 0 (by omega)]; exact i2
  · rcases i4 with i4 | ⟨i4, b, w, j1, j2, j3, j4⟩
    · exact Or.inl i4
    · exact Or.inr ⟨i4, b, w, j1, by rw [l0 29 (by omega)]; exact j2, j3, j4.kept (fun x hx => mk x (by omega))⟩
theorem InvO.sht {n : Nat} {sh : SH} {I : II} {ow : Nat → Nat} {a : AS} {v : Nat} (h : InvO n sh I ow a v) : ∀ s, s < 4 → Sht sh I ow s := h.2.2.2.2.2.2.2.2.2.2.2.2.1
theorem swd_8 {w : Nat} (h : w < 3) : (nI (swd w) = nI 8 ↔ w = 0) ∧ (nI (swd w) = nI 16 ↔ w = 1) := by
  rcases w3 h with rfl | rfl | rfl <;> decide
theorem cut_cut {w : Nat} {x : Int32} : cut w (cut w x) = cut w x := by
  unfold cut
  by_cases h0 : w = 0
  · rw [if_pos h0, if_pos h0, Int8.toInt8_toInt32]
  · rw [if_neg h0, if_neg h0]
    by_cases h1 : w = 1
    · rw [if_pos h1, if_pos h1, Int16.toInt16_toInt32]
    · rw [if_neg h1, if_neg h1]
theorem act_31 {n : Nat} {S : SH} {I : II} {a1 a2 a3 : Int32} (h : Inv n S I) : Act n (f_arm_31 FU a1 a2 a3 S I) := by
  obtain ⟨ow, a, v, hO⟩ := h.op
  have hM := hO.mrk
  unfold f_arm_31
  rcases sheet_cases a1 with ⟨h1, h2⟩ | ⟨s, hs, rfl, h1, h2⟩
  · refine Act.of (arm2 (r := -1000001) (I1 := EN I 1) ?_ ?_) (hO.bad (e := 1))
    · unfold f_X0_put f_X0_put_J42
      rw [h1, Option.bind_some]
      exact nbad hO.1 (by decide) (by decide)
    · unfold f_X9_put
      rw [h2, Option.bind_some, if_pos (by decide)]
      exact mbad2 (by decide) (by decide)
  · rcases sheet_at hO.1 hs (hO.sht s hs) with ⟨e1, e2, -⟩ | ⟨q, w, r, m, e1, g1, hw, hq, hr, ha, hm, m40, g2, g3, g4⟩
    · refine Act.of (arm2 (r := -1000002) (I1 := EN I 2) ?_ ?_) (hO.bad (e := 2))
      · unfold f_X0_put f_X0_put_J42
        rw [h1, Option.bind_some, ngood, bd2_ok e1]
        exact ncaught hO.1 (by decide) (by decide)
      · unfold f_X9_put
        rw [h2, Option.bind_some, if_neg (by decide), oix_ok (j := s) rfl hs (by decide), EN_x (by decide) (by decide), if_pos e2]
        exact mbad2 (by decide) (by decide)
    · rcases sub_cases a2 m (by omega) with ⟨k1, k2⟩ | ⟨k, hk, rfl, k1, k2⟩
      · refine Act.of (arm2 (r := -1000001) (I1 := EN I 1) ?_ ?_) (hO.bad (e := 1))
        · unfold f_X0_put f_X0_put_J42
          rw [h1, Option.bind_some, ngood, bd2_ok e1, oexL, size_ok hw hq hr ha, Option.bind_some, k1, Option.bind_some]
          exact nbad hO.1 (by decide) (by decide)
        · unfold f_X9_put
          rw [h2, Option.bind_some, if_neg (by decide), oix_ok (j := s) rfl hs (by decide), EN_x (by decide) (by decide), g2, if_neg swd0, oix_ok (j := s) rfl hs (by decide), EN_x (by decide) (by decide), g3, k2, Option.bind_some, if_pos (by decide)]
          exact mbad2 (by decide) (by decide)
      · have r9 : ow r ≠ 9 := by rw [hm]; omega
        have nr : ∀ b, b < 48 → ¬ (2 ≤ b ∧ b ≤ 6) → b ≠ r := fun b b1 b2 e => hM.ne r9 b1 b2 e.symm
        refine Act.of (arm2 (r := nI 1) (I1 := up2 I r k (cut w a3)) (I2 := up2 (up2 I r k (cut w a3)) 46 (40 * s + k) (cut w a3)) ?_ ?_) (hO.shts (by omega) (fun x x1 x2 x3 x4 x5 => ?_) ?_ ?_ (fun s' hs' => ?_))
        · unfold f_X0_put
          rw [h1, Option.bind_some, ngood, bd2_ok e1, oexL, size_ok hw hq hr ha, Option.bind_some, k1, Option.bind_some, ngood, put_ok hw hq hr ha m40 hk, Option.bind_some]
        · unfold f_X9_put
          rw [h2, Option.bind_some, if_neg (by decide), oix_ok (j := s) rfl hs (by decide), up2_n (nr 44 (by decide) (by decide)), g2, if_neg swd0, oix_ok (j := s) rfl hs (by decide), up2_n (nr 45 (by decide) (by decide)), g3, k2, Option.bind_some, if_neg (by decide), oix_ok (j := s) rfl hs (by decide), oix_ok (j := s) rfl hs (by decide)]
          have J : ∀ y, y = cut w a3 → f_X9_put_J96 (nI 40 * nI s + nI k) y (up2 I r k (cut w a3)) = some (nI 1, up2 (up2 I r k (cut w a3)) 46 (40 * s + k) (cut w a3)) := by
            intro y hy
            unfold f_X9_put_J96
            rw [oix_ok (j := 40 * s + k) (by rw [pk_mul, nI_add]) (by omega) (by decide), hy]
          rw [g2]
          rcases w3 hw with rfl | rfl | rfl
          · rw [if_pos (by decide)]; exact J _ rfl
          · rw [if_neg (by decide), if_pos (by decide)]; exact J _ rfl
          · rw [if_neg (by decide), if_neg (by decide)]; exact J _ rfl
        · rw [up2_n x4, up2_n (fun e => x5 (by rw [e, hm]; omega))]
        · rw [up2_n (by decide), up2_n (nr 27 (by decide) (by decide))]
        · rw [up2_n (by decide), up2_n (nr 27 (by decide) (by decide))]
        · have h44 : up2 (up2 I r k (cut w a3)) 46 (40 * s + k) (cut w a3) 44 = I 44 := by rw [up2_n (by decide), up2_n (nr 44 (by decide) (by decide))]
          have h45 : up2 (up2 I r k (cut w a3)) 46 (40 * s + k) (cut w a3) 45 = I 45 := by rw [up2_n (by decide), up2_n (nr 45 (by decide) (by decide))]
          rcases hO.sht s' hs' with ⟨u1, u2, u3⟩ | ⟨q', w', r', m', u1, u2, u3, u4, u5, u6, u7, u8, u9, u10⟩
          · exact Or.inl ⟨u1, by rw [h44]; exact u2, by rw [h45]; exact u3⟩
          · refine Or.inr ⟨q', w', r', m', u1, u2, u3, u4, u5, u6, u7, by rw [h44]; exact u8, by rw [h45]; exact u9, fun i hi => ?_⟩
            have r9' : r' ≠ 46 := hM.ne (by rw [u6]; omega) (by decide) (by decide)
            rw [up2_n r9']
            by_cases es : s' = s
            · subst es
              rw [g1] at u1
              cases u1
              rw [hr] at u4
              cases u4
              have eww : w' = w := by
                have z1 := u3.2
                rw [hq.2] at z1
                omega
              subst eww
              by_cases ek : i = k
              · subst ek; rw [up2_eq, up2_eq]; exact ⟨rfl, cut_cut⟩
              · rw [up2_ne ek, up2_ne (by omega), up2_n (nr 46 (by decide) (by decide))]
                exact u10 i hi
            · have hne : r' ≠ r := fun e => by rw [e, hm] at u6; omega
              rw [up2_n hne, up2_ne (by omega), up2_n (nr 46 (by decide) (by decide))]
              exact u10 i hi
