/-! the class: walks -/
set_option maxRecDepth 100000
def f_X0_in (x0 : Int32) (x1 : Int32) (x2 : Int32) : Option Int32 := if x0 < x1 then some (nI 0) else if x2 < x0 then some (nI 0) else some (nI 1)
abbrev rm_X0_in : Room := { frames := 0, cells := 0, slots := 0, locals := 0 }
theorem ms_X0_in : MS yX0_in cX0_in 3 (some .boolean) 3 := ⟨q414, q91, q415, by decide +kernel⟩
set_option maxHeartbeats 4000000 in
theorem ct_X0_in {G : WG} {l : Launch} {sh : SH} {I : II} {x0 : Int32} {x1 : Int32} {x2 : Int32} {Z : Int32} (hk : f_X0_in x0 x1 x2 = some Z) : CT G l yX0_in (ws_ yX0_in cX0_in 3 (some .boolean)) rm_X0_in [.int x0, .int x1, .int x2] (sh, I) (.returned (some (.int Z))) (sh, I) := by
  refine CT.ofJ "NineDemands" rfl (by decide) (Nat.le_of_ble_eq_true rfl) ?_
  intro p e s m args below meth c C
  unfold f_X0_in at hk
  refine j_lv (lv' := [some (.int x0), some (.int x1), some (.int x2)]) rfl ?_
  refine j_iload_n (pc := 0) C dX0_in_0 rfl rfl ?_
  refine j_iload_n (pc := 1) C dX0_in_1 rfl rfl ?_
  refine j_icmp_lt (pc := 2) 14 C dX0_in_2 (by decide) (fun h1 => ?_) (fun h1 => ?_)
  · replace hk := it_t h1 hk
    refine j_iconst (pc := 14) (v := nI 0) C dX0_in_14 (by decide) ?_
    obtain rfl := Option.some.inj hk
    exact j_zret (pc := 15) C dX0_in_15 (Nat.le_of_ble_eq_true rfl) (Nat.le_of_ble_eq_true rfl) (isB.nar (v := (nI 0)) (by unfold isB; decide))
  · replace hk := it_f h1 hk
    refine j_iload_n (pc := 5) C dX0_in_5 rfl rfl ?_
    refine j_iload_n (pc := 6) C dX0_in_6 rfl rfl ?_
    refine j_icmp_gt (pc := 7) 14 C dX0_in_7 (by decide) (fun h2 => ?_) (fun h2 => ?_)
    · replace hk := it_t h2 hk
      refine j_iconst (pc := 14) (v := nI 0) C dX0_in_14 (by decide) ?_
      obtain rfl := Option.some.inj hk
      exact j_zret (pc := 15) C dX0_in_15 (Nat.le_of_ble_eq_true rfl) (Nat.le_of_ble_eq_true rfl) (isB.nar (v := (nI 0)) (by unfold isB; decide))
    · replace hk := it_f h2 hk
      refine j_iconst (pc := 10) (v := nI 1) C dX0_in_10 (by decide) ?_
      refine j_goto (pc := 11) 15 C dX0_in_11 (by decide) ?_
      obtain rfl := Option.some.inj hk
      exact j_zret (pc := 15) C dX0_in_15 (Nat.le_of_ble_eq_true rfl) (Nat.le_of_ble_eq_true rfl) (isB.nar (v := (nI 1)) (by unfold isB; decide))
def f_X0_finds (sh : SH) (x1 : Nat) (I : II) : Option (Int32 × II) := ock sh x1 1 <| oix (I x1 6) 6 fun i9 => oix (I x1 6) 6 fun i12 => some (((-1000000) - ((up2 I 21 i12 ((I 21 i9) + (nI 1))) x1 6)), up2 I 21 i12 ((I 21 i9) + (nI 1)))
abbrev rm_X0_finds : Room := { frames := 0, cells := 0, slots := 0, locals := 0 }
theorem mv_X0_finds_ok : callOK yX0_finds 1 := by decide +kernel
theorem mv_X0_finds : MV yX0_finds cX0_finds 2 (some .int) 1 := ⟨q435, qs2, q91, q436, mv_X0_finds_ok⟩
set_option maxHeartbeats 4000000 in
theorem ct_X0_finds {G : WG} {l : Launch} {sh : SH} (hS : stN sh) {I : II} {x1 : Nat} {Z : (Int32 × II)} (hk : f_X0_finds sh x1 I = some Z) : CT G l yX0_finds (ws_ yX0_finds cX0_finds 2 (some .int)) rm_X0_finds [.ref (wad G 0), .ref (wad G x1)] (sh, I) (.returned (some (.int Z.1))) (sh, Z.2) := by
  refine CT.ofJ "NineDemands" rfl (by decide) (Nat.le_of_ble_eq_true rfl) ?_
  intro p e s m args below meth c C
  unfold f_X0_finds at hk
  refine j_lv (lv' := [some (.ref (wad G 0)), some (.ref (wad G x1))]) rfl ?_
  refine j_aload_n (pc := 0) C dX0_finds_0 rfl rfl ?_
  refine x_getR (pc := 1) C fd_0_9 (fl1 C q381) (stN_o0 hS).r (stN_r0_9 hS) dX0_finds_1 ?_
  refine j_aload_n (pc := 4) C dX0_finds_4 rfl rfl ?_
  replace hk := ock_some hk
  obtain ⟨h1, hk⟩ := hk
  refine x_getI (pc := 5) C fd_1_6 (fl3 C q199) h1 dX0_finds_5 ?_
  refine j_dup2 (pc := 8) C dX0_finds_8 rfl rfl ?_
  replace hk := oix_ex hk
  obtain ⟨i9, e9, h2, hk⟩ := hk
  refine j_iald (pc := 9) C (stN_a21 hS) h2 e9 dX0_finds_9 ?_
  refine j_iconst (pc := 10) (v := nI 1) C dX0_finds_10 (by decide) ?_
  refine j_iadd (pc := 11) C dX0_finds_11 ?_
  replace hk := oix_ex hk
  obtain ⟨i12, e12, h3, hk⟩ := hk
  refine j_iast (pc := 12) C (stN_a21 hS) h3 e12 dX0_finds_12 ?_
  refine j_ldc (pc := 13) (v := (-1000000)) C q437 dX0_finds_13 ?_
  refine j_aload_n (pc := 15) C dX0_finds_15 rfl rfl ?_
  refine x_getI (pc := 16) C fd_1_6 (fl3 C q199) h1 dX0_finds_16 ?_
  refine j_isub (pc := 19) C dX0_finds_19 ?_
  obtain rfl := Option.some.inj hk
  exact j_iret (pc := 20) C dX0_finds_20 (Nat.le_of_ble_eq_true rfl) (Nat.le_of_ble_eq_true rfl)
def f_X1_of (sh : SH) (x1 : Int32) (I : II) : Option (Nat × II) := some (1, up2 I 1 6 x1)
abbrev rm_X1_of : Room := { frames := 0, cells := 0, slots := 0, locals := 0 }
theorem mv_X1_of_ok : callOK yX1_of 1 := by decide +kernel
theorem mv_X1_of : MV yX1_of cX1_of 2 (some (.object "NineDemands$Finding")) 1 := ⟨q421, q422, q95, q423, mv_X1_of_ok⟩
set_option maxHeartbeats 4000000 in
theorem ct_X1_of {G : WG} {l : Launch} {sh : SH} (hS : stN sh) {I : II} {x1 : Int32} {Z : (Nat × II)} (hk : f_X1_of sh x1 I = some Z) : CT G l yX1_of (ws_ yX1_of cX1_of 2 (some (.object "NineDemands$Finding"))) rm_X1_of [.ref (wad G 1), .int x1] (sh, I) (.returned (some (.ref (wad G Z.1)))) (sh, Z.2) := by
  refine CT.ofJ "NineDemands$Finding" rfl (by decide) (Nat.le_of_ble_eq_true rfl) ?_
  intro p e s m args below meth c C
  unfold f_X1_of at hk
  refine j_lv (lv' := [some (.ref (wad G 1)), some (.int x1)]) rfl ?_
  refine j_aload_n (pc := 0) C dX1_of_0 rfl rfl ?_
  refine j_iload_n (pc := 1) C dX1_of_1 rfl rfl ?_
  refine x_putI (pc := 2) C fd_1_6 (fl1 C q198) (stN_o1 hS) rfl rfl dX1_of_2 ?_
  refine j_aload_n (pc := 5) C dX1_of_5 rfl rfl ?_
  obtain rfl := Option.some.inj hk
  exact x_aret (pc := 6) C dX1_of_6 (Nat.le_of_ble_eq_true rfl) (Nat.le_of_ble_eq_true rfl) rfl
def f_X0_need (sh : SH) (x1 : Int32) (x2 : Int32) (I : II) : Option ((Unit ⊕ Nat) × II) := if x1 = 0 then bd2 (f_X1_of sh x2 I) fun a9 I9 => og (a9 = 1) <| some (.inr 1, I9) else some ((.inl ()), I)
abbrev rm_X0_need : Room := { frames := 1, cells := 0, slots := 0, locals := 21 }
theorem mv_X0_need_ok : callOK yX0_need 2 := by decide +kernel
theorem mv_X0_need : MV yX0_need cX0_need 3 none 2 := ⟨q418, qs1, q91, q419, mv_X0_need_ok⟩
set_option maxHeartbeats 4000000 in
theorem ct_X0_need {G : WG} {l : Launch} {sh : SH} (hS : stN sh) {I : II} {x1 : Int32} {x2 : Int32} {Z : ((Unit ⊕ Nat) × II)} (hk : f_X0_need sh x1 x2 I = some Z) : CT G l yX0_need (ws_ yX0_need cX0_need 3 none) rm_X0_need [.ref (wad G 0), .int x1, .int x2] (sh, I) (ocu G Z.1) (sh, Z.2) := by
  refine CT.ofJ "NineDemands" rfl (by decide) (Nat.le_of_ble_eq_true rfl) ?_
  intro p e s m args below meth c C
  unfold f_X0_need at hk
  refine j_lv (lv' := [some (.ref (wad G 0)), some (.int x1), some (.int x2)]) rfl ?_
  refine j_iload_n (pc := 0) C dX0_need_0 rfl rfl ?_
  refine j_if_ne (pc := 1) 13 C dX0_need_1 (by decide) (fun h1 => ?_) (fun h1 => ?_)
  · replace hk := it_f h1 hk
    obtain rfl := Option.some.inj hk
    exact j_vret (pc := 13) C dX0_need_13 (Nat.le_of_ble_eq_true rfl) (Nat.le_of_ble_eq_true rfl)
  · replace hk := it_t h1 hk
    refine j_aload_n (pc := 4) C dX0_need_4 rfl rfl ?_
    refine x_getR (pc := 5) C fd_0_0 (fl1 C q372) (stN_o0 hS).r (stN_r0_0 hS) dX0_need_5 ?_
    refine j_iload_n (pc := 8) C dX0_need_8 rfl rfl ?_
    replace hk := bd2_some hk
    obtain ⟨a9, I9, h2, hk⟩ := hk
    refine x_callV (pc := 9) C (ct_X1_of hS h2) mv_X1_of (stN_o1 hS).r rfl rfl q420 dX0_need_9 rfl rfl (Nat.le_of_ble_eq_true rfl) rfl ?_
    replace hk := og_some hk
    obtain ⟨h3, hk⟩ := hk
    subst h3
    obtain rfl := Option.some.inj hk
    exact x_athrow (pc := 12) C rfl dX0_need_12 (Nat.le_of_ble_eq_true rfl) (Nat.le_of_ble_eq_true rfl)
def f_X0_told_J18 (sh : SH) (s0 : Nat) (I : II) : Option (Int32 × II) := bd2 (f_X0_finds sh s0 I) fun r21 I21 => some (r21, I21)
def f_X0_told (sh : SH) (x1 : Int32) (I : II) : Option (Int32 × II) := (f_X0_in x1 (nI 1) (nI 5)).bind fun r4 => bd2 (f_X0_need sh r4 (nI 1) I) fun u8 I8 => oex u8 (fun _w8 => oix x1 6 fun i16 => some ((I8 21 i16), I8)) (fun w8 => ock sh w8 1 <| f_X0_told_J18 sh w8 I8)
abbrev rm_X0_told : Room := { frames := 2, cells := 0, slots := 0, locals := 43 }
theorem mv_X0_told_ok : callOK yX0_told 1 := by decide +kernel
theorem mw_X0_told : MW yX0_told cX0_told 3 (some .int) [(0, 17, 18, 8)] 1 := ⟨q1974, q1975, q91, q1976, mv_X0_told_ok⟩
set_option maxHeartbeats 4000000 in
theorem ct_X0_told {G : WG} {l : Launch} {sh : SH} (hS : stN sh) {I : II} {x1 : Int32} {Z : (Int32 × II)} (hk : f_X0_told sh x1 I = some Z) : CT G l yX0_told (wsW_ yX0_told cX0_told 3 (some .int) [(0, 17, 18, 8)]) rm_X0_told [.ref (wad G 0), .int x1] (sh, I) (.returned (some (.int Z.1))) (sh, Z.2) := by
  refine CT.ofJW "NineDemands" rfl (by decide) (Nat.le_of_ble_eq_true rfl) ?_
  intro p e s m args below meth c C
  unfold f_X0_told at hk
  refine j_lv (lv' := [some (.ref (wad G 0)), some (.int x1), none]) rfl ?_
  refine j_aload_n (pc := 0) C dX0_told_0 rfl rfl ?_
  refine j_iload_n (pc := 1) C dX0_told_1 rfl rfl ?_
  refine j_iconst (pc := 2) (v := nI 1) C dX0_told_2 (by decide) ?_
  refine j_iconst (pc := 3) (v := nI 5) C dX0_told_3 (by decide) ?_
  replace hk := ob_some hk
  obtain ⟨r4, h1, hk⟩ := hk
  refine j_callS (pc := 4) C (ct_X0_in h1) ms_X0_in q413 dX0_told_4 rfl rfl (Nat.le_of_ble_eq_true rfl) rfl ?_
  refine j_iconst (pc := 7) (v := nI 1) C dX0_told_7 (by decide) ?_
  have Jn18 : ∀ (s0 : Nat) (I : II), f_X0_told_J18 sh s0 I = some Z → J G p l e rm_X0_told s m args below meth c 3 (.returned (some (.int Z.1))) (sh, Z.2) (rm_X0_told).cells (rm_X0_told).slots (sh, I) 0 0 18 [some (.ref (wad G 0)), none, none] [.ref (wad G s0)] := by
    intro s0 I hk
    unfold f_X0_told_J18 at hk
    refine j_astore_n (pc := 18) C dX0_told_18 rfl (Nat.le_of_ble_eq_true rfl) rfl ?_
    refine j_aload_n (pc := 19) C dX0_told_19 rfl rfl ?_
    refine j_aload_n (pc := 20) C dX0_told_20 rfl rfl ?_
    replace hk := bd2_some hk
    obtain ⟨r21, I21, h2, hk⟩ := hk
    refine x_callV (pc := 21) C (ct_X0_finds hS h2) mv_X0_finds (stN_o0 hS).r rfl rfl q433 dX0_told_21 rfl rfl (Nat.le_of_ble_eq_true rfl) rfl ?_
    obtain rfl := Option.some.inj hk
    exact j_iret (pc := 24) C dX0_told_24 (Nat.le_of_ble_eq_true rfl) (Nat.le_of_ble_eq_true rfl)
  replace hk := bd2_some hk
  obtain ⟨u8, I8, h3, hk⟩ := hk
  cases u8 with
  | inr w8 =>
    replace hk := oex_r hk
    replace hk := ock_some hk
    obtain ⟨h5, hk⟩ := hk
    refine x_callVC [] [] (0, 17, 18, 8) (pc := 8) C (ct_X0_need hS h3) mv_X0_need (stN_o0 hS).r rfl rfl q416 dX0_told_8 rfl rfl (Nat.le_of_ble_eq_true rfl) rfl rfl h5 rfl (by decide) (by decide) q146 (fun z hz => by cases hz) ?_
    exact j_mask [true, false, false] (Jn18 _ _ hk)
  | inl _w8 =>
    replace hk := oex_l hk
    refine x_callV (pc := 8) C (ct_X0_need hS h3) mv_X0_need (stN_o0 hS).r rfl rfl q416 dX0_told_8 rfl rfl (Nat.le_of_ble_eq_true rfl) rfl ?_
    refine j_aload_n (pc := 11) C dX0_told_11 rfl rfl ?_
    refine x_getR (pc := 12) C fd_0_9 (fl1 C q381) (stN_o0 hS).r (stN_r0_9 hS) dX0_told_12 ?_
    refine j_iload_n (pc := 15) C dX0_told_15 rfl rfl ?_
    replace hk := oix_ex hk
    obtain ⟨i16, e16, h6, hk⟩ := hk
    refine j_iald (pc := 16) C (stN_a21 hS) h6 e16 dX0_told_16 ?_
    obtain rfl := Option.some.inj hk
    exact j_iret (pc := 17) C dX0_told_17 (Nat.le_of_ble_eq_true rfl) (Nat.le_of_ble_eq_true rfl)
def f_J5_size (sh : SH) (x0 : Nat) (I : II) : Option Int32 := ock sh x0 3 <| some (I x0 2)
abbrev rm_J5_size : Room := { frames := 0, cells := 0, slots := 0, locals := 0 }
theorem mv_J5_size_ok : callOK yJ5_size 0 := by decide +kernel
theorem mv_J5_size : MV yJ5_size cJ5_size 1 (some .int) 0 := ⟨q515, q516, q99, q517, mv_J5_size_ok⟩
set_option maxHeartbeats 4000000 in
theorem ct_J5_size {G : WG} {l : Launch} {sh : SH} {I : II} {x0 : Nat} {Z : Int32} (hk : f_J5_size sh x0 I = some Z) : CT G l yJ5_size (ws_ yJ5_size cJ5_size 1 (some .int)) rm_J5_size [.ref (wad G x0)] (sh, I) (.returned (some (.int Z))) (sh, I) := by
  refine CT.ofJ "java/util/ArrayList" rfl (by decide) (Nat.le_of_ble_eq_true rfl) ?_
  intro p e s m args below meth c C
  unfold f_J5_size at hk
  refine j_lv (lv' := [some (.ref (wad G x0))]) rfl ?_
  refine j_aload_n (pc := 0) C dJ5_size_0 rfl rfl ?_
  replace hk := ock_some hk
  obtain ⟨h1, hk⟩ := hk
  refine x_getI (pc := 1) C fd_3_2 (fl1 C q236) h1 dJ5_size_1 ?_
  obtain rfl := Option.some.inj hk
  exact j_iret (pc := 4) C dJ5_size_4 (Nat.le_of_ble_eq_true rfl) (Nat.le_of_ble_eq_true rfl)
def f_X0_has (x0 : Int32) (x1 : Int32) : Option Int32 := if ((x0 >>> (x1 &&& 31)) &&& (nI 1)) = (nI 1) then some (nI 1) else some (nI 0)
abbrev rm_X0_has : Room := { frames := 0, cells := 0, slots := 0, locals := 0 }
theorem ms_X0_has : MS yX0_has cX0_has 2 (some .boolean) 2 := ⟨q1432, q91, q1433, by decide +kernel⟩
set_option maxHeartbeats 4000000 in
theorem ct_X0_has {G : WG} {l : Launch} {sh : SH} {I : II} {x0 : Int32} {x1 : Int32} {Z : Int32} (hk : f_X0_has x0 x1 = some Z) : CT G l yX0_has (ws_ yX0_has cX0_has 2 (some .boolean)) rm_X0_has [.int x0, .int x1] (sh, I) (.returned (some (.int Z))) (sh, I) := by
  refine CT.ofJ "NineDemands" rfl (by decide) (Nat.le_of_ble_eq_true rfl) ?_
  intro p e s m args below meth c C
  unfold f_X0_has at hk
  refine j_lv (lv' := [some (.int x0), some (.int x1)]) rfl ?_
  refine j_iload_n (pc := 0) C dX0_has_0 rfl rfl ?_
  refine j_iload_n (pc := 1) C dX0_has_1 rfl rfl ?_
  refine j_ishr (pc := 2) C dX0_has_2 ?_
  refine j_iconst (pc := 3) (v := nI 1) C dX0_has_3 (by decide) ?_
  refine j_iand (pc := 4) C dX0_has_4 ?_
  refine j_iconst (pc := 5) (v := nI 1) C dX0_has_5 (by decide) ?_
  refine j_icmp_ne (pc := 6) 13 C dX0_has_6 (by decide) (fun h1 => ?_) (fun h1 => ?_)
  · replace hk := it_f h1 hk
    refine j_iconst (pc := 13) (v := nI 0) C dX0_has_13 (by decide) ?_
    obtain rfl := Option.some.inj hk
    exact j_zret (pc := 14) C dX0_has_14 (Nat.le_of_ble_eq_true rfl) (Nat.le_of_ble_eq_true rfl) (isB.nar (v := (nI 0)) (by unfold isB; decide))
  · replace hk := it_t h1 hk
    refine j_iconst (pc := 9) (v := nI 1) C dX0_has_9 (by decide) ?_
    refine j_goto (pc := 10) 14 C dX0_has_10 (by decide) ?_
    obtain rfl := Option.some.inj hk
    exact j_zret (pc := 14) C dX0_has_14 (Nat.le_of_ble_eq_true rfl) (Nat.le_of_ble_eq_true rfl) (isB.nar (v := (nI 1)) (by unfold isB; decide))
def f_J13_checkIndex_J9 (x0 : Int32) (x1 : Int32) (x2 : Option Nat) : Option Int32 := none
def f_J13_checkIndex (x0 : Int32) (x1 : Int32) (x2 : Option Nat) : Option Int32 := if x0 < 0 then f_J13_checkIndex_J9 x0 x1 x2 else if x0 < x1 then some x0 else f_J13_checkIndex_J9 x0 x1 x2
abbrev rm_J13_checkIndex : Room := { frames := 0, cells := 0, slots := 0, locals := 0 }
theorem ms_J13_checkIndex : MS yJ13_checkIndex cJ13_checkIndex 3 (some .int) 3 := ⟨q1337, q122, q1338, by decide +kernel⟩
set_option maxHeartbeats 4000000 in
theorem ct_J13_checkIndex {G : WG} {l : Launch} {sh : SH} {I : II} {x0 : Int32} {x1 : Int32} {x2 : Option Nat} {Z : Int32} (hk : f_J13_checkIndex x0 x1 x2 = some Z) : CT G l yJ13_checkIndex (ws_ yJ13_checkIndex cJ13_checkIndex 3 (some .int)) rm_J13_checkIndex [.int x0, .int x1, va_rf (Option.map (wad G) x2)] (sh, I) (.returned (some (.int Z))) (sh, I) := by
  refine CT.ofJ "jdk/internal/util/Preconditions" rfl (by decide) (by cases x2 <;> exact Nat.le_of_ble_eq_true rfl) ?_
  intro p e s m args below meth c C
  unfold f_J13_checkIndex at hk
  refine j_lv (lv' := [some (.int x0), some (.int x1), some (va_rf (Option.map (wad G) x2))]) (by cases x2 <;> rfl) ?_
  refine j_iload_n (pc := 0) C dJ13_checkIndex_0 rfl rfl ?_
  have Jn9 : ∀ (x0 : Int32) (x1 : Int32) (x2 : Option Nat), f_J13_checkIndex_J9 x0 x1 x2 = some Z → J G p l e rm_J13_checkIndex s m args below meth c 3 (.returned (some (.int Z))) (sh, I) (rm_J13_checkIndex).cells (rm_J13_checkIndex).slots (sh, I) 0 0 9 [some (.int x0), some (.int x1), some (va_rf (Option.map (wad G) x2))] [] := by
    intro x0 x1 x2 hk
    unfold f_J13_checkIndex_J9 at hk
    refine x_aload_n (pc := 9) C dJ13_checkIndex_9 rfl rfl ?_
    refine j_iload_n (pc := 10) C dJ13_checkIndex_10 rfl rfl ?_
    refine j_iload_n (pc := 11) C dJ13_checkIndex_11 rfl rfl ?_
    cases hk
  refine j_if_lt (pc := 1) 9 C dJ13_checkIndex_1 (by decide) (fun h1 => ?_) (fun h1 => ?_)
  · replace hk := it_t h1 hk
    exact j_mask [true, true, true] (Jn9 _ _ _ hk)
  · replace hk := it_f h1 hk
    refine j_iload_n (pc := 4) C dJ13_checkIndex_4 rfl rfl ?_
    refine j_iload_n (pc := 5) C dJ13_checkIndex_5 rfl rfl ?_
    refine j_icmp_lt (pc := 6) 16 C dJ13_checkIndex_6 (by decide) (fun h2 => ?_) (fun h2 => ?_)
    · replace hk := it_t h2 hk
      refine j_iload_n (pc := 16) C dJ13_checkIndex_16 rfl rfl ?_
      obtain rfl := Option.some.inj hk
      exact j_iret (pc := 17) C dJ13_checkIndex_17 (Nat.le_of_ble_eq_true rfl) (Nat.le_of_ble_eq_true rfl)
    · replace hk := it_f h2 hk
      exact j_mask [true, true, true] (Jn9 _ _ _ hk)
def f_J16_checkIndex (x0 : Int32) (x1 : Int32) : Option Int32 := (f_J13_checkIndex x0 x1 none).bind fun r3 => some r3
abbrev rm_J16_checkIndex : Room := { frames := 1, cells := 0, slots := 0, locals := 22 }
theorem ms_J16_checkIndex : MS yJ16_checkIndex cJ16_checkIndex 2 (some .int) 2 := ⟨q1334, q132, q1335, by decide +kernel⟩
set_option maxHeartbeats 4000000 in
theorem ct_J16_checkIndex {G : WG} {l : Launch} {sh : SH} {I : II} {x0 : Int32} {x1 : Int32} {Z : Int32} (hk : f_J16_checkIndex x0 x1 = some Z) : CT G l yJ16_checkIndex (ws_ yJ16_checkIndex cJ16_checkIndex 2 (some .int)) rm_J16_checkIndex [.int x0, .int x1] (sh, I) (.returned (some (.int Z))) (sh, I) := by
  refine CT.ofJ "java/util/Objects" rfl (by decide) (Nat.le_of_ble_eq_true rfl) ?_
  intro p e s m args below meth c C
  unfold f_J16_checkIndex at hk
  refine j_lv (lv' := [some (.int x0), some (.int x1)]) rfl ?_
  refine j_iload_n (pc := 0) C dJ16_checkIndex_0 rfl rfl ?_
  refine j_iload_n (pc := 1) C dJ16_checkIndex_1 rfl rfl ?_
  refine j_null (pc := 2) C dJ16_checkIndex_2 ?_
  replace hk := ob_some hk
  obtain ⟨r3, h1, hk⟩ := hk
  refine j_callS (pc := 3) C (ct_J13_checkIndex h1) ms_J13_checkIndex q1336 dJ16_checkIndex_3 rfl rfl (Nat.le_of_ble_eq_true rfl) rfl ?_
  obtain rfl := Option.some.inj hk
  exact j_iret (pc := 6) C dJ16_checkIndex_6 (Nat.le_of_ble_eq_true rfl) (Nat.le_of_ble_eq_true rfl)
def f_J5_elementData (sh : SH) (x0 : Nat) (x1 : Int32) (I : II) : Option Nat := ock sh x0 3 <| orf (sh.2.2 x0 1) fun t1 => oar sh t1 200 fun nh2 => oix x1 nh2 fun i5 => orf (sh.2.2 t1 i5) fun t5 => some t5
abbrev rm_J5_elementData : Room := { frames := 0, cells := 0, slots := 0, locals := 0 }
theorem mv_J5_elementData_ok : callOK yJ5_elementData 1 := by decide +kernel
theorem mv_J5_elementData : MV yJ5_elementData cJ5_elementData 2 (some (.object "java/lang/Object")) 1 := ⟨q1340, q1341, q99, q1342, mv_J5_elementData_ok⟩
set_option maxHeartbeats 4000000 in
theorem ct_J5_elementData {G : WG} {l : Launch} {sh : SH} {I : II} {x0 : Nat} {x1 : Int32} {Z : Nat} (hk : f_J5_elementData sh x0 x1 I = some Z) : CT G l yJ5_elementData (ws_ yJ5_elementData cJ5_elementData 2 (some (.object "java/lang/Object"))) rm_J5_elementData [.ref (wad G x0), .int x1] (sh, I) (.returned (some (.ref (wad G Z)))) (sh, I) := by
  refine CT.ofJ "java/util/ArrayList" rfl (by decide) (Nat.le_of_ble_eq_true rfl) ?_
  intro p e s m args below meth c C
  unfold f_J5_elementData at hk
  refine j_lv (lv' := [some (.ref (wad G x0)), some (.int x1)]) rfl ?_
  refine j_aload_n (pc := 0) C dJ5_elementData_0 rfl rfl ?_
  replace hk := ock_some hk
  obtain ⟨h1, hk⟩ := hk
  replace hk := orf_some hk
  obtain ⟨t1, et1, hk⟩ := hk
  refine x_getR (pc := 1) C fd_3_1 (fl1 C q235) h1 et1 dJ5_elementData_1 ?_
  refine j_iload_n (pc := 4) C dJ5_elementData_4 rfl rfl ?_
  replace hk := oar_some hk
  obtain ⟨nh2, h2, hk⟩ := hk
  replace hk := oix_ex hk
  obtain ⟨i5, e5, h3, hk⟩ := hk
  replace hk := orf_some hk
  obtain ⟨t5, et5, hk⟩ := hk
  refine x_aald (pc := 5) C h2 (by decide) h3 e5 dJ5_elementData_5 ?_
  rw [et5]
  obtain rfl := Option.some.inj hk
  exact x_aret (pc := 6) C dJ5_elementData_6 (Nat.le_of_ble_eq_true rfl) (Nat.le_of_ble_eq_true rfl) rfl
def f_J5_get (sh : SH) (x0 : Nat) (x1 : Int32) (I : II) : Option Nat := ock sh x0 3 <| (f_J16_checkIndex x1 (I x0 2)).bind fun r5 => (f_J5_elementData sh x0 x1 I).bind fun a11 => some a11
abbrev rm_J5_get : Room := { frames := 2, cells := 0, slots := 0, locals := 43 }
theorem mv_J5_get_ok : callOK yJ5_get 1 := by decide +kernel
theorem mv_J5_get : MV yJ5_get cJ5_get 2 (some (.object "java/lang/Object")) 1 := ⟨q1330, q1331, q99, q1332, mv_J5_get_ok⟩
set_option maxHeartbeats 4000000 in
theorem ct_J5_get {G : WG} {l : Launch} {sh : SH} {I : II} {x0 : Nat} {x1 : Int32} {Z : Nat} (hk : f_J5_get sh x0 x1 I = some Z) : CT G l yJ5_get (ws_ yJ5_get cJ5_get 2 (some (.object "java/lang/Object"))) rm_J5_get [.ref (wad G x0), .int x1] (sh, I) (.returned (some (.ref (wad G Z)))) (sh, I) := by
  refine CT.ofJ "java/util/ArrayList" rfl (by decide) (Nat.le_of_ble_eq_true rfl) ?_
  intro p e s m args below meth c C
  unfold f_J5_get at hk
  refine j_lv (lv' := [some (.ref (wad G x0)), some (.int x1)]) rfl ?_
  refine j_iload_n (pc := 0) C dJ5_get_0 rfl rfl ?_
  refine j_aload_n (pc := 1) C dJ5_get_1 rfl rfl ?_
  replace hk := ock_some hk
  obtain ⟨h1, hk⟩ := hk
  refine x_getI (pc := 2) C fd_3_2 (fl1 C q236) h1 dJ5_get_2 ?_
  replace hk := ob_some hk
  obtain ⟨r5, h2, hk⟩ := hk
  refine j_callS (pc := 5) C (ct_J16_checkIndex h2) ms_J16_checkIndex q1333 dJ5_get_5 rfl rfl (Nat.le_of_ble_eq_true rfl) rfl ?_
  refine j_pop (pc := 8) C dJ5_get_8 rfl ?_
  refine j_aload_n (pc := 9) C dJ5_get_9 rfl rfl ?_
  refine j_iload_n (pc := 10) C dJ5_get_10 rfl rfl ?_
  replace hk := ob_some hk
  obtain ⟨a11, h3, hk⟩ := hk
  refine x_callV (pc := 11) C (ct_J5_elementData h3) mv_J5_elementData h1 rfl rfl q1339 dJ5_get_11 rfl rfl (Nat.le_of_ble_eq_true rfl) rfl ?_
  obtain rfl := Option.some.inj hk
  exact x_aret (pc := 14) C dJ5_get_14 (Nat.le_of_ble_eq_true rfl) (Nat.le_of_ble_eq_true rfl) rfl
def f_X2_prices_L4 (F : Nat) (sh : SH) (I : II) (x0 : Nat) (x1 : Int32) : Nat → Int32 → Int32 → Option Int32
  | 0, _, _ => none
  | n4 + 1, x2, x3 => ock sh x0 2 <| orf (sh.2.2 x0 1) fun t6 => ock sh t6 3 <| (f_J5_size sh t6 I).bind fun r9 => if r9 ≤ x3 then some x2 else (f_X0_has x1 x3).bind fun r18 => if r18 = 0 then (f_X2_prices_L4 F sh I x0 x1 n4) (x2 + (nI 0)) (x3 + (nI 1)) else orf (sh.2.2 x0 1) fun t25 => ock sh t25 3 <| (f_J5_get sh t25 x3 I).bind fun a29 => ockD sh a29 <| (f_X2_prices_L4 F sh I x0 x1 n4) (x2 + (I a29 2)) (x3 + (nI 1))
def f_X2_prices (F : Nat) (sh : SH) (x0 : Nat) (x1 : Int32) (I : II) : Option Int32 := f_X2_prices_L4 F sh I x0 x1 F (nI 0) (nI 0)
abbrev rm_X2_prices : Room := { frames := 3, cells := 0, slots := 0, locals := 64 }
theorem mv_X2_prices_ok : callOK yX2_prices 1 := by decide +kernel
theorem mv_X2_prices : MV yX2_prices cX2_prices 4 (some .int) 1 := ⟨q1626, q1627, q96, q1628, mv_X2_prices_ok⟩
set_option maxHeartbeats 4000000 in
theorem ct_X2_prices {G : WG} {l : Launch} {sh : SH} (hS : stN sh) {I : II} {F : Nat} {x0 : Nat} {x1 : Int32} {Z : Int32} (hk : f_X2_prices F sh x0 x1 I = some Z) : CT G l yX2_prices (ws_ yX2_prices cX2_prices 4 (some .int)) rm_X2_prices [.ref (wad G x0), .int x1] (sh, I) (.returned (some (.int Z))) (sh, I) := by
  refine CT.ofJ "NineDemands$Village" rfl (by decide) (Nat.le_of_ble_eq_true rfl) ?_
  intro p e s m args below meth c C
  unfold f_X2_prices at hk
  refine j_lv (lv' := [some (.ref (wad G x0)), some (.int x1), none, none]) rfl ?_
  refine j_iconst (pc := 0) (v := nI 0) C dX2_prices_0 (by decide) ?_
  refine j_istore_n (pc := 1) C dX2_prices_1 rfl (Nat.le_of_ble_eq_true rfl) rfl ?_
  refine j_iconst (pc := 2) (v := nI 0) C dX2_prices_2 (by decide) ?_
  refine j_istore_n (pc := 3) C dX2_prices_3 rfl (Nat.le_of_ble_eq_true rfl) rfl ?_
  have L4 : ∀ (x0 : Nat) (x1 : Int32) (n4 : Nat) (x2 : Int32) (x3 : Int32), f_X2_prices_L4 F sh I x0 x1 n4 x2 x3 = some Z → J G p l e rm_X2_prices s m args below meth c 4 (.returned (some (.int Z))) (sh, I) (rm_X2_prices).cells (rm_X2_prices).slots (sh, I) 0 0 4 [some (.ref (wad G x0)), some (.int x1), some (.int x2), some (.int x3)] [] := by
    intro x0 x1 n4
    induction n4 with
    | zero => intro x2 x3 hk; rw [f_X2_prices_L4] at hk; cases hk
    | succ n4 ih4 =>
      intro x2 x3 hk
      rw [f_X2_prices_L4] at hk
      generalize f_X2_prices_L4 F sh I x0 x1 n4 = k4 at ih4 hk
      refine j_iload_n (pc := 4) C dX2_prices_4 rfl rfl ?_
      refine j_aload_n (pc := 5) C dX2_prices_5 rfl rfl ?_
      replace hk := ock_some hk
      obtain ⟨h1, hk⟩ := hk
      replace hk := orf_some hk
      obtain ⟨t6, et6, hk⟩ := hk
      refine x_getR (pc := 6) C fd_2_1 (fl1 C q250) h1 et6 dX2_prices_6 ?_
      replace hk := ock_some hk
      obtain ⟨h2, hk⟩ := hk
      replace hk := ob_some hk
      obtain ⟨r9, h3, hk⟩ := hk
      refine x_callV (pc := 9) C (ct_J5_size h3) mv_J5_size h2 rfl rfl q1534 dX2_prices_9 rfl rfl (Nat.le_of_ble_eq_true rfl) rfl ?_
      refine j_icmp_ge (pc := 12) 50 C dX2_prices_12 (by decide) (fun h4 => ?_) (fun h4 => ?_)
      · replace hk := it_t h4 hk
        refine j_iload_n (pc := 50) C dX2_prices_50 rfl rfl ?_
        obtain rfl := Option.some.inj hk
        exact j_iret (pc := 51) C dX2_prices_51 (Nat.le_of_ble_eq_true rfl) (Nat.le_of_ble_eq_true rfl)
      · replace hk := it_f h4 hk
        refine j_iload_n (pc := 15) C dX2_prices_15 rfl rfl ?_
        refine j_iload_n (pc := 16) C dX2_prices_16 rfl rfl ?_
        refine j_iload_n (pc := 17) C dX2_prices_17 rfl rfl ?_
        replace hk := ob_some hk
        obtain ⟨r18, h5, hk⟩ := hk
        refine x_callSN (pc := 18) C (ct_X0_has h5) ms_X0_has q1535 dX2_prices_18 rfl rfl (Nat.le_of_ble_eq_true rfl) rfl ?_
        refine j_if_eq (pc := 21) 41 C dX2_prices_21 (by decide) (fun h6 => ?_) (fun h6 => ?_)
        · replace hk := it_t h6 hk
          refine j_iconst (pc := 41) (v := nI 0) C dX2_prices_41 (by decide) ?_
          refine j_iadd (pc := 42) C dX2_prices_42 ?_
          refine j_istore_n (pc := 43) C dX2_prices_43 rfl (Nat.le_of_ble_eq_true rfl) rfl ?_
          refine j_iinc (pc := 44) (nI 1) C dX2_prices_44 rfl (by decide) (Nat.le_of_ble_eq_true rfl) rfl ?_
          refine j_goto (pc := 47) 4 C dX2_prices_47 (by decide) ?_
          exact j_mask [true, true, true, true] (ih4 _ _ hk)
        · replace hk := it_f h6 hk
          refine j_aload_n (pc := 24) C dX2_prices_24 rfl rfl ?_
          replace hk := orf_some hk
          obtain ⟨t25, et25, hk⟩ := hk
          refine x_getR (pc := 25) C fd_2_1 (fl1 C q250) h1 et25 dX2_prices_25 ?_
          refine j_iload_n (pc := 28) C dX2_prices_28 rfl rfl ?_
          replace hk := ock_some hk
          obtain ⟨h7, hk⟩ := hk
          replace hk := ob_some hk
          obtain ⟨a29, h8, hk⟩ := hk
          refine x_callV (pc := 29) C (ct_J5_get h8) mv_J5_get h7 rfl rfl q1536 dX2_prices_29 rfl rfl (Nat.le_of_ble_eq_true rfl) rfl ?_
          refine j_stk (st' := [.ref (wad G a29), .int x2]) rfl ?_
          replace hk := ockD_some hk
          obtain ⟨ch9, ch9h, h9, hk⟩ := hk
          obtain ⟨cr32, hcr32, hcs32⟩ := castD_NineDemands_Demand ch9h
          refine x_cast (pc := 32) C h9 hcr32 q1537 hcs32 dX2_prices_32 ?_
          refine x_getI (pc := 35) C (fdD_2 ch9h) (fl1 C q562) h9 dX2_prices_35 ?_
          refine j_goto (pc := 38) 42 C dX2_prices_38 (by decide) ?_
          refine j_iadd (pc := 42) C dX2_prices_42 ?_
          refine j_istore_n (pc := 43) C dX2_prices_43 rfl (Nat.le_of_ble_eq_true rfl) rfl ?_
          refine j_iinc (pc := 44) (nI 1) C dX2_prices_44 rfl (by decide) (Nat.le_of_ble_eq_true rfl) rfl ?_
          refine j_goto (pc := 47) 4 C dX2_prices_47 (by decide) ?_
          exact j_mask [true, true, true, true] (ih4 _ _ hk)
  exact j_mask [true, true, true, true] (L4 _ _ _ _ _ hk)
def f_X0_boths_L4 (F : Nat) (sh : SH) (I : II) : Nat → Int32 → Int32 → Option Int32
  | 0, _, _ => none
  | n4 + 1, x1, x2 => if (nI 12) ≤ x2 then some x1 else orf (sh.2.2 0 1) fun t12 => ock sh t12 2 <| orf (sh.2.2 t12 0) fun t15 => oarw sh t15 100 fun nh3 => oix x2 nh3 fun i19 => if (I t15 i19) = (nI 3) then (f_X0_boths_L4 F sh I n4) (x1 + (nI 1)) (x2 + (nI 1)) else (f_X0_boths_L4 F sh I n4) (x1 + (nI 0)) (x2 + (nI 1))
def f_X0_boths (F : Nat) (sh : SH) (I : II) : Option Int32 := f_X0_boths_L4 F sh I F (nI 0) (nI 0)
abbrev rm_X0_boths : Room := { frames := 0, cells := 0, slots := 0, locals := 0 }
theorem mv_X0_boths_ok : callOK yX0_boths 0 := by decide +kernel
theorem mv_X0_boths : MV yX0_boths cX0_boths 3 (some .int) 0 := ⟨q1482, qs28, q91, q1483, mv_X0_boths_ok⟩
set_option maxHeartbeats 4000000 in
theorem ct_X0_boths {G : WG} {l : Launch} {sh : SH} (hS : stN sh) {I : II} {F : Nat}  {Z : Int32} (hk : f_X0_boths F sh I = some Z) : CT G l yX0_boths (ws_ yX0_boths cX0_boths 3 (some .int)) rm_X0_boths [.ref (wad G 0)] (sh, I) (.returned (some (.int Z))) (sh, I) := by
  refine CT.ofJ "NineDemands" rfl (by decide) (Nat.le_of_ble_eq_true rfl) ?_
  intro p e s m args below meth c C
  unfold f_X0_boths at hk
  refine j_lv (lv' := [some (.ref (wad G 0)), none, none]) rfl ?_
  refine j_iconst (pc := 0) (v := nI 0) C dX0_boths_0 (by decide) ?_
  refine j_istore_n (pc := 1) C dX0_boths_1 rfl (Nat.le_of_ble_eq_true rfl) rfl ?_
  refine j_iconst (pc := 2) (v := nI 0) C dX0_boths_2 (by decide) ?_
  refine j_istore_n (pc := 3) C dX0_boths_3 rfl (Nat.le_of_ble_eq_true rfl) rfl ?_
  have L4 : ∀  (n4 : Nat) (x1 : Int32) (x2 : Int32), f_X0_boths_L4 F sh I n4 x1 x2 = some Z → J G p l e rm_X0_boths s m args below meth c 3 (.returned (some (.int Z))) (sh, I) (rm_X0_boths).cells (rm_X0_boths).slots (sh, I) 0 0 4 [some (.ref (wad G 0)), some (.int x1), some (.int x2)] [] := by
    intro  n4
    induction n4 with
    | zero => intro x1 x2 hk; rw [f_X0_boths_L4] at hk; cases hk
    | succ n4 ih4 =>
      intro x1 x2 hk
      rw [f_X0_boths_L4] at hk
      generalize f_X0_boths_L4 F sh I n4 = k4 at ih4 hk
      refine j_iload_n (pc := 4) C dX0_boths_4 rfl rfl ?_
      refine j_bipush (pc := 5) (v := nI 12) C dX0_boths_5 (by decide) ?_
      refine j_icmp_ge (pc := 7) 37 C dX0_boths_7 (by decide) (fun h1 => ?_) (fun h1 => ?_)
      · replace hk := it_t h1 hk
        refine j_iload_n (pc := 37) C dX0_boths_37 rfl rfl ?_
        obtain rfl := Option.some.inj hk
        exact j_iret (pc := 38) C dX0_boths_38 (Nat.le_of_ble_eq_true rfl) (Nat.le_of_ble_eq_true rfl)
      · replace hk := it_f h1 hk
        refine j_iload_n (pc := 10) C dX0_boths_10 rfl rfl ?_
        refine j_aload_n (pc := 11) C dX0_boths_11 rfl rfl ?_
        replace hk := orf_some hk
        obtain ⟨t12, et12, hk⟩ := hk
        refine x_getR (pc := 12) C fd_0_1 (fl1 C q373) (stN_o0 hS).r et12 dX0_boths_12 ?_
        replace hk := ock_some hk
        obtain ⟨h2, hk⟩ := hk
        replace hk := orf_some hk
        obtain ⟨t15, et15, hk⟩ := hk
        refine x_getR (pc := 15) C fd_2_0 (fl3 C q249) h2 et15 dX0_boths_15 ?_
        refine j_iload_n (pc := 18) C dX0_boths_18 rfl rfl ?_
        replace hk := oarw_some hk
        obtain ⟨nh3, h3, hk⟩ := hk
        replace hk := oix_ex hk
        obtain ⟨i19, e19, h4, hk⟩ := hk
        refine j_iald (pc := 19) C h3 h4 e19 dX0_boths_19 ?_
        refine j_iconst (pc := 20) (v := nI 3) C dX0_boths_20 (by decide) ?_
        refine j_icmp_ne (pc := 21) 28 C dX0_boths_21 (by decide) (fun h5 => ?_) (fun h5 => ?_)
        · replace hk := it_f h5 hk
          refine j_iconst (pc := 28) (v := nI 0) C dX0_boths_28 (by decide) ?_
          refine j_iadd (pc := 29) C dX0_boths_29 ?_
          refine j_istore_n (pc := 30) C dX0_boths_30 rfl (Nat.le_of_ble_eq_true rfl) rfl ?_
          refine j_iinc (pc := 31) (nI 1) C dX0_boths_31 rfl (by decide) (Nat.le_of_ble_eq_true rfl) rfl ?_
          refine j_goto (pc := 34) 4 C dX0_boths_34 (by decide) ?_
          exact j_mask [true, true, true] (ih4 _ _ hk)
        · replace hk := it_t h5 hk
          refine j_iconst (pc := 24) (v := nI 1) C dX0_boths_24 (by decide) ?_
          refine j_goto (pc := 25) 29 C dX0_boths_25 (by decide) ?_
          refine j_iadd (pc := 29) C dX0_boths_29 ?_
          refine j_istore_n (pc := 30) C dX0_boths_30 rfl (Nat.le_of_ble_eq_true rfl) rfl ?_
          refine j_iinc (pc := 31) (nI 1) C dX0_boths_31 rfl (by decide) (Nat.le_of_ble_eq_true rfl) rfl ?_
          refine j_goto (pc := 34) 4 C dX0_boths_34 (by decide) ?_
          exact j_mask [true, true, true] (ih4 _ _ hk)
  exact j_mask [true, true, true] (L4  _ _ _ hk)
def f_X0_count_J110 (F : Nat) (sh : SH) (s0 : Nat) (I : II) : Option (Int32 × II) := bd2 (f_X0_finds sh s0 I) fun r113 I113 => some (r113, I113)
def f_X0_count (F : Nat) (sh : SH) (x1 : Int32) (I : II) : Option (Int32 × II) := (f_X0_in x1 (nI 0) (nI 5)).bind fun r4 => bd2 (f_X0_need sh r4 (nI 1) I) fun u8 I8 => oex u8 (fun _w8 => if x1 = nI 0 then orf (sh.2.2 0 1) fun t49 => ock sh t49 2 <| orf (sh.2.2 t49 1) fun t52 => ock sh t52 3 <| (f_J5_size sh t52 I8).bind fun r55 => some (r55, I8) else if x1 = nI 1 then orf (sh.2.2 0 1) fun t60 => orf (sh.2.2 0 1) fun t65 => ock sh t65 2 <| orf (sh.2.2 t65 1) fun t68 => ock sh t68 3 <| (f_J5_size sh t68 I8).bind fun r71 => ock sh t60 2 <| (f_X2_prices F sh t60 (((nI 1) <<< (r71 &&& 31)) - (nI 1)) I8).bind fun r77 => some (r77, I8) else if x1 = nI 2 then (f_X0_boths F sh I8).bind fun r82 => some (r82, I8) else if x1 = nI 3 then orf (sh.2.2 0 1) fun t87 => ock sh t87 2 <| some ((I8 t87 3), I8) else if x1 = nI 4 then orf (sh.2.2 0 1) fun t95 => ock sh t95 2 <| some ((I8 t95 5), I8) else some ((I8 7 1), I8)) (fun w8 => ock sh w8 1 <| f_X0_count_J110 F sh w8 I8)
abbrev rm_X0_count : Room := { frames := 4, cells := 0, slots := 0, locals := 87 }
theorem mv_X0_count_ok : callOK yX0_count 1 := by decide +kernel
theorem mw_X0_count : MW yX0_count cX0_count 3 (some .int) [(0, 58, 110, 8), (59, 80, 110, 8), (81, 85, 110, 8), (86, 93, 110, 8), (94, 101, 110, 8), (102, 109, 110, 8)] 1 := ⟨q1970, q1971, q91, q1972, mv_X0_count_ok⟩
set_option maxHeartbeats 4000000 in
theorem ct_X0_count {G : WG} {l : Launch} {sh : SH} (hS : stN sh) {I : II} {F : Nat} {x1 : Int32} {Z : (Int32 × II)} (hk : f_X0_count F sh x1 I = some Z) : CT G l yX0_count (wsW_ yX0_count cX0_count 3 (some .int) [(0, 58, 110, 8), (59, 80, 110, 8), (81, 85, 110, 8), (86, 93, 110, 8), (94, 101, 110, 8), (102, 109, 110, 8)]) rm_X0_count [.ref (wad G 0), .int x1] (sh, I) (.returned (some (.int Z.1))) (sh, Z.2) := by
  refine CT.ofJW "NineDemands" rfl (by decide) (Nat.le_of_ble_eq_true rfl) ?_
  intro p e s m args below meth c C
  unfold f_X0_count at hk
  refine j_lv (lv' := [some (.ref (wad G 0)), some (.int x1), none]) rfl ?_
  refine j_aload_n (pc := 0) C dX0_count_0 rfl rfl ?_
  refine j_iload_n (pc := 1) C dX0_count_1 rfl rfl ?_
  refine j_iconst (pc := 2) (v := nI 0) C dX0_count_2 (by decide) ?_
  refine j_iconst (pc := 3) (v := nI 5) C dX0_count_3 (by decide) ?_
  replace hk := ob_some hk
  obtain ⟨r4, h1, hk⟩ := hk
  refine j_callS (pc := 4) C (ct_X0_in h1) ms_X0_in q413 dX0_count_4 rfl rfl (Nat.le_of_ble_eq_true rfl) rfl ?_
  refine j_iconst (pc := 7) (v := nI 1) C dX0_count_7 (by decide) ?_
  have Jn110 : ∀ (s0 : Nat) (I : II), f_X0_count_J110 F sh s0 I = some Z → J G p l e rm_X0_count s m args below meth c 3 (.returned (some (.int Z.1))) (sh, Z.2) (rm_X0_count).cells (rm_X0_count).slots (sh, I) 0 0 110 [some (.ref (wad G 0)), none, none] [.ref (wad G s0)] := by
    intro s0 I hk
    unfold f_X0_count_J110 at hk
    refine j_astore_n (pc := 110) C dX0_count_110 rfl (Nat.le_of_ble_eq_true rfl) rfl ?_
    refine j_aload_n (pc := 111) C dX0_count_111 rfl rfl ?_
    refine j_aload_n (pc := 112) C dX0_count_112 rfl rfl ?_
    replace hk := bd2_some hk
    obtain ⟨r113, I113, h2, hk⟩ := hk
    refine x_callV (pc := 113) C (ct_X0_finds hS h2) mv_X0_finds (stN_o0 hS).r rfl rfl q433 dX0_count_113 rfl rfl (Nat.le_of_ble_eq_true rfl) rfl ?_
    obtain rfl := Option.some.inj hk
    exact j_iret (pc := 116) C dX0_count_116 (Nat.le_of_ble_eq_true rfl) (Nat.le_of_ble_eq_true rfl)
  replace hk := bd2_some hk
  obtain ⟨u8, I8, h3, hk⟩ := hk
  cases u8 with
  | inr w8 =>
    replace hk := oex_r hk
    replace hk := ock_some hk
    obtain ⟨h5, hk⟩ := hk
    refine x_callVC [] [(59, 80, 110, 8), (81, 85, 110, 8), (86, 93, 110, 8), (94, 101, 110, 8), (102, 109, 110, 8)] (0, 58, 110, 8) (pc := 8) C (ct_X0_need hS h3) mv_X0_need (stN_o0 hS).r rfl rfl q416 dX0_count_8 rfl rfl (Nat.le_of_ble_eq_true rfl) rfl rfl h5 rfl (by decide) (by decide) q146 (fun z hz => by cases hz) ?_
    exact j_mask [true, false, false] (Jn110 _ _ hk)
  | inl _w8 =>
    replace hk := oex_l hk
    refine x_callV (pc := 8) C (ct_X0_need hS h3) mv_X0_need (stN_o0 hS).r rfl rfl q416 dX0_count_8 rfl rfl (Nat.le_of_ble_eq_true rfl) rfl ?_
    refine j_iload_n (pc := 11) C dX0_count_11 rfl rfl ?_
    by_cases h6 : x1 = nI 0
    · replace hk := it_t h6 hk
      refine j_tableIn (pc := 12) 48 0 C dX0_count_12 (sw_in h6 (by decide)) (by decide) (by decide) rfl (by decide) ?_
      refine j_aload_n (pc := 48) C dX0_count_48 rfl rfl ?_
      replace hk := orf_some hk
      obtain ⟨t49, et49, hk⟩ := hk
      refine x_getR (pc := 49) C fd_0_1 (fl1 C q373) (stN_o0 hS).r et49 dX0_count_49 ?_
      replace hk := ock_some hk
      obtain ⟨h7, hk⟩ := hk
      replace hk := orf_some hk
      obtain ⟨t52, et52, hk⟩ := hk
      refine x_getR (pc := 52) C fd_2_1 (fl3 C q251) h7 et52 dX0_count_52 ?_
      replace hk := ock_some hk
      obtain ⟨h8, hk⟩ := hk
      replace hk := ob_some hk
      obtain ⟨r55, h9, hk⟩ := hk
      refine x_callV (pc := 55) C (ct_J5_size h9) mv_J5_size h8 rfl rfl q514 dX0_count_55 rfl rfl (Nat.le_of_ble_eq_true rfl) rfl ?_
      obtain rfl := Option.some.inj hk
      exact j_iret (pc := 58) C dX0_count_58 (Nat.le_of_ble_eq_true rfl) (Nat.le_of_ble_eq_true rfl)
    replace hk := it_f h6 hk
    by_cases h10 : x1 = nI 1
    · replace hk := it_t h10 hk
      refine j_tableIn (pc := 12) 59 1 C dX0_count_12 (sw_in h10 (by decide)) (by decide) (by decide) rfl (by decide) ?_
      refine j_aload_n (pc := 59) C dX0_count_59 rfl rfl ?_
      replace hk := orf_some hk
      obtain ⟨t60, et60, hk⟩ := hk
      refine x_getR (pc := 60) C fd_0_1 (fl1 C q373) (stN_o0 hS).r et60 dX0_count_60 ?_
      refine j_iconst (pc := 63) (v := nI 1) C dX0_count_63 (by decide) ?_
      refine j_aload_n (pc := 64) C dX0_count_64 rfl rfl ?_
      replace hk := orf_some hk
      obtain ⟨t65, et65, hk⟩ := hk
      refine x_getR (pc := 65) C fd_0_1 (fl1 C q373) (stN_o0 hS).r et65 dX0_count_65 ?_
      replace hk := ock_some hk
      obtain ⟨h11, hk⟩ := hk
      replace hk := orf_some hk
      obtain ⟨t68, et68, hk⟩ := hk
      refine x_getR (pc := 68) C fd_2_1 (fl3 C q251) h11 et68 dX0_count_68 ?_
      replace hk := ock_some hk
      obtain ⟨h12, hk⟩ := hk
      replace hk := ob_some hk
      obtain ⟨r71, h13, hk⟩ := hk
      refine x_callV (pc := 71) C (ct_J5_size h13) mv_J5_size h12 rfl rfl q514 dX0_count_71 rfl rfl (Nat.le_of_ble_eq_true rfl) rfl ?_
      refine j_ishl (pc := 74) C dX0_count_74 ?_
      refine j_iconst (pc := 75) (v := nI 1) C dX0_count_75 (by decide) ?_
      refine j_isub (pc := 76) C dX0_count_76 ?_
      replace hk := ock_some hk
      obtain ⟨h14, hk⟩ := hk
      replace hk := ob_some hk
      obtain ⟨r77, h15, hk⟩ := hk
      refine x_callV (pc := 77) C (ct_X2_prices hS h15) mv_X2_prices h14 rfl rfl q1625 dX0_count_77 rfl rfl (Nat.le_of_ble_eq_true rfl) rfl ?_
      obtain rfl := Option.some.inj hk
      exact j_iret (pc := 80) C dX0_count_80 (Nat.le_of_ble_eq_true rfl) (Nat.le_of_ble_eq_true rfl)
    replace hk := it_f h10 hk
    by_cases h16 : x1 = nI 2
    · replace hk := it_t h16 hk
      refine j_tableIn (pc := 12) 81 2 C dX0_count_12 (sw_in h16 (by decide)) (by decide) (by decide) rfl (by decide) ?_
      refine j_aload_n (pc := 81) C dX0_count_81 rfl rfl ?_
      replace hk := ob_some hk
      obtain ⟨r82, h17, hk⟩ := hk
      refine x_callV (pc := 82) C (ct_X0_boths hS h17) mv_X0_boths (stN_o0 hS).r rfl rfl q1480 dX0_count_82 rfl rfl (Nat.le_of_ble_eq_true rfl) rfl ?_
      obtain rfl := Option.some.inj hk
      exact j_iret (pc := 85) C dX0_count_85 (Nat.le_of_ble_eq_true rfl) (Nat.le_of_ble_eq_true rfl)
    replace hk := it_f h16 hk
    by_cases h18 : x1 = nI 3
    · replace hk := it_t h18 hk
      refine j_tableIn (pc := 12) 86 3 C dX0_count_12 (sw_in h18 (by decide)) (by decide) (by decide) rfl (by decide) ?_
      refine j_aload_n (pc := 86) C dX0_count_86 rfl rfl ?_
      replace hk := orf_some hk
      obtain ⟨t87, et87, hk⟩ := hk
      refine x_getR (pc := 87) C fd_0_1 (fl1 C q373) (stN_o0 hS).r et87 dX0_count_87 ?_
      replace hk := ock_some hk
      obtain ⟨h19, hk⟩ := hk
      refine x_getI (pc := 90) C fd_2_3 (fl3 C q255) h19 dX0_count_90 ?_
      obtain rfl := Option.some.inj hk
      exact j_iret (pc := 93) C dX0_count_93 (Nat.le_of_ble_eq_true rfl) (Nat.le_of_ble_eq_true rfl)
    replace hk := it_f h18 hk
    by_cases h20 : x1 = nI 4
    · replace hk := it_t h20 hk
      refine j_tableIn (pc := 12) 94 4 C dX0_count_12 (sw_in h20 (by decide)) (by decide) (by decide) rfl (by decide) ?_
      refine j_aload_n (pc := 94) C dX0_count_94 rfl rfl ?_
      replace hk := orf_some hk
      obtain ⟨t95, et95, hk⟩ := hk
      refine x_getR (pc := 95) C fd_0_1 (fl1 C q373) (stN_o0 hS).r et95 dX0_count_95 ?_
      replace hk := ock_some hk
      obtain ⟨h21, hk⟩ := hk
      refine x_getI (pc := 98) C fd_2_5 (fl3 C q259) h21 dX0_count_98 ?_
      obtain rfl := Option.some.inj hk
      exact j_iret (pc := 101) C dX0_count_101 (Nat.le_of_ble_eq_true rfl) (Nat.le_of_ble_eq_true rfl)
    replace hk := it_f h20 hk
    refine j_tableOut (pc := 12) 102 C dX0_count_12 (sw_out (lo := 0) (hi := 4) (by decide) (fun j a1 a2 => by
      have a3 : j = 0 ∨ j = 1 ∨ j = 2 ∨ j = 3 ∨ j = 4 := by omega
      rcases a3 with rfl | rfl | rfl | rfl | rfl
      · exact h6
      · exact h10
      · exact h16
      · exact h18
      · exact h20)) (by decide) ?_
    refine j_aload_n (pc := 102) C dX0_count_102 rfl rfl ?_
    refine x_getR (pc := 103) C fd_0_4 (fl1 C q376) (stN_o0 hS).r (stN_r0_4 hS) dX0_count_103 ?_
    refine x_getI (pc := 106) C fd_4_1 (fl3 C q283) (stN_o7 hS).r dX0_count_106 ?_
    obtain rfl := Option.some.inj hk
    exact j_iret (pc := 109) C dX0_count_109 (Nat.le_of_ble_eq_true rfl) (Nat.le_of_ble_eq_true rfl)
def f_X0_isSet (sh : SH) (x1 : Int32) (I : II) : Option Int32 := orf (sh.2.2 0 1) fun t4 => ock sh t4 2 <| orf (sh.2.2 t4 1) fun t7 => ock sh t7 3 <| (f_J5_size sh t7 I).bind fun r10 => (f_X0_in x1 (nI 0) (((nI 1) <<< (r10 &&& 31)) - (nI 1))).bind fun r16 => og (r16 = 0 ∨ r16 = 1) <| some r16
abbrev rm_X0_isSet : Room := { frames := 1, cells := 0, slots := 0, locals := 22 }
theorem mv_X0_isSet_ok : callOK yX0_isSet 1 := by decide +kernel
theorem mv_X0_isSet : MV yX0_isSet cX0_isSet 2 (some .boolean) 1 := ⟨q1417, qs21, q91, q1418, mv_X0_isSet_ok⟩
set_option maxHeartbeats 4000000 in
theorem ct_X0_isSet {G : WG} {l : Launch} {sh : SH} (hS : stN sh) {I : II} {x1 : Int32} {Z : Int32} (hk : f_X0_isSet sh x1 I = some Z) : CT G l yX0_isSet (ws_ yX0_isSet cX0_isSet 2 (some .boolean)) rm_X0_isSet [.ref (wad G 0), .int x1] (sh, I) (.returned (some (.int Z))) (sh, I) := by
  refine CT.ofJ "NineDemands" rfl (by decide) (Nat.le_of_ble_eq_true rfl) ?_
  intro p e s m args below meth c C
  unfold f_X0_isSet at hk
  refine j_lv (lv' := [some (.ref (wad G 0)), some (.int x1)]) rfl ?_
  refine j_iload_n (pc := 0) C dX0_isSet_0 rfl rfl ?_
  refine j_iconst (pc := 1) (v := nI 0) C dX0_isSet_1 (by decide) ?_
  refine j_iconst (pc := 2) (v := nI 1) C dX0_isSet_2 (by decide) ?_
  refine j_aload_n (pc := 3) C dX0_isSet_3 rfl rfl ?_
  replace hk := orf_some hk
  obtain ⟨t4, et4, hk⟩ := hk
  refine x_getR (pc := 4) C fd_0_1 (fl1 C q373) (stN_o0 hS).r et4 dX0_isSet_4 ?_
  replace hk := ock_some hk
  obtain ⟨h1, hk⟩ := hk
  replace hk := orf_some hk
  obtain ⟨t7, et7, hk⟩ := hk
  refine x_getR (pc := 7) C fd_2_1 (fl3 C q251) h1 et7 dX0_isSet_7 ?_
  replace hk := ock_some hk
  obtain ⟨h2, hk⟩ := hk
  replace hk := ob_some hk
  obtain ⟨r10, h3, hk⟩ := hk
  refine x_callV (pc := 10) C (ct_J5_size h3) mv_J5_size h2 rfl rfl q514 dX0_isSet_10 rfl rfl (Nat.le_of_ble_eq_true rfl) rfl ?_
  refine j_ishl (pc := 13) C dX0_isSet_13 ?_
  refine j_iconst (pc := 14) (v := nI 1) C dX0_isSet_14 (by decide) ?_
  refine j_isub (pc := 15) C dX0_isSet_15 ?_
  replace hk := ob_some hk
  obtain ⟨r16, h4, hk⟩ := hk
  refine j_callS (pc := 16) C (ct_X0_in h4) ms_X0_in q413 dX0_isSet_16 rfl rfl (Nat.le_of_ble_eq_true rfl) rfl ?_
  replace hk := og_some hk
  obtain ⟨h5, hk⟩ := hk
  obtain rfl := Option.some.inj hk
  exact j_zret (pc := 19) C dX0_isSet_19 (Nat.le_of_ble_eq_true rfl) (Nat.le_of_ble_eq_true rfl) (isB.nar h5)
def f_X6_clear_L24 (F : Nat) (sh : SH) : Nat → Int32 → II → Option II
  | 0, _, _ => none
  | n24 + 1, x1, I => if (nI 144) ≤ x1 then some I else oix x1 144 fun i41 => (f_X6_clear_L24 F sh n24) (x1 + (nI 1)) (up2 I 14 i41 (nI 511))
def f_X6_clear_L2 (F : Nat) (sh : SH) : Nat → Int32 → II → Option II
  | 0, _, _ => none
  | n2 + 1, x1, I => if (nI 12) ≤ x1 then f_X6_clear_L24 F sh F (nI 0) I else oix x1 12 fun i15 => (f_X6_clear_L2 F sh n2) (x1 + (nI 1)) (up2 I 13 i15 (nI 14))
def f_X6_clear (F : Nat) (sh : SH) (I : II) : Option II := f_X6_clear_L2 F sh F (nI 0) I
abbrev rm_X6_clear : Room := { frames := 0, cells := 0, slots := 0, locals := 0 }
theorem mv_X6_clear_ok : callOK yX6_clear 0 := by decide +kernel
theorem mv_X6_clear : MV yX6_clear cX6_clear 2 none 0 := ⟨q1428, q1429, q103, q1430, mv_X6_clear_ok⟩
set_option maxHeartbeats 4000000 in
theorem ct_X6_clear {G : WG} {l : Launch} {sh : SH} (hS : stN sh) {I : II} {F : Nat}  {Z : II} (hk : f_X6_clear F sh I = some Z) : CT G l yX6_clear (ws_ yX6_clear cX6_clear 2 none) rm_X6_clear [.ref (wad G 12)] (sh, I) (.returned none) (sh, Z) := by
  refine CT.ofJ "NineDemands$Web" rfl (by decide) (Nat.le_of_ble_eq_true rfl) ?_
  intro p e s m args below meth c C
  unfold f_X6_clear at hk
  refine j_lv (lv' := [some (.ref (wad G 12)), none]) rfl ?_
  refine j_iconst (pc := 0) (v := nI 0) C dX6_clear_0 (by decide) ?_
  refine j_istore_n (pc := 1) C dX6_clear_1 rfl (Nat.le_of_ble_eq_true rfl) rfl ?_
  have L2 : ∀  (n2 : Nat) (x1 : Int32) (I : II), f_X6_clear_L2 F sh n2 x1 I = some Z → J G p l e rm_X6_clear s m args below meth c 2 (.returned none) (sh, Z) (rm_X6_clear).cells (rm_X6_clear).slots (sh, I) 0 0 2 [some (.ref (wad G 12)), some (.int x1)] [] := by
    intro  n2
    induction n2 with
    | zero => intro x1 I hk; rw [f_X6_clear_L2] at hk; cases hk
    | succ n2 ih2 =>
      intro x1 I hk
      rw [f_X6_clear_L2] at hk
      generalize f_X6_clear_L2 F sh n2 = k2 at ih2 hk
      refine j_iload_n (pc := 2) C dX6_clear_2 rfl rfl ?_
      refine j_bipush (pc := 3) (v := nI 12) C dX6_clear_3 (by decide) ?_
      refine j_icmp_ge (pc := 5) 22 C dX6_clear_5 (by decide) (fun h1 => ?_) (fun h1 => ?_)
      · replace hk := it_t h1 hk
        refine j_iconst (pc := 22) (v := nI 0) C dX6_clear_22 (by decide) ?_
        refine j_istore_n (pc := 23) C dX6_clear_23 rfl (Nat.le_of_ble_eq_true rfl) rfl ?_
        have L24 : ∀  (n24 : Nat) (x1 : Int32) (I : II), f_X6_clear_L24 F sh n24 x1 I = some Z → J G p l e rm_X6_clear s m args below meth c 2 (.returned none) (sh, Z) (rm_X6_clear).cells (rm_X6_clear).slots (sh, I) 0 0 24 [some (.ref (wad G 12)), some (.int x1)] [] := by
          intro  n24
          induction n24 with
          | zero => intro x1 I hk; rw [f_X6_clear_L24] at hk; cases hk
          | succ n24 ih24 =>
            intro x1 I hk
            rw [f_X6_clear_L24] at hk
            generalize f_X6_clear_L24 F sh n24 = k24 at ih24 hk
            refine j_iload_n (pc := 24) C dX6_clear_24 rfl rfl ?_
            refine j_aload_n (pc := 25) C dX6_clear_25 rfl rfl ?_
            refine x_getR (pc := 26) C fd_7_1 (fl1 C q314) (stN_o12 hS).r (stN_r12_1 hS) dX6_clear_26 ?_
            refine x_alen (pc := 29) C (stN_a14 hS).r (by decide) dX6_clear_29 ?_
            refine j_icmp_ge (pc := 30) 48 C dX6_clear_30 (by decide) (fun h2 => ?_) (fun h2 => ?_)
            · replace hk := it_t h2 hk
              obtain rfl := Option.some.inj hk
              exact j_vret (pc := 48) C dX6_clear_48 (Nat.le_of_ble_eq_true rfl) (Nat.le_of_ble_eq_true rfl)
            · replace hk := it_f h2 hk
              refine j_aload_n (pc := 33) C dX6_clear_33 rfl rfl ?_
              refine x_getR (pc := 34) C fd_7_1 (fl1 C q314) (stN_o12 hS).r (stN_r12_1 hS) dX6_clear_34 ?_
              refine j_iload_n (pc := 37) C dX6_clear_37 rfl rfl ?_
              refine j_sipush (pc := 38) (v := nI 511) C dX6_clear_38 (by decide) ?_
              replace hk := oix_ex hk
              obtain ⟨i41, e41, h3, hk⟩ := hk
              refine j_iast (pc := 41) C (stN_a14 hS) h3 e41 dX6_clear_41 ?_
              refine j_iinc (pc := 42) (nI 1) C dX6_clear_42 rfl (by decide) (Nat.le_of_ble_eq_true rfl) rfl ?_
              refine j_goto (pc := 45) 24 C dX6_clear_45 (by decide) ?_
              exact j_mask [true, true] (ih24 _ _ hk)
        exact j_mask [true, true] (L24  _ _ _ hk)
      · replace hk := it_f h1 hk
        refine j_aload_n (pc := 8) C dX6_clear_8 rfl rfl ?_
        refine x_getR (pc := 9) C fd_7_0 (fl1 C q312) (stN_o12 hS).r (stN_r12_0 hS) dX6_clear_9 ?_
        refine j_iload_n (pc := 12) C dX6_clear_12 rfl rfl ?_
        refine j_bipush (pc := 13) (v := nI 14) C dX6_clear_13 (by decide) ?_
        replace hk := oix_ex hk
        obtain ⟨i15, e15, h4, hk⟩ := hk
        refine j_iast (pc := 15) C (stN_a13 hS) h4 e15 dX6_clear_15 ?_
        refine j_iinc (pc := 16) (nI 1) C dX6_clear_16 rfl (by decide) (Nat.le_of_ble_eq_true rfl) rfl ?_
        refine j_goto (pc := 19) 2 C dX6_clear_19 (by decide) ?_
        exact j_mask [true, true] (ih2 _ _ hk)
  exact j_mask [true, true] (L2  _ _ _ hk)
def f_X23_isPair (sh : SH) (x0 : Nat) (x1 : Int32) (I : II) : Option Int32 := ock sh x0 23 <| orf (sh.2.2 x0 1) fun t1 => oarw sh t1 100 fun nh2 => oix x1 nh2 fun i5 => if (I t1 i5) = (-1) then some (nI 0) else some (nI 1)
abbrev rm_X23_isPair : Room := { frames := 0, cells := 0, slots := 0, locals := 0 }
theorem mv_X23_isPair_ok : callOK yX23_isPair 1 := by decide +kernel
theorem mv_X23_isPair : MV yX23_isPair cX23_isPair 2 (some .boolean) 1 := ⟨q1381, q1382, q131, q1383, mv_X23_isPair_ok⟩
set_option maxHeartbeats 4000000 in
theorem ct_X23_isPair {G : WG} {l : Launch} {sh : SH} (hS : stN sh) {I : II} {x0 : Nat} {x1 : Int32} {Z : Int32} (hk : f_X23_isPair sh x0 x1 I = some Z) : CT G l yX23_isPair (ws_ yX23_isPair cX23_isPair 2 (some .boolean)) rm_X23_isPair [.ref (wad G x0), .int x1] (sh, I) (.returned (some (.int Z))) (sh, I) := by
  refine CT.ofJ "NineDemands$Cases" rfl (by decide) (Nat.le_of_ble_eq_true rfl) ?_
  intro p e s m args below meth c C
  unfold f_X23_isPair at hk
  refine j_lv (lv' := [some (.ref (wad G x0)), some (.int x1)]) rfl ?_
  refine j_aload_n (pc := 0) C dX23_isPair_0 rfl rfl ?_
  replace hk := ock_some hk
  obtain ⟨h1, hk⟩ := hk
  replace hk := orf_some hk
  obtain ⟨t1, et1, hk⟩ := hk
  refine x_getR (pc := 1) C fd_23_1 (fl1 C q1126) h1 et1 dX23_isPair_1 ?_
  refine j_iload_n (pc := 4) C dX23_isPair_4 rfl rfl ?_
  replace hk := oarw_some hk
  obtain ⟨nh2, h2, hk⟩ := hk
  replace hk := oix_ex hk
  obtain ⟨i5, e5, h3, hk⟩ := hk
  refine j_iald (pc := 5) C h2 h3 e5 dX23_isPair_5 ?_
  refine j_iconst (pc := 6) (v := (-1)) C dX23_isPair_6 (by decide) ?_
  refine j_icmp_eq (pc := 7) 14 C dX23_isPair_7 (by decide) (fun h4 => ?_) (fun h4 => ?_)
  · replace hk := it_t h4 hk
    refine j_iconst (pc := 14) (v := nI 0) C dX23_isPair_14 (by decide) ?_
    obtain rfl := Option.some.inj hk
    exact j_zret (pc := 15) C dX23_isPair_15 (Nat.le_of_ble_eq_true rfl) (Nat.le_of_ble_eq_true rfl) (isB.nar (v := (nI 0)) (by unfold isB; decide))
  · replace hk := it_f h4 hk
    refine j_iconst (pc := 10) (v := nI 1) C dX23_isPair_10 (by decide) ?_
    refine j_goto (pc := 11) 15 C dX23_isPair_11 (by decide) ?_
    obtain rfl := Option.some.inj hk
    exact j_zret (pc := 15) C dX23_isPair_15 (Nat.le_of_ble_eq_true rfl) (Nat.le_of_ble_eq_true rfl) (isB.nar (v := (nI 1)) (by unfold isB; decide))
def f_X6_partners (x0 : Int32) (x1 : Int32) : Option Int32 := some (((x0 >>> ((((nI 3) * x1) - (nI 3)) &&& 31)) &&& (nI 7)) <<< ((nI 1) &&& 31))
abbrev rm_X6_partners : Room := { frames := 0, cells := 0, slots := 0, locals := 0 }
theorem ms_X6_partners : MS yX6_partners cX6_partners 2 (some .int) 2 := ⟨q1447, q103, q1448, by decide +kernel⟩
set_option maxHeartbeats 4000000 in
theorem ct_X6_partners {G : WG} {l : Launch} {sh : SH} {I : II} {x0 : Int32} {x1 : Int32} {Z : Int32} (hk : f_X6_partners x0 x1 = some Z) : CT G l yX6_partners (ws_ yX6_partners cX6_partners 2 (some .int)) rm_X6_partners [.int x0, .int x1] (sh, I) (.returned (some (.int Z))) (sh, I) := by
  refine CT.ofJ "NineDemands$Web" rfl (by decide) (Nat.le_of_ble_eq_true rfl) ?_
  intro p e s m args below meth c C
  unfold f_X6_partners at hk
  refine j_lv (lv' := [some (.int x0), some (.int x1)]) rfl ?_
  refine j_iload_n (pc := 0) C dX6_partners_0 rfl rfl ?_
  refine j_iconst (pc := 1) (v := nI 3) C dX6_partners_1 (by decide) ?_
  refine j_iload_n (pc := 2) C dX6_partners_2 rfl rfl ?_
  refine j_imul (pc := 3) C dX6_partners_3 ?_
  refine j_iconst (pc := 4) (v := nI 3) C dX6_partners_4 (by decide) ?_
  refine j_isub (pc := 5) C dX6_partners_5 ?_
  refine j_ishr (pc := 6) C dX6_partners_6 ?_
  refine j_bipush (pc := 7) (v := nI 7) C dX6_partners_7 (by decide) ?_
  refine j_iand (pc := 9) C dX6_partners_9 ?_
  refine j_iconst (pc := 10) (v := nI 1) C dX6_partners_10 (by decide) ?_
  refine j_ishl (pc := 11) C dX6_partners_11 ?_
  obtain rfl := Option.some.inj hk
  exact j_iret (pc := 12) C dX6_partners_12 (Nat.le_of_ble_eq_true rfl) (Nat.le_of_ble_eq_true rfl)
def f_X6_firsts_L4 (F : Nat) (x0 : Int32) : Nat → Int32 → Int32 → Option Int32
  | 0, _, _ => none
  | n4 + 1, x1, x2 => if (nI 3) < x2 then some x1 else (f_X6_partners x0 x2).bind fun r12 => if r12 = 0 then (f_X6_firsts_L4 F x0 n4) (x1 ||| (nI 0)) (x2 + (nI 1)) else (f_X6_firsts_L4 F x0 n4) (x1 ||| ((nI 1) <<< (x2 &&& 31))) (x2 + (nI 1))
def f_X6_firsts (F : Nat) (x0 : Int32) : Option Int32 := f_X6_firsts_L4 F x0 F (nI 0) (nI 1)
abbrev rm_X6_firsts : Room := { frames := 1, cells := 0, slots := 0, locals := 21 }
theorem ms_X6_firsts : MS yX6_firsts cX6_firsts 3 (some .int) 1 := ⟨q1444, q103, q1445, by decide +kernel⟩
set_option maxHeartbeats 4000000 in
theorem ct_X6_firsts {G : WG} {l : Launch} {sh : SH} {I : II} {F : Nat} {x0 : Int32} {Z : Int32} (hk : f_X6_firsts F x0 = some Z) : CT G l yX6_firsts (ws_ yX6_firsts cX6_firsts 3 (some .int)) rm_X6_firsts [.int x0] (sh, I) (.returned (some (.int Z))) (sh, I) := by
  refine CT.ofJ "NineDemands$Web" rfl (by decide) (Nat.le_of_ble_eq_true rfl) ?_
  intro p e s m args below meth c C
  unfold f_X6_firsts at hk
  refine j_lv (lv' := [some (.int x0), none, none]) rfl ?_
  refine j_iconst (pc := 0) (v := nI 0) C dX6_firsts_0 (by decide) ?_
  refine j_istore_n (pc := 1) C dX6_firsts_1 rfl (Nat.le_of_ble_eq_true rfl) rfl ?_
  refine j_iconst (pc := 2) (v := nI 1) C dX6_firsts_2 (by decide) ?_
  refine j_istore_n (pc := 3) C dX6_firsts_3 rfl (Nat.le_of_ble_eq_true rfl) rfl ?_
  have L4 : ∀ (x0 : Int32) (n4 : Nat) (x1 : Int32) (x2 : Int32), f_X6_firsts_L4 F x0 n4 x1 x2 = some Z → J G p l e rm_X6_firsts s m args below meth c 3 (.returned (some (.int Z))) (sh, I) (rm_X6_firsts).cells (rm_X6_firsts).slots (sh, I) 0 0 4 [some (.int x0), some (.int x1), some (.int x2)] [] := by
    intro x0 n4
    induction n4 with
    | zero => intro x1 x2 hk; rw [f_X6_firsts_L4] at hk; cases hk
    | succ n4 ih4 =>
      intro x1 x2 hk
      rw [f_X6_firsts_L4] at hk
      generalize f_X6_firsts_L4 F x0 n4 = k4 at ih4 hk
      refine j_iload_n (pc := 4) C dX6_firsts_4 rfl rfl ?_
      refine j_iconst (pc := 5) (v := nI 3) C dX6_firsts_5 (by decide) ?_
      refine j_icmp_gt (pc := 6) 33 C dX6_firsts_6 (by decide) (fun h1 => ?_) (fun h1 => ?_)
      · replace hk := it_t h1 hk
        refine j_iload_n (pc := 33) C dX6_firsts_33 rfl rfl ?_
        obtain rfl := Option.some.inj hk
        exact j_iret (pc := 34) C dX6_firsts_34 (Nat.le_of_ble_eq_true rfl) (Nat.le_of_ble_eq_true rfl)
      · replace hk := it_f h1 hk
        refine j_iload_n (pc := 9) C dX6_firsts_9 rfl rfl ?_
        refine j_iload_n (pc := 10) C dX6_firsts_10 rfl rfl ?_
        refine j_iload_n (pc := 11) C dX6_firsts_11 rfl rfl ?_
        replace hk := ob_some hk
        obtain ⟨r12, h2, hk⟩ := hk
        refine j_callS (pc := 12) C (ct_X6_partners h2) ms_X6_partners q1446 dX6_firsts_12 rfl rfl (Nat.le_of_ble_eq_true rfl) rfl ?_
        refine j_if_eq (pc := 15) 24 C dX6_firsts_15 (by decide) (fun h3 => ?_) (fun h3 => ?_)
        · replace hk := it_t h3 hk
          refine j_iconst (pc := 24) (v := nI 0) C dX6_firsts_24 (by decide) ?_
          refine j_ior (pc := 25) C dX6_firsts_25 ?_
          refine j_istore_n (pc := 26) C dX6_firsts_26 rfl (Nat.le_of_ble_eq_true rfl) rfl ?_
          refine j_iinc (pc := 27) (nI 1) C dX6_firsts_27 rfl (by decide) (Nat.le_of_ble_eq_true rfl) rfl ?_
          refine j_goto (pc := 30) 4 C dX6_firsts_30 (by decide) ?_
          exact j_mask [true, true, true] (ih4 _ _ hk)
        · replace hk := it_f h3 hk
          refine j_iconst (pc := 18) (v := nI 1) C dX6_firsts_18 (by decide) ?_
          refine j_iload_n (pc := 19) C dX6_firsts_19 rfl rfl ?_
          refine j_ishl (pc := 20) C dX6_firsts_20 ?_
          refine j_goto (pc := 21) 25 C dX6_firsts_21 (by decide) ?_
          refine j_ior (pc := 25) C dX6_firsts_25 ?_
          refine j_istore_n (pc := 26) C dX6_firsts_26 rfl (Nat.le_of_ble_eq_true rfl) rfl ?_
          refine j_iinc (pc := 27) (nI 1) C dX6_firsts_27 rfl (by decide) (Nat.le_of_ble_eq_true rfl) rfl ?_
          refine j_goto (pc := 30) 4 C dX6_firsts_30 (by decide) ?_
          exact j_mask [true, true, true] (ih4 _ _ hk)
  exact j_mask [true, true, true] (L4 _ _ _ _ hk)
def f_X0_bitOf (x0 : Int32) (x1 : Int32) : Option Int32 := some ((nI 1) <<< (((((nI 3) * x0) + x1) - (nI 4)) &&& 31))
abbrev rm_X0_bitOf : Room := { frames := 0, cells := 0, slots := 0, locals := 0 }
theorem ms_X0_bitOf : MS yX0_bitOf cX0_bitOf 2 (some .int) 2 := ⟨q1258, q91, q1259, by decide +kernel⟩
set_option maxHeartbeats 4000000 in
theorem ct_X0_bitOf {G : WG} {l : Launch} {sh : SH} {I : II} {x0 : Int32} {x1 : Int32} {Z : Int32} (hk : f_X0_bitOf x0 x1 = some Z) : CT G l yX0_bitOf (ws_ yX0_bitOf cX0_bitOf 2 (some .int)) rm_X0_bitOf [.int x0, .int x1] (sh, I) (.returned (some (.int Z))) (sh, I) := by
  refine CT.ofJ "NineDemands" rfl (by decide) (Nat.le_of_ble_eq_true rfl) ?_
  intro p e s m args below meth c C
  unfold f_X0_bitOf at hk
  refine j_lv (lv' := [some (.int x0), some (.int x1)]) rfl ?_
  refine j_iconst (pc := 0) (v := nI 1) C dX0_bitOf_0 (by decide) ?_
  refine j_iconst (pc := 1) (v := nI 3) C dX0_bitOf_1 (by decide) ?_
  refine j_iload_n (pc := 2) C dX0_bitOf_2 rfl rfl ?_
  refine j_imul (pc := 3) C dX0_bitOf_3 ?_
  refine j_iload_n (pc := 4) C dX0_bitOf_4 rfl rfl ?_
  refine j_iadd (pc := 5) C dX0_bitOf_5 ?_
  refine j_iconst (pc := 6) (v := nI 4) C dX0_bitOf_6 (by decide) ?_
  refine j_isub (pc := 7) C dX0_bitOf_7 ?_
  refine j_ishl (pc := 8) C dX0_bitOf_8 ?_
  obtain rfl := Option.some.inj hk
  exact j_iret (pc := 9) C dX0_bitOf_9 (Nat.le_of_ble_eq_true rfl) (Nat.le_of_ble_eq_true rfl)
def f_X6_other_L11 (F : Nat) (k4 : Int32 → Int32 → Option Int32) (x0 : Int32) (x2 : Int32) : Nat → Int32 → Int32 → Option Int32
  | 0, _, _ => none
  | n11 + 1, x1, x3 => if (nI 3) < x3 then k4 x1 (x2 + (nI 1)) else (f_X0_bitOf x2 x3).bind fun r20 => if (x0 &&& r20) = 0 then (f_X6_other_L11 F k4 x0 x2 n11) (x1 ||| (nI 0)) (x3 + (nI 1)) else (f_X0_bitOf x3 x2).bind fun r29 => (f_X6_other_L11 F k4 x0 x2 n11) (x1 ||| r29) (x3 + (nI 1))
def f_X6_other_L4 (F : Nat) (x0 : Int32) : Nat → Int32 → Int32 → Option Int32
  | 0, _, _ => none
  | n4 + 1, x1, x2 => if (nI 3) < x2 then some x1 else f_X6_other_L11 F (f_X6_other_L4 F x0 n4) x0 x2 F x1 (nI 1)
def f_X6_other (F : Nat) (x0 : Int32) : Option Int32 := f_X6_other_L4 F x0 F (nI 0) (nI 1)
abbrev rm_X6_other : Room := { frames := 1, cells := 0, slots := 0, locals := 21 }
theorem ms_X6_other : MS yX6_other cX6_other 4 (some .int) 1 := ⟨q1440, q103, q1441, by decide +kernel⟩
set_option maxHeartbeats 4000000 in
theorem ct_X6_other {G : WG} {l : Launch} {sh : SH} {I : II} {F : Nat} {x0 : Int32} {Z : Int32} (hk : f_X6_other F x0 = some Z) : CT G l yX6_other (ws_ yX6_other cX6_other 4 (some .int)) rm_X6_other [.int x0] (sh, I) (.returned (some (.int Z))) (sh, I) := by
  refine CT.ofJ "NineDemands$Web" rfl (by decide) (Nat.le_of_ble_eq_true rfl) ?_
  intro p e s m args below meth c C
  unfold f_X6_other at hk
  refine j_lv (lv' := [some (.int x0), none, none, none]) rfl ?_
  refine j_iconst (pc := 0) (v := nI 0) C dX6_other_0 (by decide) ?_
  refine j_istore_n (pc := 1) C dX6_other_1 rfl (Nat.le_of_ble_eq_true rfl) rfl ?_
  refine j_iconst (pc := 2) (v := nI 1) C dX6_other_2 (by decide) ?_
  refine j_istore_n (pc := 3) C dX6_other_3 rfl (Nat.le_of_ble_eq_true rfl) rfl ?_
  have L4 : ∀ (x0 : Int32) (n4 : Nat) (x1 : Int32) (x2 : Int32), f_X6_other_L4 F x0 n4 x1 x2 = some Z → J G p l e rm_X6_other s m args below meth c 4 (.returned (some (.int Z))) (sh, I) (rm_X6_other).cells (rm_X6_other).slots (sh, I) 0 0 4 [some (.int x0), some (.int x1), some (.int x2), none] [] := by
    intro x0 n4
    induction n4 with
    | zero => intro x1 x2 hk; rw [f_X6_other_L4] at hk; cases hk
    | succ n4 ih4 =>
      intro x1 x2 hk
      rw [f_X6_other_L4] at hk
      generalize f_X6_other_L4 F x0 n4 = k4 at ih4 hk
      refine j_iload_n (pc := 4) C dX6_other_4 rfl rfl ?_
      refine j_iconst (pc := 5) (v := nI 3) C dX6_other_5 (by decide) ?_
      refine j_icmp_gt (pc := 6) 50 C dX6_other_6 (by decide) (fun h1 => ?_) (fun h1 => ?_)
      · replace hk := it_t h1 hk
        refine j_iload_n (pc := 50) C dX6_other_50 rfl rfl ?_
        obtain rfl := Option.some.inj hk
        exact j_iret (pc := 51) C dX6_other_51 (Nat.le_of_ble_eq_true rfl) (Nat.le_of_ble_eq_true rfl)
      · replace hk := it_f h1 hk
        refine j_iconst (pc := 9) (v := nI 1) C dX6_other_9 (by decide) ?_
        refine j_istore_n (pc := 10) C dX6_other_10 rfl (Nat.le_of_ble_eq_true rfl) rfl ?_
        have L11 : ∀ (x2 : Int32) (n11 : Nat) (x1 : Int32) (x3 : Int32), f_X6_other_L11 F k4 x0 x2 n11 x1 x3 = some Z → J G p l e rm_X6_other s m args below meth c 4 (.returned (some (.int Z))) (sh, I) (rm_X6_other).cells (rm_X6_other).slots (sh, I) 0 0 11 [some (.int x0), some (.int x1), some (.int x2), some (.int x3)] [] := by
          intro x2 n11
          induction n11 with
          | zero => intro x1 x3 hk; rw [f_X6_other_L11] at hk; cases hk
          | succ n11 ih11 =>
            intro x1 x3 hk
            rw [f_X6_other_L11] at hk
            generalize f_X6_other_L11 F k4 x0 x2 n11 = k11 at ih11 hk
            refine j_iload_n (pc := 11) C dX6_other_11 rfl rfl ?_
            refine j_iconst (pc := 12) (v := nI 3) C dX6_other_12 (by decide) ?_
            refine j_icmp_gt (pc := 13) 44 C dX6_other_13 (by decide) (fun h2 => ?_) (fun h2 => ?_)
            · replace hk := it_t h2 hk
              refine j_iinc (pc := 44) (nI 1) C dX6_other_44 rfl (by decide) (Nat.le_of_ble_eq_true rfl) rfl ?_
              refine j_goto (pc := 47) 4 C dX6_other_47 (by decide) ?_
              exact j_mask [true, true, true, false] (ih4 _ _ hk)
            · replace hk := it_f h2 hk
              refine j_iload_n (pc := 16) C dX6_other_16 rfl rfl ?_
              refine j_iload_n (pc := 17) C dX6_other_17 rfl rfl ?_
              refine j_iload_n (pc := 18) C dX6_other_18 rfl rfl ?_
              refine j_iload_n (pc := 19) C dX6_other_19 rfl rfl ?_
              replace hk := ob_some hk
              obtain ⟨r20, h3, hk⟩ := hk
              refine x_callSN (pc := 20) C (ct_X0_bitOf h3) ms_X0_bitOf q1442 dX6_other_20 rfl rfl (Nat.le_of_ble_eq_true rfl) rfl ?_
              refine j_iand (pc := 23) C dX6_other_23 ?_
              refine j_if_eq (pc := 24) 35 C dX6_other_24 (by decide) (fun h4 => ?_) (fun h4 => ?_)
              · replace hk := it_t h4 hk
                refine j_iconst (pc := 35) (v := nI 0) C dX6_other_35 (by decide) ?_
                refine j_ior (pc := 36) C dX6_other_36 ?_
                refine j_istore_n (pc := 37) C dX6_other_37 rfl (Nat.le_of_ble_eq_true rfl) rfl ?_
                refine j_iinc (pc := 38) (nI 1) C dX6_other_38 rfl (by decide) (Nat.le_of_ble_eq_true rfl) rfl ?_
                refine j_goto (pc := 41) 11 C dX6_other_41 (by decide) ?_
                exact j_mask [true, true, true, true] (ih11 _ _ hk)
              · replace hk := it_f h4 hk
                refine j_iload_n (pc := 27) C dX6_other_27 rfl rfl ?_
                refine j_iload_n (pc := 28) C dX6_other_28 rfl rfl ?_
                replace hk := ob_some hk
                obtain ⟨r29, h5, hk⟩ := hk
                refine x_callSN (pc := 29) C (ct_X0_bitOf h5) ms_X0_bitOf q1442 dX6_other_29 rfl rfl (Nat.le_of_ble_eq_true rfl) rfl ?_
                refine j_goto (pc := 32) 36 C dX6_other_32 (by decide) ?_
                refine j_ior (pc := 36) C dX6_other_36 ?_
                refine j_istore_n (pc := 37) C dX6_other_37 rfl (Nat.le_of_ble_eq_true rfl) rfl ?_
                refine j_iinc (pc := 38) (nI 1) C dX6_other_38 rfl (by decide) (Nat.le_of_ble_eq_true rfl) rfl ?_
                refine j_goto (pc := 41) 11 C dX6_other_41 (by decide) ?_
                exact j_mask [true, true, true, true] (ih11 _ _ hk)
        exact j_mask [true, true, true, true] (L11 _ _ _ _ hk)
  exact j_mask [true, true, true, false] (L4 _ _ _ _ hk)
def f_X6_add_L7 (F : Nat) (sh : SH) (x2 : Nat) : Nat → Int32 → II → Option II
  | 0, _, _ => none
  | n7 + 1, x3, I => ock sh x2 23 <| if (I x2 4) ≤ x3 then some I else orf (sh.2.2 x2 0) fun t16 => oarw sh t16 100 fun nh4 => oix x3 nh4 fun i20 => (f_X23_isPair sh x2 x3 I).bind fun r25 => if r25 = 0 then oix (I t16 i20) 12 fun i96 => orf (sh.2.2 x2 3) fun t98 => oarw sh t98 100 fun nh9 => oix x3 nh9 fun i102 => (f_X6_firsts F (I t98 i102)).bind fun r103 => oix (I t16 i20) 12 fun i107 => (f_X6_add_L7 F sh x2 n7) (x3 + (nI 1)) (up2 I 13 i107 ((I 13 i96) &&& r103)) else orf (sh.2.2 x2 1) fun t32 => oarw sh t32 100 fun nh13 => oix x3 nh13 fun i36 => oix (((nI 12) * (I t16 i20)) + (I t32 i36)) 144 fun i52 => orf (sh.2.2 x2 3) fun t54 => oarw sh t54 100 fun nh16 => oix x3 nh16 fun i58 => oix (((nI 12) * (I t16 i20)) + (I t32 i36)) 144 fun i60 => oix (((nI 12) * (I t32 i36)) + (I t16 i20)) 144 fun i74 => orf (sh.2.2 x2 3) fun t76 => oarw sh t76 100 fun nh20 => oix x3 nh20 fun i80 => (f_X6_other F ((up2 I 14 i60 ((I 14 i52) &&& (I t54 i58))) t76 i80)).bind fun r81 => oix (((nI 12) * (I t32 i36)) + (I t16 i20)) 144 fun i85 => (f_X6_add_L7 F sh x2 n7) (x3 + (nI 1)) (up2 (up2 I 14 i60 ((I 14 i52) &&& (I t54 i58))) 14 i85 (((up2 I 14 i60 ((I 14 i52) &&& (I t54 i58))) 14 i74) &&& r81))
def f_X6_add (F : Nat) (sh : SH) (x1 : Nat) (I : II) : Option II := ockD sh x1 <| orf (sh.2.2 x1 4) fun t1 => f_X6_add_L7 F sh t1 F (nI 0) I
abbrev rm_X6_add : Room := { frames := 2, cells := 0, slots := 0, locals := 44 }
theorem mv_X6_add_ok : callOK yX6_add 1 := by decide +kernel
theorem mv_X6_add : MV yX6_add cX6_add 6 none 1 := ⟨q1435, q1436, q103, q1437, mv_X6_add_ok⟩
set_option maxHeartbeats 4000000 in
theorem ct_X6_add {G : WG} {l : Launch} {sh : SH} (hS : stN sh) {I : II} {F : Nat} {x1 : Nat} {Z : II} (hk : f_X6_add F sh x1 I = some Z) : CT G l yX6_add (ws_ yX6_add cX6_add 6 none) rm_X6_add [.ref (wad G 12), .ref (wad G x1)] (sh, I) (.returned none) (sh, Z) := by
  refine CT.ofJ "NineDemands$Web" rfl (by decide) (Nat.le_of_ble_eq_true rfl) ?_
  intro p e s m args below meth c C
  unfold f_X6_add at hk
  refine j_lv (lv' := [some (.ref (wad G 12)), some (.ref (wad G x1)), none, none, none, none]) rfl ?_
  refine j_aload_n (pc := 0) C dX6_add_0 rfl rfl ?_
  replace hk := ockD_some hk
  obtain ⟨ch1, ch1h, h1, hk⟩ := hk
  replace hk := orf_some hk
  obtain ⟨t1, et1, hk⟩ := hk
  refine x_getR (pc := 1) C (fdD_4 ch1h) (fl1 C q570) h1 et1 dX6_add_1 ?_
  refine j_astore_n (pc := 4) C dX6_add_4 rfl (Nat.le_of_ble_eq_true rfl) rfl ?_
  refine j_iconst (pc := 5) (v := nI 0) C dX6_add_5 (by decide) ?_
  refine j_istore_n (pc := 6) C dX6_add_6 rfl (Nat.le_of_ble_eq_true rfl) rfl ?_
  have L7 : ∀ (x2 : Nat) (n7 : Nat) (x3 : Int32) (I : II), f_X6_add_L7 F sh x2 n7 x3 I = some Z → J G p l e rm_X6_add s m args below meth c 6 (.returned none) (sh, Z) (rm_X6_add).cells (rm_X6_add).slots (sh, I) 0 0 7 [some (.ref (wad G 12)), none, some (.ref (wad G x2)), some (.int x3), none, none] [] := by
    intro x2 n7
    induction n7 with
    | zero => intro x3 I hk; rw [f_X6_add_L7] at hk; cases hk
    | succ n7 ih7 =>
      intro x3 I hk
      rw [f_X6_add_L7] at hk
      generalize f_X6_add_L7 F sh x2 n7 = k7 at ih7 hk
      refine j_iload_n (pc := 7) C dX6_add_7 rfl rfl ?_
      refine j_aload_n (pc := 8) C dX6_add_8 rfl rfl ?_
      replace hk := ock_some hk
      obtain ⟨h2, hk⟩ := hk
      refine x_getI (pc := 9) C fd_23_4 (fl3 C q1139) h2 dX6_add_9 ?_
      refine j_icmp_ge (pc := 12) 114 C dX6_add_12 (by decide) (fun h3 => ?_) (fun h3 => ?_)
      · replace hk := it_t h3 hk
        obtain rfl := Option.some.inj hk
        exact j_vret (pc := 114) C dX6_add_114 (Nat.le_of_ble_eq_true rfl) (Nat.le_of_ble_eq_true rfl)
      · replace hk := it_f h3 hk
        refine j_aload_n (pc := 15) C dX6_add_15 rfl rfl ?_
        replace hk := orf_some hk
        obtain ⟨t16, et16, hk⟩ := hk
        refine x_getR (pc := 16) C fd_23_0 (fl3 C q1121) h2 et16 dX6_add_16 ?_
        refine j_iload_n (pc := 19) C dX6_add_19 rfl rfl ?_
        replace hk := oarw_some hk
        obtain ⟨nh4, h4, hk⟩ := hk
        replace hk := oix_ex hk
        obtain ⟨i20, e20, h5, hk⟩ := hk
        refine j_iald (pc := 20) C h4 h5 e20 dX6_add_20 ?_
        refine j_istore (pc := 21) C dX6_add_21 (Nat.le_of_ble_eq_true rfl) rfl ?_
        refine j_aload_n (pc := 23) C dX6_add_23 rfl rfl ?_
        refine j_iload_n (pc := 24) C dX6_add_24 rfl rfl ?_
        replace hk := ob_some hk
        obtain ⟨r25, h6, hk⟩ := hk
        refine x_callV (pc := 25) C (ct_X23_isPair hS h6) mv_X23_isPair h2 rfl rfl q1438 dX6_add_25 rfl rfl (Nat.le_of_ble_eq_true rfl) rfl ?_
        refine j_if_eq (pc := 28) 89 C dX6_add_28 (by decide) (fun h7 => ?_) (fun h7 => ?_)
        · replace hk := it_t h7 hk
          refine j_aload_n (pc := 89) C dX6_add_89 rfl rfl ?_
          refine x_getR (pc := 90) C fd_7_0 (fl1 C q312) (stN_o12 hS).r (stN_r12_0 hS) dX6_add_90 ?_
          refine j_iload (pc := 93) C dX6_add_93 rfl ?_
          refine j_dup2 (pc := 95) C dX6_add_95 rfl rfl ?_
          replace hk := oix_ex hk
          obtain ⟨i96, e96, h8, hk⟩ := hk
          refine j_iald (pc := 96) C (stN_a13 hS) h8 e96 dX6_add_96 ?_
          refine j_aload_n (pc := 97) C dX6_add_97 rfl rfl ?_
          replace hk := orf_some hk
          obtain ⟨t98, et98, hk⟩ := hk
          refine x_getR (pc := 98) C fd_23_3 (fl3 C q1135) h2 et98 dX6_add_98 ?_
          refine j_iload_n (pc := 101) C dX6_add_101 rfl rfl ?_
          replace hk := oarw_some hk
          obtain ⟨nh9, h9, hk⟩ := hk
          replace hk := oix_ex hk
          obtain ⟨i102, e102, h10, hk⟩ := hk
          refine j_iald (pc := 102) C h9 h10 e102 dX6_add_102 ?_
          replace hk := ob_some hk
          obtain ⟨r103, h11, hk⟩ := hk
          refine j_callS (pc := 103) C (ct_X6_firsts h11) ms_X6_firsts q1443 dX6_add_103 rfl rfl (Nat.le_of_ble_eq_true rfl) rfl ?_
          refine j_iand (pc := 106) C dX6_add_106 ?_
          replace hk := oix_ex hk
          obtain ⟨i107, e107, h12, hk⟩ := hk
          refine j_iast (pc := 107) C (stN_a13 hS) h12 e107 dX6_add_107 ?_
          refine j_iinc (pc := 108) (nI 1) C dX6_add_108 rfl (by decide) (Nat.le_of_ble_eq_true rfl) rfl ?_
          refine j_goto (pc := 111) 7 C dX6_add_111 (by decide) ?_
          exact j_mask [true, false, true, true, false, false] (ih7 _ _ hk)
        · replace hk := it_f h7 hk
          refine j_aload_n (pc := 31) C dX6_add_31 rfl rfl ?_
          replace hk := orf_some hk
          obtain ⟨t32, et32, hk⟩ := hk
          refine x_getR (pc := 32) C fd_23_1 (fl3 C q1129) h2 et32 dX6_add_32 ?_
          refine j_iload_n (pc := 35) C dX6_add_35 rfl rfl ?_
          replace hk := oarw_some hk
          obtain ⟨nh13, h13, hk⟩ := hk
          replace hk := oix_ex hk
          obtain ⟨i36, e36, h14, hk⟩ := hk
          refine j_iald (pc := 36) C h13 h14 e36 dX6_add_36 ?_
          refine j_istore (pc := 37) C dX6_add_37 (Nat.le_of_ble_eq_true rfl) rfl ?_
          refine j_aload_n (pc := 39) C dX6_add_39 rfl rfl ?_
          refine x_getR (pc := 40) C fd_7_1 (fl1 C q314) (stN_o12 hS).r (stN_r12_1 hS) dX6_add_40 ?_
          refine j_bipush (pc := 43) (v := nI 12) C dX6_add_43 (by decide) ?_
          refine j_iload (pc := 45) C dX6_add_45 rfl ?_
          refine j_imul (pc := 47) C dX6_add_47 ?_
          refine j_iload (pc := 48) C dX6_add_48 rfl ?_
          refine j_iadd (pc := 50) C dX6_add_50 ?_
          refine j_dup2 (pc := 51) C dX6_add_51 rfl rfl ?_
          replace hk := oix_ex hk
          obtain ⟨i52, e52, h15, hk⟩ := hk
          refine j_iald (pc := 52) C (stN_a14 hS) h15 e52 dX6_add_52 ?_
          refine j_aload_n (pc := 53) C dX6_add_53 rfl rfl ?_
          replace hk := orf_some hk
          obtain ⟨t54, et54, hk⟩ := hk
          refine x_getR (pc := 54) C fd_23_3 (fl3 C q1135) h2 et54 dX6_add_54 ?_
          refine j_iload_n (pc := 57) C dX6_add_57 rfl rfl ?_
          replace hk := oarw_some hk
          obtain ⟨nh16, h16, hk⟩ := hk
          replace hk := oix_ex hk
          obtain ⟨i58, e58, h17, hk⟩ := hk
          refine j_iald (pc := 58) C h16 h17 e58 dX6_add_58 ?_
          refine j_iand (pc := 59) C dX6_add_59 ?_
          replace hk := oix_ex hk
          obtain ⟨i60, e60, h18, hk⟩ := hk
          refine j_iast (pc := 60) C (stN_a14 hS) h18 e60 dX6_add_60 ?_
          refine j_aload_n (pc := 61) C dX6_add_61 rfl rfl ?_
          refine x_getR (pc := 62) C fd_7_1 (fl1 C q314) (stN_o12 hS).r (stN_r12_1 hS) dX6_add_62 ?_
          refine j_bipush (pc := 65) (v := nI 12) C dX6_add_65 (by decide) ?_
          refine j_iload (pc := 67) C dX6_add_67 rfl ?_
          refine j_imul (pc := 69) C dX6_add_69 ?_
          refine j_iload (pc := 70) C dX6_add_70 rfl ?_
          refine j_iadd (pc := 72) C dX6_add_72 ?_
          refine j_dup2 (pc := 73) C dX6_add_73 rfl rfl ?_
          replace hk := oix_ex hk
          obtain ⟨i74, e74, h19, hk⟩ := hk
          refine j_iald (pc := 74) C (stN_a14 hS) h19 e74 dX6_add_74 ?_
          refine j_aload_n (pc := 75) C dX6_add_75 rfl rfl ?_
          replace hk := orf_some hk
          obtain ⟨t76, et76, hk⟩ := hk
          refine x_getR (pc := 76) C fd_23_3 (fl3 C q1135) h2 et76 dX6_add_76 ?_
          refine j_iload_n (pc := 79) C dX6_add_79 rfl rfl ?_
          replace hk := oarw_some hk
          obtain ⟨nh20, h20, hk⟩ := hk
          replace hk := oix_ex hk
          obtain ⟨i80, e80, h21, hk⟩ := hk
          refine j_iald (pc := 80) C h20 h21 e80 dX6_add_80 ?_
          replace hk := ob_some hk
          obtain ⟨r81, h22, hk⟩ := hk
          refine j_callS (pc := 81) C (ct_X6_other h22) ms_X6_other q1439 dX6_add_81 rfl rfl (Nat.le_of_ble_eq_true rfl) rfl ?_
          refine j_iand (pc := 84) C dX6_add_84 ?_
          replace hk := oix_ex hk
          obtain ⟨i85, e85, h23, hk⟩ := hk
          refine j_iast (pc := 85) C (stN_a14 hS) h23 e85 dX6_add_85 ?_
          refine j_goto (pc := 86) 108 C dX6_add_86 (by decide) ?_
          refine j_iinc (pc := 108) (nI 1) C dX6_add_108 rfl (by decide) (Nat.le_of_ble_eq_true rfl) rfl ?_
          refine j_goto (pc := 111) 7 C dX6_add_111 (by decide) ?_
          exact j_mask [true, false, true, true, false, false] (ih7 _ _ hk)
  exact j_mask [true, false, true, true, false, false] (L7 _ _ _ _ hk)
def f_X0_weave_L12 (F : Nat) (sh : SH) (x1 : Int32) : Nat → Int32 → II → Option II
  | 0, _, _ => none
  | n12 + 1, x2, I => orf (sh.2.2 0 1) fun t14 => ock sh t14 2 <| orf (sh.2.2 t14 1) fun t17 => ock sh t17 3 <| (f_J5_size sh t17 I).bind fun r20 => if r20 ≤ x2 then some I else (f_X0_has x1 x2).bind fun r28 => if r28 = 0 then (f_X0_weave_L12 F sh x1 n12) (x2 + (nI 1)) I else orf (sh.2.2 0 1) fun t42 => ock sh t42 2 <| orf (sh.2.2 t42 1) fun t45 => ock sh t45 3 <| (f_J5_get sh t45 x2 I).bind fun a49 => ockD sh a49 <| (f_X6_add F sh a49 I).bind fun I55 => (f_X0_weave_L12 F sh x1 n12) (x2 + (nI 1)) I55
def f_X0_weave (F : Nat) (sh : SH) (x1 : Int32) (I : II) : Option II := (f_X6_clear F sh I).bind fun I7 => f_X0_weave_L12 F sh x1 F (nI 0) I7
abbrev rm_X0_weave : Room := { frames := 3, cells := 0, slots := 0, locals := 69 }
theorem mv_X0_weave_ok : callOK yX0_weave 1 := by decide +kernel
theorem mv_X0_weave : MV yX0_weave cX0_weave 3 none 1 := ⟨q1425, qs23, q91, q1426, mv_X0_weave_ok⟩
set_option maxHeartbeats 4000000 in
theorem ct_X0_weave {G : WG} {l : Launch} {sh : SH} (hS : stN sh) {I : II} {F : Nat} {x1 : Int32} {Z : II} (hk : f_X0_weave F sh x1 I = some Z) : CT G l yX0_weave (ws_ yX0_weave cX0_weave 3 none) rm_X0_weave [.ref (wad G 0), .int x1] (sh, I) (.returned none) (sh, Z) := by
  refine CT.ofJ "NineDemands" rfl (by decide) (Nat.le_of_ble_eq_true rfl) ?_
  intro p e s m args below meth c C
  unfold f_X0_weave at hk
  refine j_lv (lv' := [some (.ref (wad G 0)), some (.int x1), none]) rfl ?_
  refine j_aload_n (pc := 0) C dX0_weave_0 rfl rfl ?_
  refine x_getR (pc := 1) C fd_0_6 (fl1 C q378) (stN_o0 hS).r (stN_r0_6 hS) dX0_weave_1 ?_
  refine x_getR (pc := 4) C fd_6_0 (fl3 C q322) (stN_o11 hS).r (stN_r11_0 hS) dX0_weave_4 ?_
  replace hk := ob_some hk
  obtain ⟨I7, h1, hk⟩ := hk
  refine x_callV (pc := 7) C (ct_X6_clear hS h1) mv_X6_clear (stN_o12 hS).r rfl rfl q1427 dX0_weave_7 rfl rfl (Nat.le_of_ble_eq_true rfl) rfl ?_
  refine j_iconst (pc := 10) (v := nI 0) C dX0_weave_10 (by decide) ?_
  refine j_istore_n (pc := 11) C dX0_weave_11 rfl (Nat.le_of_ble_eq_true rfl) rfl ?_
  have L12 : ∀ (x1 : Int32) (n12 : Nat) (x2 : Int32) (I : II), f_X0_weave_L12 F sh x1 n12 x2 I = some Z → J G p l e rm_X0_weave s m args below meth c 3 (.returned none) (sh, Z) (rm_X0_weave).cells (rm_X0_weave).slots (sh, I) 0 0 12 [some (.ref (wad G 0)), some (.int x1), some (.int x2)] [] := by
    intro x1 n12
    induction n12 with
    | zero => intro x2 I hk; rw [f_X0_weave_L12] at hk; cases hk
    | succ n12 ih12 =>
      intro x2 I hk
      rw [f_X0_weave_L12] at hk
      generalize f_X0_weave_L12 F sh x1 n12 = k12 at ih12 hk
      refine j_iload_n (pc := 12) C dX0_weave_12 rfl rfl ?_
      refine j_aload_n (pc := 13) C dX0_weave_13 rfl rfl ?_
      replace hk := orf_some hk
      obtain ⟨t14, et14, hk⟩ := hk
      refine x_getR (pc := 14) C fd_0_1 (fl1 C q373) (stN_o0 hS).r et14 dX0_weave_14 ?_
      replace hk := ock_some hk
      obtain ⟨h2, hk⟩ := hk
      replace hk := orf_some hk
      obtain ⟨t17, et17, hk⟩ := hk
      refine x_getR (pc := 17) C fd_2_1 (fl3 C q251) h2 et17 dX0_weave_17 ?_
      replace hk := ock_some hk
      obtain ⟨h3, hk⟩ := hk
      replace hk := ob_some hk
      obtain ⟨r20, h4, hk⟩ := hk
      refine x_callV (pc := 20) C (ct_J5_size h4) mv_J5_size h3 rfl rfl q514 dX0_weave_20 rfl rfl (Nat.le_of_ble_eq_true rfl) rfl ?_
      refine j_icmp_ge (pc := 23) 64 C dX0_weave_23 (by decide) (fun h5 => ?_) (fun h5 => ?_)
      · replace hk := it_t h5 hk
        obtain rfl := Option.some.inj hk
        exact j_vret (pc := 64) C dX0_weave_64 (Nat.le_of_ble_eq_true rfl) (Nat.le_of_ble_eq_true rfl)
      · replace hk := it_f h5 hk
        refine j_iload_n (pc := 26) C dX0_weave_26 rfl rfl ?_
        refine j_iload_n (pc := 27) C dX0_weave_27 rfl rfl ?_
        replace hk := ob_some hk
        obtain ⟨r28, h6, hk⟩ := hk
        refine j_callS (pc := 28) C (ct_X0_has h6) ms_X0_has q1431 dX0_weave_28 rfl rfl (Nat.le_of_ble_eq_true rfl) rfl ?_
        refine j_if_eq (pc := 31) 58 C dX0_weave_31 (by decide) (fun h7 => ?_) (fun h7 => ?_)
        · replace hk := it_t h7 hk
          refine j_iinc (pc := 58) (nI 1) C dX0_weave_58 rfl (by decide) (Nat.le_of_ble_eq_true rfl) rfl ?_
          refine j_goto (pc := 61) 12 C dX0_weave_61 (by decide) ?_
          exact j_mask [true, true, true] (ih12 _ _ hk)
        · replace hk := it_f h7 hk
          refine j_aload_n (pc := 34) C dX0_weave_34 rfl rfl ?_
          refine x_getR (pc := 35) C fd_0_6 (fl1 C q378) (stN_o0 hS).r (stN_r0_6 hS) dX0_weave_35 ?_
          refine x_getR (pc := 38) C fd_6_0 (fl3 C q322) (stN_o11 hS).r (stN_r11_0 hS) dX0_weave_38 ?_
          refine j_aload_n (pc := 41) C dX0_weave_41 rfl rfl ?_
          replace hk := orf_some hk
          obtain ⟨t42, et42, hk⟩ := hk
          refine x_getR (pc := 42) C fd_0_1 (fl1 C q373) (stN_o0 hS).r et42 dX0_weave_42 ?_
          replace hk := ock_some hk
          obtain ⟨h8, hk⟩ := hk
          replace hk := orf_some hk
          obtain ⟨t45, et45, hk⟩ := hk
          refine x_getR (pc := 45) C fd_2_1 (fl3 C q251) h8 et45 dX0_weave_45 ?_
          refine j_iload_n (pc := 48) C dX0_weave_48 rfl rfl ?_
          replace hk := ock_some hk
          obtain ⟨h9, hk⟩ := hk
          replace hk := ob_some hk
          obtain ⟨a49, h10, hk⟩ := hk
          refine x_callV (pc := 49) C (ct_J5_get h10) mv_J5_get h9 rfl rfl q1329 dX0_weave_49 rfl rfl (Nat.le_of_ble_eq_true rfl) rfl ?_
          refine j_stk (st' := [.ref (wad G a49), .ref (wad G 12)]) rfl ?_
          replace hk := ockD_some hk
          obtain ⟨ch11, ch11h, h11, hk⟩ := hk
          obtain ⟨cr52, hcr52, hcs52⟩ := castD_NineDemands_Demand ch11h
          refine x_cast (pc := 52) C h11 hcr52 q640 hcs52 dX0_weave_52 ?_
          replace hk := ob_some hk
          obtain ⟨I55, h12, hk⟩ := hk
          refine x_callV (pc := 55) C (ct_X6_add hS h12) mv_X6_add (stN_o12 hS).r rfl rfl q1434 dX0_weave_55 rfl rfl (Nat.le_of_ble_eq_true rfl) rfl ?_
          refine j_iinc (pc := 58) (nI 1) C dX0_weave_58 rfl (by decide) (Nat.le_of_ble_eq_true rfl) rfl ?_
          refine j_goto (pc := 61) 12 C dX0_weave_61 (by decide) ?_
          exact j_mask [true, true, true] (ih12 _ _ hk)
  exact j_mask [true, true, true] (L12 _ _ _ _ hk)
def f_X5_begin_L7 (F : Nat) (sh : SH) : Nat → Int32 → II → Option II
  | 0, _, _ => none
  | n7 + 1, x2, I => if (nI 12) ≤ x2 then some I else oix x2 12 fun i26 => oix x2 156 fun i27 => (f_X5_begin_L7 F sh n7) (x2 + (nI 1)) (up2 I 15 i27 (I 13 i26))
def f_X5_begin (F : Nat) (sh : SH) (x1 : Int32) (I : II) : Option II := f_X5_begin_L7 F sh F (nI 0) (up2 I 11 3 x1)
abbrev rm_X5_begin : Room := { frames := 0, cells := 0, slots := 0, locals := 0 }
theorem mv_X5_begin_ok : callOK yX5_begin 1 := by decide +kernel
theorem mv_X5_begin : MV yX5_begin cX5_begin 3 none 1 := ⟨q1450, q1451, q102, q1452, mv_X5_begin_ok⟩
set_option maxHeartbeats 4000000 in
theorem ct_X5_begin {G : WG} {l : Launch} {sh : SH} (hS : stN sh) {I : II} {F : Nat} {x1 : Int32} {Z : II} (hk : f_X5_begin F sh x1 I = some Z) : CT G l yX5_begin (ws_ yX5_begin cX5_begin 3 none) rm_X5_begin [.ref (wad G 11), .int x1] (sh, I) (.returned none) (sh, Z) := by
  refine CT.ofJ "NineDemands$Search" rfl (by decide) (Nat.le_of_ble_eq_true rfl) ?_
  intro p e s m args below meth c C
  unfold f_X5_begin at hk
  refine j_lv (lv' := [some (.ref (wad G 11)), some (.int x1), none]) rfl ?_
  refine j_aload_n (pc := 0) C dX5_begin_0 rfl rfl ?_
  refine j_iload_n (pc := 1) C dX5_begin_1 rfl rfl ?_
  refine x_putI (pc := 2) C fd_6_3 (fl1 C q326) (stN_o11 hS) rfl rfl dX5_begin_2 ?_
  refine j_iconst (pc := 5) (v := nI 0) C dX5_begin_5 (by decide) ?_
  refine j_istore_n (pc := 6) C dX5_begin_6 rfl (Nat.le_of_ble_eq_true rfl) rfl ?_
  have L7 : ∀  (n7 : Nat) (x2 : Int32) (I : II), f_X5_begin_L7 F sh n7 x2 I = some Z → J G p l e rm_X5_begin s m args below meth c 3 (.returned none) (sh, Z) (rm_X5_begin).cells (rm_X5_begin).slots (sh, I) 0 0 7 [some (.ref (wad G 11)), none, some (.int x2)] [] := by
    intro  n7
    induction n7 with
    | zero => intro x2 I hk; rw [f_X5_begin_L7] at hk; cases hk
    | succ n7 ih7 =>
      intro x2 I hk
      rw [f_X5_begin_L7] at hk
      generalize f_X5_begin_L7 F sh n7 = k7 at ih7 hk
      refine j_iload_n (pc := 7) C dX5_begin_7 rfl rfl ?_
      refine j_bipush (pc := 8) (v := nI 12) C dX5_begin_8 (by decide) ?_
      refine j_icmp_ge (pc := 10) 34 C dX5_begin_10 (by decide) (fun h1 => ?_) (fun h1 => ?_)
      · replace hk := it_t h1 hk
        obtain rfl := Option.some.inj hk
        exact j_vret (pc := 34) C dX5_begin_34 (Nat.le_of_ble_eq_true rfl) (Nat.le_of_ble_eq_true rfl)
      · replace hk := it_f h1 hk
        refine j_aload_n (pc := 13) C dX5_begin_13 rfl rfl ?_
        refine x_getR (pc := 14) C fd_6_1 (fl1 C q323) (stN_o11 hS).r (stN_r11_1 hS) dX5_begin_14 ?_
        refine j_iload_n (pc := 17) C dX5_begin_17 rfl rfl ?_
        refine j_aload_n (pc := 18) C dX5_begin_18 rfl rfl ?_
        refine x_getR (pc := 19) C fd_6_0 (fl1 C q321) (stN_o11 hS).r (stN_r11_0 hS) dX5_begin_19 ?_
        refine x_getR (pc := 22) C fd_7_0 (fl3 C q313) (stN_o12 hS).r (stN_r12_0 hS) dX5_begin_22 ?_
        refine j_iload_n (pc := 25) C dX5_begin_25 rfl rfl ?_
        replace hk := oix_ex hk
        obtain ⟨i26, e26, h2, hk⟩ := hk
        refine j_iald (pc := 26) C (stN_a13 hS) h2 e26 dX5_begin_26 ?_
        replace hk := oix_ex hk
        obtain ⟨i27, e27, h3, hk⟩ := hk
        refine j_iast (pc := 27) C (stN_a15 hS) h3 e27 dX5_begin_27 ?_
        refine j_iinc (pc := 28) (nI 1) C dX5_begin_28 rfl (by decide) (Nat.le_of_ble_eq_true rfl) rfl ?_
        refine j_goto (pc := 31) 7 C dX5_begin_31 (by decide) ?_
        exact j_mask [true, false, true] (ih7 _ _ hk)
  exact j_mask [true, false, true] (L7  _ _ _ hk)
def f_X5_goesOn_J79 (F : Nat) (sh : SH) (k7 : Int32 → Int32 → II → Option (Int32 × II)) (x1 : Int32) (x2 : Int32) (x3 : Int32) (x4 : Int32) (x5 : Int32) (I : II) : Option (Int32 × II) := oix (((nI 12) * (x1 + (nI 1))) + x4) 156 fun i94 => k7 x3 (x4 + (nI 1)) (up2 I 15 i94 x5)
def f_X5_goesOn_J78 (F : Nat) (sh : SH) (k7 : Int32 → Int32 → II → Option (Int32 × II)) (x1 : Int32) (x2 : Int32) (x4 : Int32) (x5 : Int32) (s0 : Int32) (I : II) : Option (Int32 × II) := f_X5_goesOn_J79 F sh k7 x1 x2 s0 x4 x5 I
def f_X5_goesOn_J77 (F : Nat) (sh : SH) (k7 : Int32 → Int32 → II → Option (Int32 × II)) (x1 : Int32) (x2 : Int32) (x4 : Int32) (x5 : Int32) (I : II) : Option (Int32 × II) := f_X5_goesOn_J78 F sh k7 x1 x2 x4 x5 (nI 0) I
def f_X5_goesOn_L7 (F : Nat) (sh : SH) (x1 : Int32) (x2 : Int32) : Nat → Int32 → Int32 → II → Option (Int32 × II)
  | 0, _, _, _ => none
  | n7 + 1, x3, x4, I => if (nI 12) ≤ x4 then og (x3 = 0 ∨ x3 = 1) <| some (x3, I) else oix (((nI 12) * x1) + x4) 156 fun i25 => (f_X0_has (I 11 3) x4).bind fun r34 => if r34 = 0 then f_X5_goesOn_J79 F sh (f_X5_goesOn_L7 F sh x1 x2 n7) x1 x2 x3 x4 (I 15 i25) I else oix (((nI 12) * x1) + x4) 144 fun i56 => (f_X6_partners (I 14 i56) x2).bind fun r58 => if x3 = 0 then f_X5_goesOn_J77 F sh (f_X5_goesOn_L7 F sh x1 x2 n7) x1 x2 x4 ((I 15 i25) &&& r58) I else if ((I 15 i25) &&& r58) = 0 then f_X5_goesOn_J77 F sh (f_X5_goesOn_L7 F sh x1 x2 n7) x1 x2 x4 ((I 15 i25) &&& r58) I else f_X5_goesOn_J78 F sh (f_X5_goesOn_L7 F sh x1 x2 n7) x1 x2 x4 ((I 15 i25) &&& r58) (nI 1) I
def f_X5_goesOn (F : Nat) (sh : SH) (x1 : Int32) (x2 : Int32) (I : II) : Option (Int32 × II) := f_X5_goesOn_L7 F sh x1 x2 F (nI 1) (x1 + (nI 1)) I
abbrev rm_X5_goesOn : Room := { frames := 1, cells := 0, slots := 0, locals := 21 }
theorem mv_X5_goesOn_ok : callOK yX5_goesOn 2 := by decide +kernel
theorem mv_X5_goesOn : MV yX5_goesOn cX5_goesOn 6 (some .boolean) 2 := ⟨q1472, qs27, q102, q1473, mv_X5_goesOn_ok⟩
set_option maxHeartbeats 4000000 in
theorem ct_X5_goesOn {G : WG} {l : Launch} {sh : SH} (hS : stN sh) {I : II} {F : Nat} {x1 : Int32} {x2 : Int32} {Z : (Int32 × II)} (hk : f_X5_goesOn F sh x1 x2 I = some Z) : CT G l yX5_goesOn (ws_ yX5_goesOn cX5_goesOn 6 (some .boolean)) rm_X5_goesOn [.ref (wad G 11), .int x1, .int x2] (sh, I) (.returned (some (.int Z.1))) (sh, Z.2) := by
  refine CT.ofJ "NineDemands$Search" rfl (by decide) (Nat.le_of_ble_eq_true rfl) ?_
  intro p e s m args below meth c C
  unfold f_X5_goesOn at hk
  refine j_lv (lv' := [some (.ref (wad G 11)), some (.int x1), some (.int x2), none, none, none]) rfl ?_
  refine j_iconst (pc := 0) (v := nI 1) C dX5_goesOn_0 (by decide) ?_
  refine j_istore_n (pc := 1) C dX5_goesOn_1 rfl (Nat.le_of_ble_eq_true rfl) rfl ?_
  refine j_iload_n (pc := 2) C dX5_goesOn_2 rfl rfl ?_
  refine j_iconst (pc := 3) (v := nI 1) C dX5_goesOn_3 (by decide) ?_
  refine j_iadd (pc := 4) C dX5_goesOn_4 ?_
  refine j_istore (pc := 5) C dX5_goesOn_5 (Nat.le_of_ble_eq_true rfl) rfl ?_
  have L7 : ∀ (x1 : Int32) (x2 : Int32) (n7 : Nat) (x3 : Int32) (x4 : Int32) (I : II), f_X5_goesOn_L7 F sh x1 x2 n7 x3 x4 I = some Z → J G p l e rm_X5_goesOn s m args below meth c 6 (.returned (some (.int Z.1))) (sh, Z.2) (rm_X5_goesOn).cells (rm_X5_goesOn).slots (sh, I) 0 0 7 [some (.ref (wad G 11)), some (.int x1), some (.int x2), some (.int x3), some (.int x4), none] [] := by
    intro x1 x2 n7
    induction n7 with
    | zero => intro x3 x4 I hk; rw [f_X5_goesOn_L7] at hk; cases hk
    | succ n7 ih7 =>
      intro x3 x4 I hk
      rw [f_X5_goesOn_L7] at hk
      generalize f_X5_goesOn_L7 F sh x1 x2 n7 = k7 at ih7 hk
      refine j_iload (pc := 7) C dX5_goesOn_7 rfl ?_
      refine j_bipush (pc := 9) (v := nI 12) C dX5_goesOn_9 (by decide) ?_
      refine j_icmp_ge (pc := 11) 101 C dX5_goesOn_11 (by decide) (fun h1 => ?_) (fun h1 => ?_)
      · replace hk := it_t h1 hk
        refine j_iload_n (pc := 101) C dX5_goesOn_101 rfl rfl ?_
        replace hk := og_some hk
        obtain ⟨h2, hk⟩ := hk
        obtain rfl := Option.some.inj hk
        exact j_zret (pc := 102) C dX5_goesOn_102 (Nat.le_of_ble_eq_true rfl) (Nat.le_of_ble_eq_true rfl) (isB.nar h2)
      · replace hk := it_f h1 hk
        refine j_aload_n (pc := 14) C dX5_goesOn_14 rfl rfl ?_
        refine x_getR (pc := 15) C fd_6_1 (fl1 C q323) (stN_o11 hS).r (stN_r11_1 hS) dX5_goesOn_15 ?_
        refine j_bipush (pc := 18) (v := nI 12) C dX5_goesOn_18 (by decide) ?_
        refine j_iload_n (pc := 20) C dX5_goesOn_20 rfl rfl ?_
        refine j_imul (pc := 21) C dX5_goesOn_21 ?_
        refine j_iload (pc := 22) C dX5_goesOn_22 rfl ?_
        refine j_iadd (pc := 24) C dX5_goesOn_24 ?_
        replace hk := oix_ex hk
        obtain ⟨i25, e25, h3, hk⟩ := hk
        refine j_iald (pc := 25) C (stN_a15 hS) h3 e25 dX5_goesOn_25 ?_
        refine j_istore (pc := 26) C dX5_goesOn_26 (Nat.le_of_ble_eq_true rfl) rfl ?_
        refine j_aload_n (pc := 28) C dX5_goesOn_28 rfl rfl ?_
        refine x_getI (pc := 29) C fd_6_3 (fl1 C q326) (stN_o11 hS).r dX5_goesOn_29 ?_
        refine j_iload (pc := 32) C dX5_goesOn_32 rfl ?_
        replace hk := ob_some hk
        obtain ⟨r34, h4, hk⟩ := hk
        refine x_callSN (pc := 34) C (ct_X0_has h4) ms_X0_has q1461 dX5_goesOn_34 rfl rfl (Nat.le_of_ble_eq_true rfl) rfl ?_
        have Jn79 : ∀ (x3 : Int32) (x4 : Int32) (x5 : Int32) (I : II), f_X5_goesOn_J79 F sh k7 x1 x2 x3 x4 x5 I = some Z → J G p l e rm_X5_goesOn s m args below meth c 6 (.returned (some (.int Z.1))) (sh, Z.2) (rm_X5_goesOn).cells (rm_X5_goesOn).slots (sh, I) 0 0 79 [some (.ref (wad G 11)), some (.int x1), some (.int x2), some (.int x3), some (.int x4), some (.int x5)] [] := by
          intro x3 x4 x5 I hk
          unfold f_X5_goesOn_J79 at hk
          refine j_aload_n (pc := 79) C dX5_goesOn_79 rfl rfl ?_
          refine x_getR (pc := 80) C fd_6_1 (fl1 C q323) (stN_o11 hS).r (stN_r11_1 hS) dX5_goesOn_80 ?_
          refine j_bipush (pc := 83) (v := nI 12) C dX5_goesOn_83 (by decide) ?_
          refine j_iload_n (pc := 85) C dX5_goesOn_85 rfl rfl ?_
          refine j_iconst (pc := 86) (v := nI 1) C dX5_goesOn_86 (by decide) ?_
          refine j_iadd (pc := 87) C dX5_goesOn_87 ?_
          refine j_imul (pc := 88) C dX5_goesOn_88 ?_
          refine j_iload (pc := 89) C dX5_goesOn_89 rfl ?_
          refine j_iadd (pc := 91) C dX5_goesOn_91 ?_
          refine j_iload (pc := 92) C dX5_goesOn_92 rfl ?_
          replace hk := oix_ex hk
          obtain ⟨i94, e94, h5, hk⟩ := hk
          refine j_iast (pc := 94) C (stN_a15 hS) h5 e94 dX5_goesOn_94 ?_
          refine j_iinc (pc := 95) (nI 1) C dX5_goesOn_95 rfl (by decide) (Nat.le_of_ble_eq_true rfl) rfl ?_
          refine j_goto (pc := 98) 7 C dX5_goesOn_98 (by decide) ?_
          exact j_mask [true, true, true, true, true, false] (ih7 _ _ _ hk)
        refine j_if_eq (pc := 37) 79 C dX5_goesOn_37 (by decide) (fun h6 => ?_) (fun h6 => ?_)
        · replace hk := it_t h6 hk
          exact j_mask [true, true, true, true, true, true] (Jn79 _ _ _ _ hk)
        · replace hk := it_f h6 hk
          refine j_iload (pc := 40) C dX5_goesOn_40 rfl ?_
          refine j_aload_n (pc := 42) C dX5_goesOn_42 rfl rfl ?_
          refine x_getR (pc := 43) C fd_6_0 (fl1 C q321) (stN_o11 hS).r (stN_r11_0 hS) dX5_goesOn_43 ?_
          refine x_getR (pc := 46) C fd_7_1 (fl3 C q315) (stN_o12 hS).r (stN_r12_1 hS) dX5_goesOn_46 ?_
          refine j_bipush (pc := 49) (v := nI 12) C dX5_goesOn_49 (by decide) ?_
          refine j_iload_n (pc := 51) C dX5_goesOn_51 rfl rfl ?_
          refine j_imul (pc := 52) C dX5_goesOn_52 ?_
          refine j_iload (pc := 53) C dX5_goesOn_53 rfl ?_
          refine j_iadd (pc := 55) C dX5_goesOn_55 ?_
          replace hk := oix_ex hk
          obtain ⟨i56, e56, h7, hk⟩ := hk
          refine j_iald (pc := 56) C (stN_a14 hS) h7 e56 dX5_goesOn_56 ?_
          refine j_iload_n (pc := 57) C dX5_goesOn_57 rfl rfl ?_
          replace hk := ob_some hk
          obtain ⟨r58, h8, hk⟩ := hk
          refine j_callS (pc := 58) C (ct_X6_partners h8) ms_X6_partners q1474 dX5_goesOn_58 rfl rfl (Nat.le_of_ble_eq_true rfl) rfl ?_
          refine j_iand (pc := 61) C dX5_goesOn_61 ?_
          refine j_istore (pc := 62) C dX5_goesOn_62 (Nat.le_of_ble_eq_true rfl) rfl ?_
          refine j_iload_n (pc := 64) C dX5_goesOn_64 rfl rfl ?_
          have Jn78 : ∀ (x4 : Int32) (x5 : Int32) (s0 : Int32) (I : II), f_X5_goesOn_J78 F sh k7 x1 x2 x4 x5 s0 I = some Z → J G p l e rm_X5_goesOn s m args below meth c 6 (.returned (some (.int Z.1))) (sh, Z.2) (rm_X5_goesOn).cells (rm_X5_goesOn).slots (sh, I) 0 0 78 [some (.ref (wad G 11)), some (.int x1), some (.int x2), none, some (.int x4), some (.int x5)] [.int s0] := by
            intro x4 x5 s0 I hk
            unfold f_X5_goesOn_J78 at hk
            refine j_istore_n (pc := 78) C dX5_goesOn_78 rfl (Nat.le_of_ble_eq_true rfl) rfl ?_
            exact j_mask [true, true, true, true, true, true] (Jn79 _ _ _ _ hk)
          have Jn77 : ∀ (x4 : Int32) (x5 : Int32) (I : II), f_X5_goesOn_J77 F sh k7 x1 x2 x4 x5 I = some Z → J G p l e rm_X5_goesOn s m args below meth c 6 (.returned (some (.int Z.1))) (sh, Z.2) (rm_X5_goesOn).cells (rm_X5_goesOn).slots (sh, I) 0 0 77 [some (.ref (wad G 11)), some (.int x1), some (.int x2), none, some (.int x4), some (.int x5)] [] := by
            intro x4 x5 I hk
            unfold f_X5_goesOn_J77 at hk
            refine j_iconst (pc := 77) (v := nI 0) C dX5_goesOn_77 (by decide) ?_
            exact j_mask [true, true, true, false, true, true] (Jn78 _ _ _ _ hk)
          refine j_if_eq (pc := 65) 77 C dX5_goesOn_65 (by decide) (fun h9 => ?_) (fun h9 => ?_)
          · replace hk := it_t h9 hk
            exact j_mask [true, true, true, false, true, true] (Jn77 _ _ _ hk)
          · replace hk := it_f h9 hk
            refine j_iload (pc := 68) C dX5_goesOn_68 rfl ?_
            refine j_if_eq (pc := 70) 77 C dX5_goesOn_70 (by decide) (fun h10 => ?_) (fun h10 => ?_)
            · replace hk := it_t h10 hk
              exact j_mask [true, true, true, false, true, true] (Jn77 _ _ _ hk)
            · replace hk := it_f h10 hk
              refine j_iconst (pc := 73) (v := nI 1) C dX5_goesOn_73 (by decide) ?_
              refine j_goto (pc := 74) 78 C dX5_goesOn_74 (by decide) ?_
              exact j_mask [true, true, true, false, true, true] (Jn78 _ _ _ _ hk)
  exact j_mask [true, true, true, true, true, false] (L7 _ _ _ _ _ _ hk)
