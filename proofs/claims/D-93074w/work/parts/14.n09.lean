/-! the class: walks -/
set_option maxRecDepth 100000
def f_X0_rules_J23 (F : Nat) (sh : SH) (s0 : Nat) (I : II) : Option (Int64 × II) := bd2 (f_X0_finds sh s0 I) fun r26 I26 => some ((Int32.toInt64 r26), I26)
def f_X0_rules (F : Nat) (sh : SH) (x1 : Int32) (I : II) : Option (Int64 × II) := (f_X0_isSet sh x1 I).bind fun r3 => bd2 (f_X0_need sh r3 (nI 1) I) fun u7 I7 => oex u7 (fun _w7 => (f_X0_weave F sh x1 I7).bind fun I12 => bd2 (f_X5_counts F sh I12) fun r19 I19 => some (r19, I19)) (fun w7 => ock sh w7 1 <| f_X0_rules_J23 F sh w7 I7)
abbrev rm_X0_rules : Room := { frames := 17, cells := 0, slots := 0, locals := 461 }
theorem mv_X0_rules_ok : callOK yX0_rules 1 := by decide +kernel
theorem mw_X0_rules : MW yX0_rules cX0_rules 3 (some .long) [(0, 22, 23, 8)] 1 := ⟨q1485, q1486, q91, q1487, mv_X0_rules_ok⟩
set_option maxHeartbeats 4000000 in
theorem ct_X0_rules {G : WG} {l : Launch} {sh : SH} (hS : stN sh) {I : II} {F : Nat} {x1 : Int32} {Z : (Int64 × II)} (hk : f_X0_rules F sh x1 I = some Z) : CT G l yX0_rules (wsW_ yX0_rules cX0_rules 3 (some .long) [(0, 22, 23, 8)]) rm_X0_rules [.ref (wad G 0), .int x1] (sh, I) (.returned (some (.long Z.1))) (sh, Z.2) := by
  refine CT.ofJW "NineDemands" rfl (by decide) (Nat.le_of_ble_eq_true rfl) ?_
  intro p e s m args below meth c C
  unfold f_X0_rules at hk
  refine j_lv (lv' := [some (.ref (wad G 0)), some (.int x1), none]) rfl ?_
  refine j_aload_n (pc := 0) C dX0_rules_0 rfl rfl ?_
  refine j_aload_n (pc := 1) C dX0_rules_1 rfl rfl ?_
  refine j_iload_n (pc := 2) C dX0_rules_2 rfl rfl ?_
  replace hk := ob_some hk
  obtain ⟨r3, h1, hk⟩ := hk
  refine x_callV (pc := 3) C (ct_X0_isSet hS h1) mv_X0_isSet (stN_o0 hS).r rfl rfl q1415 dX0_rules_3 rfl rfl (Nat.le_of_ble_eq_true rfl) rfl ?_
  refine j_iconst (pc := 6) (v := nI 1) C dX0_rules_6 (by decide) ?_
  have Jn23 : ∀ (s0 : Nat) (I : II), f_X0_rules_J23 F sh s0 I = some Z → J G p l e rm_X0_rules s m args below meth c 3 (.returned (some (.long Z.1))) (sh, Z.2) (rm_X0_rules).cells (rm_X0_rules).slots (sh, I) 0 0 23 [some (.ref (wad G 0)), none, none] [.ref (wad G s0)] := by
    intro s0 I hk
    unfold f_X0_rules_J23 at hk
    refine j_astore_n (pc := 23) C dX0_rules_23 rfl (Nat.le_of_ble_eq_true rfl) rfl ?_
    refine j_aload_n (pc := 24) C dX0_rules_24 rfl rfl ?_
    refine j_aload_n (pc := 25) C dX0_rules_25 rfl rfl ?_
    replace hk := bd2_some hk
    obtain ⟨r26, I26, h2, hk⟩ := hk
    refine x_callV (pc := 26) C (ct_X0_finds hS h2) mv_X0_finds (stN_o0 hS).r rfl rfl q433 dX0_rules_26 rfl rfl (Nat.le_of_ble_eq_true rfl) rfl ?_
    refine j_i2l (pc := 29) C dX0_rules_29 ?_
    obtain rfl := Option.some.inj hk
    exact j_lret (pc := 30) C dX0_rules_30 (Nat.le_of_ble_eq_true rfl) (Nat.le_of_ble_eq_true rfl)
  replace hk := bd2_some hk
  obtain ⟨u7, I7, h3, hk⟩ := hk
  cases u7 with
  | inr w7 =>
    replace hk := oex_r hk
    replace hk := ock_some hk
    obtain ⟨h5, hk⟩ := hk
    refine x_callVC [] [] (0, 22, 23, 8) (pc := 7) C (ct_X0_need hS h3) mv_X0_need (stN_o0 hS).r rfl rfl q416 dX0_rules_7 rfl rfl (Nat.le_of_ble_eq_true rfl) rfl rfl h5 rfl (by decide) (by decide) q146 (fun z hz => by cases hz) ?_
    exact j_mask [true, false, false] (Jn23 _ _ hk)
  | inl _w7 =>
    replace hk := oex_l hk
    refine x_callV (pc := 7) C (ct_X0_need hS h3) mv_X0_need (stN_o0 hS).r rfl rfl q416 dX0_rules_7 rfl rfl (Nat.le_of_ble_eq_true rfl) rfl ?_
    refine j_aload_n (pc := 10) C dX0_rules_10 rfl rfl ?_
    refine j_iload_n (pc := 11) C dX0_rules_11 rfl rfl ?_
    replace hk := ob_some hk
    obtain ⟨I12, h6, hk⟩ := hk
    refine x_callV (pc := 12) C (ct_X0_weave hS h6) mv_X0_weave (stN_o0 hS).r rfl rfl q1423 dX0_rules_12 rfl rfl (Nat.le_of_ble_eq_true rfl) rfl ?_
    refine j_aload_n (pc := 15) C dX0_rules_15 rfl rfl ?_
    refine x_getR (pc := 16) C fd_0_6 (fl1 C q378) (stN_o0 hS).r (stN_r0_6 hS) dX0_rules_16 ?_
    replace hk := bd2_some hk
    obtain ⟨r19, I19, h7, hk⟩ := hk
    refine x_callV (pc := 19) C (ct_X5_counts hS h7) mv_X5_counts (stN_o11 hS).r rfl rfl q1488 dX0_rules_19 rfl rfl (Nat.le_of_ble_eq_true rfl) rfl ?_
    obtain rfl := Option.some.inj hk
    exact j_lret (pc := 22) C dX0_rules_22 (Nat.le_of_ble_eq_true rfl) (Nat.le_of_ble_eq_true rfl)
def f_X0_write_J54 (F : Nat) (sh : SH) (s0 : Nat) (I : II) : Option (Int32 × II) := bd2 (f_X0_finds sh s0 I) fun r57 I57 => some (r57, I57)
def f_X0_write_J24 (F : Nat) (sh : SH) (s1 : Int32) (I : II) : Option (Int32 × II) := bd2 (f_X0_need sh s1 (nI 2) I) fun u25 I25 => oex u25 (fun _w25 => orf (sh.2.2 0 1) fun t37 => ock sh t37 2 <| orf (sh.2.2 t37 0) fun t40 => oarw sh t40 100 fun nh11 => og ((¬ (nI 0) < 0 ∧ ¬ (nI 0) < 0 ∧ ¬ (nI 12) < 0) ∧ Int32.toNatClampNeg (nI 0) + Int32.toNatClampNeg (nI 12) ≤ 12 ∧ Int32.toNatClampNeg (nI 0) + Int32.toNatClampNeg (nI 12) ≤ nh11) <| (f_X0_boths F sh (upr I25 t40 (va_cpy (I25 16) (I25 t40) (Int32.toNatClampNeg (nI 0)) (Int32.toNatClampNeg (nI 0)) (Int32.toNatClampNeg (nI 12))))).bind fun r50 => some (r50, upr I25 t40 (va_cpy (I25 16) (I25 t40) (Int32.toNatClampNeg (nI 0)) (Int32.toNatClampNeg (nI 0)) (Int32.toNatClampNeg (nI 12))))) (fun w25 => ock sh w25 1 <| f_X0_write_J54 F sh w25 I25)
def f_X0_write (F : Nat) (sh : SH) (x1 : Int32) (I : II) : Option (Int32 × II) := (f_X0_isSet sh x1 I).bind fun r3 => bd2 (f_X0_need sh r3 (nI 1) I) fun u7 I7 => oex u7 (fun _w7 => bd2 (f_X0_isOut F sh x1 I7) fun r13 I13 => if r13 = 0 then f_X0_write_J24 F sh (nI 1) I13 else f_X0_write_J24 F sh (nI 0) I13) (fun w7 => ock sh w7 1 <| f_X0_write_J54 F sh w7 I7)
abbrev rm_X0_write : Room := { frames := 18, cells := 0, slots := 0, locals := 449 }
theorem mv_X0_write_ok : callOK yX0_write 1 := by decide +kernel
theorem mw_X0_write : MW yX0_write cX0_write 3 (some .int) [(0, 53, 54, 8)] 1 := ⟨q1476, q1477, q91, q1478, mv_X0_write_ok⟩
set_option maxHeartbeats 4000000 in
theorem ct_X0_write {G : WG} {l : Launch} {sh : SH} (hS : stN sh) {I : II} {F : Nat} {x1 : Int32} {Z : (Int32 × II)} (hk : f_X0_write F sh x1 I = some Z) : CT G l yX0_write (wsW_ yX0_write cX0_write 3 (some .int) [(0, 53, 54, 8)]) rm_X0_write [.ref (wad G 0), .int x1] (sh, I) (.returned (some (.int Z.1))) (sh, Z.2) := by
  refine CT.ofJW "NineDemands" rfl (by decide) (Nat.le_of_ble_eq_true rfl) ?_
  intro p e s m args below meth c C
  unfold f_X0_write at hk
  refine j_lv (lv' := [some (.ref (wad G 0)), some (.int x1), none]) rfl ?_
  refine j_aload_n (pc := 0) C dX0_write_0 rfl rfl ?_
  refine j_aload_n (pc := 1) C dX0_write_1 rfl rfl ?_
  refine j_iload_n (pc := 2) C dX0_write_2 rfl rfl ?_
  replace hk := ob_some hk
  obtain ⟨r3, h1, hk⟩ := hk
  refine x_callV (pc := 3) C (ct_X0_isSet hS h1) mv_X0_isSet (stN_o0 hS).r rfl rfl q1415 dX0_write_3 rfl rfl (Nat.le_of_ble_eq_true rfl) rfl ?_
  refine j_iconst (pc := 6) (v := nI 1) C dX0_write_6 (by decide) ?_
  have Jn54 : ∀ (s0 : Nat) (I : II), f_X0_write_J54 F sh s0 I = some Z → J G p l e rm_X0_write s m args below meth c 3 (.returned (some (.int Z.1))) (sh, Z.2) (rm_X0_write).cells (rm_X0_write).slots (sh, I) 0 0 54 [some (.ref (wad G 0)), none, none] [.ref (wad G s0)] := by
    intro s0 I hk
    unfold f_X0_write_J54 at hk
    refine j_astore_n (pc := 54) C dX0_write_54 rfl (Nat.le_of_ble_eq_true rfl) rfl ?_
    refine j_aload_n (pc := 55) C dX0_write_55 rfl rfl ?_
    refine j_aload_n (pc := 56) C dX0_write_56 rfl rfl ?_
    replace hk := bd2_some hk
    obtain ⟨r57, I57, h2, hk⟩ := hk
    refine x_callV (pc := 57) C (ct_X0_finds hS h2) mv_X0_finds (stN_o0 hS).r rfl rfl q433 dX0_write_57 rfl rfl (Nat.le_of_ble_eq_true rfl) rfl ?_
    obtain rfl := Option.some.inj hk
    exact j_iret (pc := 60) C dX0_write_60 (Nat.le_of_ble_eq_true rfl) (Nat.le_of_ble_eq_true rfl)
  replace hk := bd2_some hk
  obtain ⟨u7, I7, h3, hk⟩ := hk
  cases u7 with
  | inr w7 =>
    replace hk := oex_r hk
    replace hk := ock_some hk
    obtain ⟨h5, hk⟩ := hk
    refine x_callVC [] [] (0, 53, 54, 8) (pc := 7) C (ct_X0_need hS h3) mv_X0_need (stN_o0 hS).r rfl rfl q416 dX0_write_7 rfl rfl (Nat.le_of_ble_eq_true rfl) rfl rfl h5 rfl (by decide) (by decide) q146 (fun z hz => by cases hz) ?_
    exact j_mask [true, false, false] (Jn54 _ _ hk)
  | inl _w7 =>
    replace hk := oex_l hk
    refine x_callV (pc := 7) C (ct_X0_need hS h3) mv_X0_need (stN_o0 hS).r rfl rfl q416 dX0_write_7 rfl rfl (Nat.le_of_ble_eq_true rfl) rfl ?_
    refine j_aload_n (pc := 10) C dX0_write_10 rfl rfl ?_
    refine j_aload_n (pc := 11) C dX0_write_11 rfl rfl ?_
    refine j_iload_n (pc := 12) C dX0_write_12 rfl rfl ?_
    replace hk := bd2_some hk
    obtain ⟨r13, I13, h6, hk⟩ := hk
    refine x_callV (pc := 13) C (ct_X0_isOut hS h6) mv_X0_isOut (stN_o0 hS).r rfl rfl q1419 dX0_write_13 rfl rfl (Nat.le_of_ble_eq_true rfl) rfl ?_
    have Jn24 : ∀ (s1 : Int32) (I : II), f_X0_write_J24 F sh s1 I = some Z → J G p l e rm_X0_write s m args below meth c 3 (.returned (some (.int Z.1))) (sh, Z.2) (rm_X0_write).cells (rm_X0_write).slots (sh, I) 0 0 24 [some (.ref (wad G 0)), none, none] [.int s1, .ref (wad G 0)] := by
      intro s1 I hk
      unfold f_X0_write_J24 at hk
      refine j_iconst (pc := 24) (v := nI 2) C dX0_write_24 (by decide) ?_
      replace hk := bd2_some hk
      obtain ⟨u25, I25, h7, hk⟩ := hk
      cases u25 with
      | inr w25 =>
        replace hk := oex_r hk
        replace hk := ock_some hk
        obtain ⟨h9, hk⟩ := hk
        refine x_callVC [] [] (0, 53, 54, 8) (pc := 25) C (ct_X0_need hS h7) mv_X0_need (stN_o0 hS).r rfl rfl q416 dX0_write_25 rfl rfl (Nat.le_of_ble_eq_true rfl) rfl rfl h9 rfl (by decide) (by decide) q146 (fun z hz => by cases hz) ?_
        exact j_mask [true, false, false] (Jn54 _ _ hk)
      | inl _w25 =>
        replace hk := oex_l hk
        refine x_callV (pc := 25) C (ct_X0_need hS h7) mv_X0_need (stN_o0 hS).r rfl rfl q416 dX0_write_25 rfl rfl (Nat.le_of_ble_eq_true rfl) rfl ?_
        refine j_aload_n (pc := 28) C dX0_write_28 rfl rfl ?_
        refine x_getR (pc := 29) C fd_0_6 (fl1 C q378) (stN_o0 hS).r (stN_r0_6 hS) dX0_write_29 ?_
        refine x_getR (pc := 32) C fd_6_2 (fl3 C q325) (stN_o11 hS).r (stN_r11_2 hS) dX0_write_32 ?_
        refine j_iconst (pc := 35) (v := nI 0) C dX0_write_35 (by decide) ?_
        refine j_aload_n (pc := 36) C dX0_write_36 rfl rfl ?_
        replace hk := orf_some hk
        obtain ⟨t37, et37, hk⟩ := hk
        refine x_getR (pc := 37) C fd_0_1 (fl1 C q373) (stN_o0 hS).r et37 dX0_write_37 ?_
        replace hk := ock_some hk
        obtain ⟨h10, hk⟩ := hk
        replace hk := orf_some hk
        obtain ⟨t40, et40, hk⟩ := hk
        refine x_getR (pc := 40) C fd_2_0 (fl3 C q249) h10 et40 dX0_write_40 ?_
        refine j_iconst (pc := 43) (v := nI 0) C dX0_write_43 (by decide) ?_
        refine j_bipush (pc := 44) (v := nI 12) C dX0_write_44 (by decide) ?_
        replace hk := oarw_some hk
        obtain ⟨nh11, h11, hk⟩ := hk
        replace hk := og_some hk
        obtain ⟨h12, hk⟩ := hk
        refine x_copy (pc := 46) C (Or.inl ⟨rfl, rfl⟩) q1479 q764 q763 q121 (stN_a16 hS).r h11 h12 (Or.inl rfl) (Nat.le_of_ble_eq_true rfl) (Nat.le_of_ble_eq_true rfl) dX0_write_46 ?_
        refine j_aload_n (pc := 49) C dX0_write_49 rfl rfl ?_
        replace hk := ob_some hk
        obtain ⟨r50, h13, hk⟩ := hk
        refine x_callV (pc := 50) C (ct_X0_boths hS h13) mv_X0_boths (stN_o0 hS).r rfl rfl q1480 dX0_write_50 rfl rfl (Nat.le_of_ble_eq_true rfl) rfl ?_
        obtain rfl := Option.some.inj hk
        exact j_iret (pc := 53) C dX0_write_53 (Nat.le_of_ble_eq_true rfl) (Nat.le_of_ble_eq_true rfl)
    refine j_if_ne (pc := 16) 23 C dX0_write_16 (by decide) (fun h14 => ?_) (fun h14 => ?_)
    · replace hk := it_f h14 hk
      refine j_iconst (pc := 23) (v := nI 0) C dX0_write_23 (by decide) ?_
      exact j_mask [true, false, false] (Jn24 _ _ hk)
    · replace hk := it_t h14 hk
      refine j_iconst (pc := 19) (v := nI 1) C dX0_write_19 (by decide) ?_
      refine j_goto (pc := 20) 24 C dX0_write_20 (by decide) ?_
      exact j_mask [true, false, false] (Jn24 _ _ hk)
def f_X0_find_J53 (F : Nat) (sh : SH) (s0 : Nat) (I : II) : Option (Int32 × II) := bd2 (f_X0_finds sh s0 I) fun r56 I56 => some (r56, I56)
def f_X0_find_J39 (F : Nat) (sh : SH) (x2 : Int32) (s1 : Int32) (I : II) : Option (Int32 × II) := bd2 (f_X0_need sh s1 (nI 2) I) fun u40 I40 => oex u40 (fun _w40 => oix x2 12 fun i51 => some ((I40 16 i51), I40)) (fun w40 => ock sh w40 1 <| f_X0_find_J53 F sh w40 I40)
def f_X0_find_J21 (F : Nat) (sh : SH) (x1 : Int32) (x2 : Int32) (s1 : Int32) (I : II) : Option (Int32 × II) := bd2 (f_X0_need sh s1 (nI 1) I) fun u22 I22 => oex u22 (fun _w22 => bd2 (f_X0_isOut F sh x1 I22) fun r28 I28 => if r28 = 0 then f_X0_find_J39 F sh x2 (nI 1) I28 else f_X0_find_J39 F sh x2 (nI 0) I28) (fun w22 => ock sh w22 1 <| f_X0_find_J53 F sh w22 I22)
def f_X0_find_J20 (F : Nat) (sh : SH) (x1 : Int32) (x2 : Int32) (I : II) : Option (Int32 × II) := f_X0_find_J21 F sh x1 x2 (nI 0) I
def f_X0_find (F : Nat) (sh : SH) (x1 : Int32) (x2 : Int32) (I : II) : Option (Int32 × II) := (f_X0_isSet sh x1 I).bind fun r3 => if r3 = 0 then f_X0_find_J20 F sh x1 x2 I else (f_X0_isHall x2).bind fun r10 => if r10 = 0 then f_X0_find_J20 F sh x1 x2 I else f_X0_find_J21 F sh x1 x2 (nI 1) I
abbrev rm_X0_find : Room := { frames := 18, cells := 0, slots := 0, locals := 449 }
theorem mv_X0_find_ok : callOK yX0_find 2 := by decide +kernel
theorem mw_X0_find : MW yX0_find cX0_find 4 (some .int) [(0, 52, 53, 8)] 2 := ⟨q1412, q1413, q91, q1414, mv_X0_find_ok⟩
set_option maxHeartbeats 4000000 in
theorem ct_X0_find {G : WG} {l : Launch} {sh : SH} (hS : stN sh) {I : II} {F : Nat} {x1 : Int32} {x2 : Int32} {Z : (Int32 × II)} (hk : f_X0_find F sh x1 x2 I = some Z) : CT G l yX0_find (wsW_ yX0_find cX0_find 4 (some .int) [(0, 52, 53, 8)]) rm_X0_find [.ref (wad G 0), .int x1, .int x2] (sh, I) (.returned (some (.int Z.1))) (sh, Z.2) := by
  refine CT.ofJW "NineDemands" rfl (by decide) (Nat.le_of_ble_eq_true rfl) ?_
  intro p e s m args below meth c C
  unfold f_X0_find at hk
  refine j_lv (lv' := [some (.ref (wad G 0)), some (.int x1), some (.int x2), none]) rfl ?_
  refine j_aload_n (pc := 0) C dX0_find_0 rfl rfl ?_
  refine j_aload_n (pc := 1) C dX0_find_1 rfl rfl ?_
  refine j_iload_n (pc := 2) C dX0_find_2 rfl rfl ?_
  replace hk := ob_some hk
  obtain ⟨r3, h1, hk⟩ := hk
  refine x_callV (pc := 3) C (ct_X0_isSet hS h1) mv_X0_isSet (stN_o0 hS).r rfl rfl q1415 dX0_find_3 rfl rfl (Nat.le_of_ble_eq_true rfl) rfl ?_
  have Jn21 : ∀ (x1 : Int32) (x2 : Int32) (s1 : Int32) (I : II), f_X0_find_J21 F sh x1 x2 s1 I = some Z → J G p l e rm_X0_find s m args below meth c 4 (.returned (some (.int Z.1))) (sh, Z.2) (rm_X0_find).cells (rm_X0_find).slots (sh, I) 0 0 21 [some (.ref (wad G 0)), some (.int x1), some (.int x2), none] [.int s1, .ref (wad G 0)] := by
    intro x1 x2 s1 I hk
    unfold f_X0_find_J21 at hk
    refine j_iconst (pc := 21) (v := nI 1) C dX0_find_21 (by decide) ?_
    have Jn53 : ∀ (s0 : Nat) (I : II), f_X0_find_J53 F sh s0 I = some Z → J G p l e rm_X0_find s m args below meth c 4 (.returned (some (.int Z.1))) (sh, Z.2) (rm_X0_find).cells (rm_X0_find).slots (sh, I) 0 0 53 [some (.ref (wad G 0)), none, none, none] [.ref (wad G s0)] := by
      intro s0 I hk
      unfold f_X0_find_J53 at hk
      refine j_astore_n (pc := 53) C dX0_find_53 rfl (Nat.le_of_ble_eq_true rfl) rfl ?_
      refine j_aload_n (pc := 54) C dX0_find_54 rfl rfl ?_
      refine j_aload_n (pc := 55) C dX0_find_55 rfl rfl ?_
      replace hk := bd2_some hk
      obtain ⟨r56, I56, h2, hk⟩ := hk
      refine x_callV (pc := 56) C (ct_X0_finds hS h2) mv_X0_finds (stN_o0 hS).r rfl rfl q433 dX0_find_56 rfl rfl (Nat.le_of_ble_eq_true rfl) rfl ?_
      obtain rfl := Option.some.inj hk
      exact j_iret (pc := 59) C dX0_find_59 (Nat.le_of_ble_eq_true rfl) (Nat.le_of_ble_eq_true rfl)
    replace hk := bd2_some hk
    obtain ⟨u22, I22, h3, hk⟩ := hk
    cases u22 with
    | inr w22 =>
      replace hk := oex_r hk
      replace hk := ock_some hk
      obtain ⟨h5, hk⟩ := hk
      refine x_callVC [] [] (0, 52, 53, 8) (pc := 22) C (ct_X0_need hS h3) mv_X0_need (stN_o0 hS).r rfl rfl q416 dX0_find_22 rfl rfl (Nat.le_of_ble_eq_true rfl) rfl rfl h5 rfl (by decide) (by decide) q146 (fun z hz => by cases hz) ?_
      exact j_mask [true, false, false, false] (Jn53 _ _ hk)
    | inl _w22 =>
      replace hk := oex_l hk
      refine x_callV (pc := 22) C (ct_X0_need hS h3) mv_X0_need (stN_o0 hS).r rfl rfl q416 dX0_find_22 rfl rfl (Nat.le_of_ble_eq_true rfl) rfl ?_
      refine j_aload_n (pc := 25) C dX0_find_25 rfl rfl ?_
      refine j_aload_n (pc := 26) C dX0_find_26 rfl rfl ?_
      refine j_iload_n (pc := 27) C dX0_find_27 rfl rfl ?_
      replace hk := bd2_some hk
      obtain ⟨r28, I28, h6, hk⟩ := hk
      refine x_callV (pc := 28) C (ct_X0_isOut hS h6) mv_X0_isOut (stN_o0 hS).r rfl rfl q1419 dX0_find_28 rfl rfl (Nat.le_of_ble_eq_true rfl) rfl ?_
      have Jn39 : ∀ (x2 : Int32) (s1 : Int32) (I : II), f_X0_find_J39 F sh x2 s1 I = some Z → J G p l e rm_X0_find s m args below meth c 4 (.returned (some (.int Z.1))) (sh, Z.2) (rm_X0_find).cells (rm_X0_find).slots (sh, I) 0 0 39 [some (.ref (wad G 0)), none, some (.int x2), none] [.int s1, .ref (wad G 0)] := by
        intro x2 s1 I hk
        unfold f_X0_find_J39 at hk
        refine j_iconst (pc := 39) (v := nI 2) C dX0_find_39 (by decide) ?_
        replace hk := bd2_some hk
        obtain ⟨u40, I40, h7, hk⟩ := hk
        cases u40 with
        | inr w40 =>
          replace hk := oex_r hk
          replace hk := ock_some hk
          obtain ⟨h9, hk⟩ := hk
          refine x_callVC [] [] (0, 52, 53, 8) (pc := 40) C (ct_X0_need hS h7) mv_X0_need (stN_o0 hS).r rfl rfl q416 dX0_find_40 rfl rfl (Nat.le_of_ble_eq_true rfl) rfl rfl h9 rfl (by decide) (by decide) q146 (fun z hz => by cases hz) ?_
          exact j_mask [true, false, false, false] (Jn53 _ _ hk)
        | inl _w40 =>
          replace hk := oex_l hk
          refine x_callV (pc := 40) C (ct_X0_need hS h7) mv_X0_need (stN_o0 hS).r rfl rfl q416 dX0_find_40 rfl rfl (Nat.le_of_ble_eq_true rfl) rfl ?_
          refine j_aload_n (pc := 43) C dX0_find_43 rfl rfl ?_
          refine x_getR (pc := 44) C fd_0_6 (fl1 C q378) (stN_o0 hS).r (stN_r0_6 hS) dX0_find_44 ?_
          refine x_getR (pc := 47) C fd_6_2 (fl3 C q325) (stN_o11 hS).r (stN_r11_2 hS) dX0_find_47 ?_
          refine j_iload_n (pc := 50) C dX0_find_50 rfl rfl ?_
          replace hk := oix_ex hk
          obtain ⟨i51, e51, h10, hk⟩ := hk
          refine j_iald (pc := 51) C (stN_a16 hS) h10 e51 dX0_find_51 ?_
          obtain rfl := Option.some.inj hk
          exact j_iret (pc := 52) C dX0_find_52 (Nat.le_of_ble_eq_true rfl) (Nat.le_of_ble_eq_true rfl)
      refine j_if_ne (pc := 31) 38 C dX0_find_31 (by decide) (fun h11 => ?_) (fun h11 => ?_)
      · replace hk := it_f h11 hk
        refine j_iconst (pc := 38) (v := nI 0) C dX0_find_38 (by decide) ?_
        exact j_mask [true, false, true, false] (Jn39 _ _ _ hk)
      · replace hk := it_t h11 hk
        refine j_iconst (pc := 34) (v := nI 1) C dX0_find_34 (by decide) ?_
        refine j_goto (pc := 35) 39 C dX0_find_35 (by decide) ?_
        exact j_mask [true, false, true, false] (Jn39 _ _ _ hk)
  have Jn20 : ∀ (x1 : Int32) (x2 : Int32) (I : II), f_X0_find_J20 F sh x1 x2 I = some Z → J G p l e rm_X0_find s m args below meth c 4 (.returned (some (.int Z.1))) (sh, Z.2) (rm_X0_find).cells (rm_X0_find).slots (sh, I) 0 0 20 [some (.ref (wad G 0)), some (.int x1), some (.int x2), none] [.ref (wad G 0)] := by
    intro x1 x2 I hk
    unfold f_X0_find_J20 at hk
    refine j_iconst (pc := 20) (v := nI 0) C dX0_find_20 (by decide) ?_
    exact j_mask [true, true, true, false] (Jn21 _ _ _ _ hk)
  refine j_if_eq (pc := 6) 20 C dX0_find_6 (by decide) (fun h12 => ?_) (fun h12 => ?_)
  · replace hk := it_t h12 hk
    exact j_mask [true, true, true, false] (Jn20 _ _ _ hk)
  · replace hk := it_f h12 hk
    refine j_iload_n (pc := 9) C dX0_find_9 rfl rfl ?_
    replace hk := ob_some hk
    obtain ⟨r10, h13, hk⟩ := hk
    refine j_callS (pc := 10) C (ct_X0_isHall h13) ms_X0_isHall q410 dX0_find_10 rfl rfl (Nat.le_of_ble_eq_true rfl) rfl ?_
    refine j_if_eq (pc := 13) 20 C dX0_find_13 (by decide) (fun h14 => ?_) (fun h14 => ?_)
    · replace hk := it_t h14 hk
      exact j_mask [true, true, true, false] (Jn20 _ _ _ hk)
    · replace hk := it_f h14 hk
      refine j_iconst (pc := 16) (v := nI 1) C dX0_find_16 (by decide) ?_
      refine j_goto (pc := 17) 21 C dX0_find_17 (by decide) ?_
      exact j_mask [true, true, true, false] (Jn21 _ _ _ _ hk)
def f_X0_kept_L4 (F : Nat) (sh : SH) (I : II) : Nat → Int32 → Int32 → Option Int32
  | 0, _, _ => none
  | n4 + 1, x1, x2 => orf (sh.2.2 0 1) fun t6 => ock sh t6 2 <| orf (sh.2.2 t6 1) fun t9 => ock sh t9 3 <| (f_J5_size sh t9 I).bind fun r12 => if r12 ≤ x2 then some x1 else orf (sh.2.2 0 1) fun t20 => ock sh t20 2 <| orf (sh.2.2 t20 1) fun t23 => ock sh t23 3 <| (f_J5_get sh t23 x2 I).bind fun a27 => ockD sh a27 <| orf (sh.2.2 0 1) fun t34 => ock sh t34 2 <| orf (sh.2.2 t34 0) fun t37 => (f_X2_breachOf F sh a27 t37 I).bind fun r40 => if r40 = (-1) then (f_X0_kept_L4 F sh I n4) (x1 ||| ((nI 1) <<< (x2 &&& 31))) (x2 + (nI 1)) else (f_X0_kept_L4 F sh I n4) (x1 ||| (nI 0)) (x2 + (nI 1))
def f_X0_kept (F : Nat) (sh : SH) (I : II) : Option Int32 := f_X0_kept_L4 F sh I F (nI 0) (nI 0)
abbrev rm_X0_kept : Room := { frames := 3, cells := 0, slots := 0, locals := 67 }
theorem mv_X0_kept_ok : callOK yX0_kept 0 := by decide +kernel
theorem mv_X0_kept : MV yX0_kept cX0_kept 3 (some .int) 0 := ⟨q1408, q1409, q91, q1410, mv_X0_kept_ok⟩
set_option maxHeartbeats 4000000 in
theorem ct_X0_kept {G : WG} {l : Launch} {sh : SH} (hS : stN sh) {I : II} {F : Nat}  {Z : Int32} (hk : f_X0_kept F sh I = some Z) : CT G l yX0_kept (ws_ yX0_kept cX0_kept 3 (some .int)) rm_X0_kept [.ref (wad G 0)] (sh, I) (.returned (some (.int Z))) (sh, I) := by
  refine CT.ofJ "NineDemands" rfl (by decide) (Nat.le_of_ble_eq_true rfl) ?_
  intro p e s m args below meth c C
  unfold f_X0_kept at hk
  refine j_lv (lv' := [some (.ref (wad G 0)), none, none]) rfl ?_
  refine j_iconst (pc := 0) (v := nI 0) C dX0_kept_0 (by decide) ?_
  refine j_istore_n (pc := 1) C dX0_kept_1 rfl (Nat.le_of_ble_eq_true rfl) rfl ?_
  refine j_iconst (pc := 2) (v := nI 0) C dX0_kept_2 (by decide) ?_
  refine j_istore_n (pc := 3) C dX0_kept_3 rfl (Nat.le_of_ble_eq_true rfl) rfl ?_
  have L4 : ∀  (n4 : Nat) (x1 : Int32) (x2 : Int32), f_X0_kept_L4 F sh I n4 x1 x2 = some Z → J G p l e rm_X0_kept s m args below meth c 3 (.returned (some (.int Z))) (sh, I) (rm_X0_kept).cells (rm_X0_kept).slots (sh, I) 0 0 4 [some (.ref (wad G 0)), some (.int x1), some (.int x2)] [] := by
    intro  n4
    induction n4 with
    | zero => intro x1 x2 hk; rw [f_X0_kept_L4] at hk; cases hk
    | succ n4 ih4 =>
      intro x1 x2 hk
      rw [f_X0_kept_L4] at hk
      generalize f_X0_kept_L4 F sh I n4 = k4 at ih4 hk
      refine j_iload_n (pc := 4) C dX0_kept_4 rfl rfl ?_
      refine j_aload_n (pc := 5) C dX0_kept_5 rfl rfl ?_
      replace hk := orf_some hk
      obtain ⟨t6, et6, hk⟩ := hk
      refine x_getR (pc := 6) C fd_0_1 (fl1 C q373) (stN_o0 hS).r et6 dX0_kept_6 ?_
      replace hk := ock_some hk
      obtain ⟨h1, hk⟩ := hk
      replace hk := orf_some hk
      obtain ⟨t9, et9, hk⟩ := hk
      refine x_getR (pc := 9) C fd_2_1 (fl3 C q251) h1 et9 dX0_kept_9 ?_
      replace hk := ock_some hk
      obtain ⟨h2, hk⟩ := hk
      replace hk := ob_some hk
      obtain ⟨r12, h3, hk⟩ := hk
      refine x_callV (pc := 12) C (ct_J5_size h3) mv_J5_size h2 rfl rfl q514 dX0_kept_12 rfl rfl (Nat.le_of_ble_eq_true rfl) rfl ?_
      refine j_icmp_ge (pc := 15) 62 C dX0_kept_15 (by decide) (fun h4 => ?_) (fun h4 => ?_)
      · replace hk := it_t h4 hk
        refine j_iload_n (pc := 62) C dX0_kept_62 rfl rfl ?_
        obtain rfl := Option.some.inj hk
        exact j_iret (pc := 63) C dX0_kept_63 (Nat.le_of_ble_eq_true rfl) (Nat.le_of_ble_eq_true rfl)
      · replace hk := it_f h4 hk
        refine j_iload_n (pc := 18) C dX0_kept_18 rfl rfl ?_
        refine j_aload_n (pc := 19) C dX0_kept_19 rfl rfl ?_
        replace hk := orf_some hk
        obtain ⟨t20, et20, hk⟩ := hk
        refine x_getR (pc := 20) C fd_0_1 (fl1 C q373) (stN_o0 hS).r et20 dX0_kept_20 ?_
        replace hk := ock_some hk
        obtain ⟨h5, hk⟩ := hk
        replace hk := orf_some hk
        obtain ⟨t23, et23, hk⟩ := hk
        refine x_getR (pc := 23) C fd_2_1 (fl3 C q251) h5 et23 dX0_kept_23 ?_
        refine j_iload_n (pc := 26) C dX0_kept_26 rfl rfl ?_
        replace hk := ock_some hk
        obtain ⟨h6, hk⟩ := hk
        replace hk := ob_some hk
        obtain ⟨a27, h7, hk⟩ := hk
        refine x_callV (pc := 27) C (ct_J5_get h7) mv_J5_get h6 rfl rfl q1329 dX0_kept_27 rfl rfl (Nat.le_of_ble_eq_true rfl) rfl ?_
        refine j_stk (st' := [.ref (wad G a27), .int x1]) rfl ?_
        replace hk := ockD_some hk
        obtain ⟨ch8, ch8h, h8, hk⟩ := hk
        obtain ⟨cr30, hcr30, hcs30⟩ := castD_NineDemands_Demand ch8h
        refine x_cast (pc := 30) C h8 hcr30 q640 hcs30 dX0_kept_30 ?_
        refine j_aload_n (pc := 33) C dX0_kept_33 rfl rfl ?_
        replace hk := orf_some hk
        obtain ⟨t34, et34, hk⟩ := hk
        refine x_getR (pc := 34) C fd_0_1 (fl1 C q373) (stN_o0 hS).r et34 dX0_kept_34 ?_
        replace hk := ock_some hk
        obtain ⟨h9, hk⟩ := hk
        replace hk := orf_some hk
        obtain ⟨t37, et37, hk⟩ := hk
        refine x_getR (pc := 37) C fd_2_0 (fl3 C q249) h9 et37 dX0_kept_37 ?_
        replace hk := ob_some hk
        obtain ⟨r40, h10, hk⟩ := hk
        refine j_callS (pc := 40) C (ct_X2_breachOf hS h10) ms_X2_breachOf q1402 dX0_kept_40 rfl rfl (Nat.le_of_ble_eq_true rfl) rfl ?_
        refine j_iconst (pc := 43) (v := (-1)) C dX0_kept_43 (by decide) ?_
        refine j_icmp_ne (pc := 44) 53 C dX0_kept_44 (by decide) (fun h11 => ?_) (fun h11 => ?_)
        · replace hk := it_f h11 hk
          refine j_iconst (pc := 53) (v := nI 0) C dX0_kept_53 (by decide) ?_
          refine j_ior (pc := 54) C dX0_kept_54 ?_
          refine j_istore_n (pc := 55) C dX0_kept_55 rfl (Nat.le_of_ble_eq_true rfl) rfl ?_
          refine j_iinc (pc := 56) (nI 1) C dX0_kept_56 rfl (by decide) (Nat.le_of_ble_eq_true rfl) rfl ?_
          refine j_goto (pc := 59) 4 C dX0_kept_59 (by decide) ?_
          exact j_mask [true, true, true] (ih4 _ _ hk)
        · replace hk := it_t h11 hk
          refine j_iconst (pc := 47) (v := nI 1) C dX0_kept_47 (by decide) ?_
          refine j_iload_n (pc := 48) C dX0_kept_48 rfl rfl ?_
          refine j_ishl (pc := 49) C dX0_kept_49 ?_
          refine j_goto (pc := 50) 54 C dX0_kept_50 (by decide) ?_
          refine j_ior (pc := 54) C dX0_kept_54 ?_
          refine j_istore_n (pc := 55) C dX0_kept_55 rfl (Nat.le_of_ble_eq_true rfl) rfl ?_
          refine j_iinc (pc := 56) (nI 1) C dX0_kept_56 rfl (by decide) (Nat.le_of_ble_eq_true rfl) rfl ?_
          refine j_goto (pc := 59) 4 C dX0_kept_59 (by decide) ?_
          exact j_mask [true, true, true] (ih4 _ _ hk)
  exact j_mask [true, true, true] (L4  _ _ _ hk)
def f_X0_breach_J52 (F : Nat) (sh : SH) (s0 : Nat) (I : II) : Option (Int32 × II) := bd2 (f_X0_finds sh s0 I) fun r55 I55 => some (r55, I55)
def f_X0_breach_J46 (F : Nat) (sh : SH) (x2 : Int32) (s1 : Int32) (I : II) : Option (Int32 × II) := bd2 (f_X0_need sh s1 (nI 2) I) fun u47 I47 => oex u47 (fun _w47 => some (x2, I47)) (fun w47 => ock sh w47 1 <| f_X0_breach_J52 F sh w47 I47)
def f_X0_breach (F : Nat) (sh : SH) (x1 : Int32) (I : II) : Option (Int32 × II) := (f_X0_isLaw sh x1 I).bind fun r3 => bd2 (f_X0_need sh r3 (nI 1) I) fun u7 I7 => oex u7 (fun _w7 => orf (sh.2.2 0 1) fun t11 => ock sh t11 2 <| orf (sh.2.2 t11 1) fun t14 => ock sh t14 3 <| (f_J5_get sh t14 x1 I7).bind fun a18 => ockD sh a18 <| orf (sh.2.2 0 1) fun t25 => ock sh t25 2 <| orf (sh.2.2 t25 0) fun t28 => (f_X2_breachOf F sh a18 t28 I7).bind fun r31 => if r31 = (-1) then f_X0_breach_J46 F sh r31 (nI 0) I7 else f_X0_breach_J46 F sh r31 (nI 1) I7) (fun w7 => ock sh w7 1 <| f_X0_breach_J52 F sh w7 I7)
abbrev rm_X0_breach : Room := { frames := 3, cells := 0, slots := 0, locals := 67 }
theorem mv_X0_breach_ok : callOK yX0_breach 1 := by decide +kernel
theorem mw_X0_breach : MW yX0_breach cX0_breach 3 (some .int) [(0, 51, 52, 8)] 1 := ⟨q1399, q1400, q91, q1401, mv_X0_breach_ok⟩
set_option maxHeartbeats 4000000 in
theorem ct_X0_breach {G : WG} {l : Launch} {sh : SH} (hS : stN sh) {I : II} {F : Nat} {x1 : Int32} {Z : (Int32 × II)} (hk : f_X0_breach F sh x1 I = some Z) : CT G l yX0_breach (wsW_ yX0_breach cX0_breach 3 (some .int) [(0, 51, 52, 8)]) rm_X0_breach [.ref (wad G 0), .int x1] (sh, I) (.returned (some (.int Z.1))) (sh, Z.2) := by
  refine CT.ofJW "NineDemands" rfl (by decide) (Nat.le_of_ble_eq_true rfl) ?_
  intro p e s m args below meth c C
  unfold f_X0_breach at hk
  refine j_lv (lv' := [some (.ref (wad G 0)), some (.int x1), none]) rfl ?_
  refine j_aload_n (pc := 0) C dX0_breach_0 rfl rfl ?_
  refine j_aload_n (pc := 1) C dX0_breach_1 rfl rfl ?_
  refine j_iload_n (pc := 2) C dX0_breach_2 rfl rfl ?_
  replace hk := ob_some hk
  obtain ⟨r3, h1, hk⟩ := hk
  refine x_callV (pc := 3) C (ct_X0_isLaw hS h1) mv_X0_isLaw (stN_o0 hS).r rfl rfl q1325 dX0_breach_3 rfl rfl (Nat.le_of_ble_eq_true rfl) rfl ?_
  refine j_iconst (pc := 6) (v := nI 1) C dX0_breach_6 (by decide) ?_
  have Jn52 : ∀ (s0 : Nat) (I : II), f_X0_breach_J52 F sh s0 I = some Z → J G p l e rm_X0_breach s m args below meth c 3 (.returned (some (.int Z.1))) (sh, Z.2) (rm_X0_breach).cells (rm_X0_breach).slots (sh, I) 0 0 52 [some (.ref (wad G 0)), none, none] [.ref (wad G s0)] := by
    intro s0 I hk
    unfold f_X0_breach_J52 at hk
    refine j_astore_n (pc := 52) C dX0_breach_52 rfl (Nat.le_of_ble_eq_true rfl) rfl ?_
    refine j_aload_n (pc := 53) C dX0_breach_53 rfl rfl ?_
    refine j_aload_n (pc := 54) C dX0_breach_54 rfl rfl ?_
    replace hk := bd2_some hk
    obtain ⟨r55, I55, h2, hk⟩ := hk
    refine x_callV (pc := 55) C (ct_X0_finds hS h2) mv_X0_finds (stN_o0 hS).r rfl rfl q433 dX0_breach_55 rfl rfl (Nat.le_of_ble_eq_true rfl) rfl ?_
    obtain rfl := Option.some.inj hk
    exact j_iret (pc := 58) C dX0_breach_58 (Nat.le_of_ble_eq_true rfl) (Nat.le_of_ble_eq_true rfl)
  replace hk := bd2_some hk
  obtain ⟨u7, I7, h3, hk⟩ := hk
  cases u7 with
  | inr w7 =>
    replace hk := oex_r hk
    replace hk := ock_some hk
    obtain ⟨h5, hk⟩ := hk
    refine x_callVC [] [] (0, 51, 52, 8) (pc := 7) C (ct_X0_need hS h3) mv_X0_need (stN_o0 hS).r rfl rfl q416 dX0_breach_7 rfl rfl (Nat.le_of_ble_eq_true rfl) rfl rfl h5 rfl (by decide) (by decide) q146 (fun z hz => by cases hz) ?_
    exact j_mask [true, false, false] (Jn52 _ _ hk)
  | inl _w7 =>
    replace hk := oex_l hk
    refine x_callV (pc := 7) C (ct_X0_need hS h3) mv_X0_need (stN_o0 hS).r rfl rfl q416 dX0_breach_7 rfl rfl (Nat.le_of_ble_eq_true rfl) rfl ?_
    refine j_aload_n (pc := 10) C dX0_breach_10 rfl rfl ?_
    replace hk := orf_some hk
    obtain ⟨t11, et11, hk⟩ := hk
    refine x_getR (pc := 11) C fd_0_1 (fl1 C q373) (stN_o0 hS).r et11 dX0_breach_11 ?_
    replace hk := ock_some hk
    obtain ⟨h6, hk⟩ := hk
    replace hk := orf_some hk
    obtain ⟨t14, et14, hk⟩ := hk
    refine x_getR (pc := 14) C fd_2_1 (fl3 C q251) h6 et14 dX0_breach_14 ?_
    refine j_iload_n (pc := 17) C dX0_breach_17 rfl rfl ?_
    replace hk := ock_some hk
    obtain ⟨h7, hk⟩ := hk
    replace hk := ob_some hk
    obtain ⟨a18, h8, hk⟩ := hk
    refine x_callV (pc := 18) C (ct_J5_get h8) mv_J5_get h7 rfl rfl q1329 dX0_breach_18 rfl rfl (Nat.le_of_ble_eq_true rfl) rfl ?_
    replace hk := ockD_some hk
    obtain ⟨ch9, ch9h, h9, hk⟩ := hk
    obtain ⟨cr21, hcr21, hcs21⟩ := castD_NineDemands_Demand ch9h
    refine x_cast (pc := 21) C h9 hcr21 q640 hcs21 dX0_breach_21 ?_
    refine j_aload_n (pc := 24) C dX0_breach_24 rfl rfl ?_
    replace hk := orf_some hk
    obtain ⟨t25, et25, hk⟩ := hk
    refine x_getR (pc := 25) C fd_0_1 (fl1 C q373) (stN_o0 hS).r et25 dX0_breach_25 ?_
    replace hk := ock_some hk
    obtain ⟨h10, hk⟩ := hk
    replace hk := orf_some hk
    obtain ⟨t28, et28, hk⟩ := hk
    refine x_getR (pc := 28) C fd_2_0 (fl3 C q249) h10 et28 dX0_breach_28 ?_
    replace hk := ob_some hk
    obtain ⟨r31, h11, hk⟩ := hk
    refine j_callS (pc := 31) C (ct_X2_breachOf hS h11) ms_X2_breachOf q1402 dX0_breach_31 rfl rfl (Nat.le_of_ble_eq_true rfl) rfl ?_
    refine j_istore_n (pc := 34) C dX0_breach_34 rfl (Nat.le_of_ble_eq_true rfl) rfl ?_
    refine j_aload_n (pc := 35) C dX0_breach_35 rfl rfl ?_
    refine j_iload_n (pc := 36) C dX0_breach_36 rfl rfl ?_
    refine j_iconst (pc := 37) (v := (-1)) C dX0_breach_37 (by decide) ?_
    have Jn46 : ∀ (x2 : Int32) (s1 : Int32) (I : II), f_X0_breach_J46 F sh x2 s1 I = some Z → J G p l e rm_X0_breach s m args below meth c 3 (.returned (some (.int Z.1))) (sh, Z.2) (rm_X0_breach).cells (rm_X0_breach).slots (sh, I) 0 0 46 [some (.ref (wad G 0)), none, some (.int x2)] [.int s1, .ref (wad G 0)] := by
      intro x2 s1 I hk
      unfold f_X0_breach_J46 at hk
      refine j_iconst (pc := 46) (v := nI 2) C dX0_breach_46 (by decide) ?_
      replace hk := bd2_some hk
      obtain ⟨u47, I47, h12, hk⟩ := hk
      cases u47 with
      | inr w47 =>
        replace hk := oex_r hk
        replace hk := ock_some hk
        obtain ⟨h14, hk⟩ := hk
        refine x_callVC [] [] (0, 51, 52, 8) (pc := 47) C (ct_X0_need hS h12) mv_X0_need (stN_o0 hS).r rfl rfl q416 dX0_breach_47 rfl rfl (Nat.le_of_ble_eq_true rfl) rfl rfl h14 rfl (by decide) (by decide) q146 (fun z hz => by cases hz) ?_
        exact j_mask [true, false, false] (Jn52 _ _ hk)
      | inl _w47 =>
        replace hk := oex_l hk
        refine x_callV (pc := 47) C (ct_X0_need hS h12) mv_X0_need (stN_o0 hS).r rfl rfl q416 dX0_breach_47 rfl rfl (Nat.le_of_ble_eq_true rfl) rfl ?_
        refine j_iload_n (pc := 50) C dX0_breach_50 rfl rfl ?_
        obtain rfl := Option.some.inj hk
        exact j_iret (pc := 51) C dX0_breach_51 (Nat.le_of_ble_eq_true rfl) (Nat.le_of_ble_eq_true rfl)
    refine j_icmp_eq (pc := 38) 45 C dX0_breach_38 (by decide) (fun h15 => ?_) (fun h15 => ?_)
    · replace hk := it_t h15 hk
      refine j_iconst (pc := 45) (v := nI 0) C dX0_breach_45 (by decide) ?_
      exact j_mask [true, false, true] (Jn46 _ _ _ hk)
    · replace hk := it_f h15 hk
      refine j_iconst (pc := 41) (v := nI 1) C dX0_breach_41 (by decide) ?_
      refine j_goto (pc := 42) 46 C dX0_breach_42 (by decide) ?_
      exact j_mask [true, false, true] (Jn46 _ _ _ hk)
def f_X0_casesOf (sh : SH) (x1 : Int32) (x2 : Int32) (I : II) : Option ((Nat ⊕ Nat) × II) := (f_X0_isLaw sh x1 I).bind fun r3 => bd2 (f_X0_need sh r3 (nI 1) I) fun u7 I7 => oex u7 (fun _w7 => orf (sh.2.2 0 1) fun t11 => ock sh t11 2 <| orf (sh.2.2 t11 1) fun t14 => ock sh t14 3 <| (f_J5_get sh t14 x1 I7).bind fun a18 => ockD sh a18 <| orf (sh.2.2 a18 4) fun t24 => ock sh t24 23 <| (f_X0_in x2 (nI 0) ((I7 t24 4) - (nI 1))).bind fun r37 => bd2 (f_X0_need sh r37 (nI 1) I7) fun u41 I41 => oex u41 (fun _w41 => some ((.inl t24), I41)) (fun w41 => some (.inr w41, I41))) (fun w7 => some (.inr w7, I7))
abbrev rm_X0_casesOf : Room := { frames := 3, cells := 0, slots := 0, locals := 64 }
theorem mv_X0_casesOf_ok : callOK yX0_casesOf 2 := by decide +kernel
theorem mv_X0_casesOf : MV yX0_casesOf cX0_casesOf 4 (some (.object "NineDemands$Cases")) 2 := ⟨q1378, qs20, q91, q1379, mv_X0_casesOf_ok⟩
set_option maxHeartbeats 4000000 in
theorem ct_X0_casesOf {G : WG} {l : Launch} {sh : SH} (hS : stN sh) {I : II} {x1 : Int32} {x2 : Int32} {Z : ((Nat ⊕ Nat) × II)} (hk : f_X0_casesOf sh x1 x2 I = some Z) : CT G l yX0_casesOf (ws_ yX0_casesOf cX0_casesOf 4 (some (.object "NineDemands$Cases"))) rm_X0_casesOf [.ref (wad G 0), .int x1, .int x2] (sh, I) (ocr G Z.1) (sh, Z.2) := by
  refine CT.ofJ "NineDemands" rfl (by decide) (Nat.le_of_ble_eq_true rfl) ?_
  intro p e s m args below meth c C
  unfold f_X0_casesOf at hk
  refine j_lv (lv' := [some (.ref (wad G 0)), some (.int x1), some (.int x2), none]) rfl ?_
  refine j_aload_n (pc := 0) C dX0_casesOf_0 rfl rfl ?_
  refine j_aload_n (pc := 1) C dX0_casesOf_1 rfl rfl ?_
  refine j_iload_n (pc := 2) C dX0_casesOf_2 rfl rfl ?_
  replace hk := ob_some hk
  obtain ⟨r3, h1, hk⟩ := hk
  refine x_callV (pc := 3) C (ct_X0_isLaw hS h1) mv_X0_isLaw (stN_o0 hS).r rfl rfl q1325 dX0_casesOf_3 rfl rfl (Nat.le_of_ble_eq_true rfl) rfl ?_
  refine j_iconst (pc := 6) (v := nI 1) C dX0_casesOf_6 (by decide) ?_
  replace hk := bd2_some hk
  obtain ⟨u7, I7, h2, hk⟩ := hk
  cases u7 with
  | inr w7 =>
    replace hk := oex_r hk
    obtain rfl := Option.some.inj hk
    exact x_callVT (pc := 7) C (ct_X0_need hS h2) mv_X0_need (stN_o0 hS).r rfl rfl q416 dX0_casesOf_7 rfl rfl (Nat.le_of_ble_eq_true rfl) rfl rfl (Nat.le_of_ble_eq_true rfl) (Nat.le_of_ble_eq_true rfl)
  | inl _w7 =>
    replace hk := oex_l hk
    refine x_callV (pc := 7) C (ct_X0_need hS h2) mv_X0_need (stN_o0 hS).r rfl rfl q416 dX0_casesOf_7 rfl rfl (Nat.le_of_ble_eq_true rfl) rfl ?_
    refine j_aload_n (pc := 10) C dX0_casesOf_10 rfl rfl ?_
    replace hk := orf_some hk
    obtain ⟨t11, et11, hk⟩ := hk
    refine x_getR (pc := 11) C fd_0_1 (fl1 C q373) (stN_o0 hS).r et11 dX0_casesOf_11 ?_
    replace hk := ock_some hk
    obtain ⟨h3, hk⟩ := hk
    replace hk := orf_some hk
    obtain ⟨t14, et14, hk⟩ := hk
    refine x_getR (pc := 14) C fd_2_1 (fl3 C q251) h3 et14 dX0_casesOf_14 ?_
    refine j_iload_n (pc := 17) C dX0_casesOf_17 rfl rfl ?_
    replace hk := ock_some hk
    obtain ⟨h4, hk⟩ := hk
    replace hk := ob_some hk
    obtain ⟨a18, h5, hk⟩ := hk
    refine x_callV (pc := 18) C (ct_J5_get h5) mv_J5_get h4 rfl rfl q1329 dX0_casesOf_18 rfl rfl (Nat.le_of_ble_eq_true rfl) rfl ?_
    replace hk := ockD_some hk
    obtain ⟨ch6, ch6h, h6, hk⟩ := hk
    obtain ⟨cr21, hcr21, hcs21⟩ := castD_NineDemands_Demand ch6h
    refine x_cast (pc := 21) C h6 hcr21 q640 hcs21 dX0_casesOf_21 ?_
    replace hk := orf_some hk
    obtain ⟨t24, et24, hk⟩ := hk
    refine x_getR (pc := 24) C (fdD_4 ch6h) (fl1 C q580) h6 et24 dX0_casesOf_24 ?_
    refine j_astore_n (pc := 27) C dX0_casesOf_27 rfl (Nat.le_of_ble_eq_true rfl) rfl ?_
    refine j_aload_n (pc := 28) C dX0_casesOf_28 rfl rfl ?_
    refine j_iload_n (pc := 29) C dX0_casesOf_29 rfl rfl ?_
    refine j_iconst (pc := 30) (v := nI 0) C dX0_casesOf_30 (by decide) ?_
    refine j_aload_n (pc := 31) C dX0_casesOf_31 rfl rfl ?_
    replace hk := ock_some hk
    obtain ⟨h7, hk⟩ := hk
    refine x_getI (pc := 32) C fd_23_4 (fl3 C q1142) h7 dX0_casesOf_32 ?_
    refine j_iconst (pc := 35) (v := nI 1) C dX0_casesOf_35 (by decide) ?_
    refine j_isub (pc := 36) C dX0_casesOf_36 ?_
    replace hk := ob_some hk
    obtain ⟨r37, h8, hk⟩ := hk
    refine j_callS (pc := 37) C (ct_X0_in h8) ms_X0_in q413 dX0_casesOf_37 rfl rfl (Nat.le_of_ble_eq_true rfl) rfl ?_
    refine j_iconst (pc := 40) (v := nI 1) C dX0_casesOf_40 (by decide) ?_
    replace hk := bd2_some hk
    obtain ⟨u41, I41, h9, hk⟩ := hk
    cases u41 with
    | inr w41 =>
      replace hk := oex_r hk
      obtain rfl := Option.some.inj hk
      exact x_callVT (pc := 41) C (ct_X0_need hS h9) mv_X0_need (stN_o0 hS).r rfl rfl q416 dX0_casesOf_41 rfl rfl (Nat.le_of_ble_eq_true rfl) rfl rfl (Nat.le_of_ble_eq_true rfl) (Nat.le_of_ble_eq_true rfl)
    | inl _w41 =>
      replace hk := oex_l hk
      refine x_callV (pc := 41) C (ct_X0_need hS h9) mv_X0_need (stN_o0 hS).r rfl rfl q416 dX0_casesOf_41 rfl rfl (Nat.le_of_ble_eq_true rfl) rfl ?_
      refine j_aload_n (pc := 44) C dX0_casesOf_44 rfl rfl ?_
      obtain rfl := Option.some.inj hk
      exact x_aret (pc := 45) C dX0_casesOf_45 (Nat.le_of_ble_eq_true rfl) (Nat.le_of_ble_eq_true rfl) rfl
def f_X0_so_J85 (sh : SH) (s0 : Nat) (I : II) : Option (Int32 × II) := bd2 (f_X0_finds sh s0 I) fun r90 I90 => some (r90, I90)
def f_X0_so_J73 (sh : SH) (s0 : Nat) (s1 : Int32) (s2 : Int32) (s3 : Int32) (I : II) : Option (Int32 × II) := (v_X10_goes sh s0 s1 s2 s3 I).bind fun r73 => if r73 = 0 then some ((nI 0), I) else some ((nI 1), I)
def f_X0_so_J38 (sh : SH) (x1 : Int32) (x2 : Int32) (x3 : Int32) (x4 : Int32) (x5 : Nat) (s1 : Int32) (I : II) : Option (Int32 × II) := bd2 (f_X0_need sh s1 (nI 1) I) fun u39 I39 => oex u39 (fun _w39 => orf (sh.2.2 0 1) fun t43 => ock sh t43 2 <| orf (sh.2.2 t43 1) fun t46 => ock sh t46 3 <| (f_J5_get sh t46 x1 I39).bind fun a50 => ockD sh a50 <| ock sh x5 23 <| (f_X23_isPair sh x5 x2 I39).bind fun r61 => if r61 = 0 then f_X0_so_J73 sh a50 x2 x3 (nI 1) I39 else f_X0_so_J73 sh a50 x2 x3 x4 I39) (fun w39 => ock sh w39 1 <| f_X0_so_J85 sh w39 I39)
def f_X0_so_J37 (sh : SH) (x1 : Int32) (x2 : Int32) (x3 : Int32) (x4 : Int32) (x5 : Nat) (I : II) : Option (Int32 × II) := f_X0_so_J38 sh x1 x2 x3 x4 x5 (nI 0) I
def f_X0_so_J33 (sh : SH) (x1 : Int32) (x2 : Int32) (x3 : Int32) (x4 : Int32) (x5 : Nat) (I : II) : Option (Int32 × II) := f_X0_so_J38 sh x1 x2 x3 x4 x5 (nI 1) I
def f_X0_so (sh : SH) (x1 : Int32) (x2 : Int32) (x3 : Int32) (x4 : Int32) (I : II) : Option (Int32 × II) := bd2 (f_X0_casesOf sh x1 x2 I) fun u3 I3 => oex u3 (fun a3 => (f_X0_isChoice x3).bind fun r10 => if r10 = 0 then f_X0_so_J37 sh x1 x2 x3 x4 a3 I3 else ock sh a3 23 <| (f_X23_isPair sh a3 x2 I3).bind fun r19 => if r19 = 0 then f_X0_so_J33 sh x1 x2 x3 x4 a3 I3 else (f_X0_isChoice x4).bind fun r27 => if r27 = 0 then f_X0_so_J37 sh x1 x2 x3 x4 a3 I3 else f_X0_so_J33 sh x1 x2 x3 x4 a3 I3) (fun w3 => ock sh w3 1 <| f_X0_so_J85 sh w3 I3)
abbrev rm_X0_so : Room := { frames := 4, cells := 0, slots := 0, locals := 87 }
theorem mv_X0_so_ok : callOK yX0_so 4 := by decide +kernel
theorem mw_X0_so : MW yX0_so cX0_so 6 (some .int) [(0, 84, 85, 8)] 4 := ⟨q1385, q1386, q91, q1387, mv_X0_so_ok⟩
set_option maxHeartbeats 4000000 in
theorem ct_X0_so {G : WG} {l : Launch} {sh : SH} (hS : stN sh) {I : II} {x1 : Int32} {x2 : Int32} {x3 : Int32} {x4 : Int32} {Z : (Int32 × II)} (hk : f_X0_so sh x1 x2 x3 x4 I = some Z) : CT G l yX0_so (wsW_ yX0_so cX0_so 6 (some .int) [(0, 84, 85, 8)]) rm_X0_so [.ref (wad G 0), .int x1, .int x2, .int x3, .int x4] (sh, I) (.returned (some (.int Z.1))) (sh, Z.2) := by
  refine CT.ofJW "NineDemands" rfl (by decide) (Nat.le_of_ble_eq_true rfl) ?_
  intro p e s m args below meth c C
  unfold f_X0_so at hk
  refine j_lv (lv' := [some (.ref (wad G 0)), some (.int x1), some (.int x2), some (.int x3), some (.int x4), none]) rfl ?_
  refine j_aload_n (pc := 0) C dX0_so_0 rfl rfl ?_
  refine j_iload_n (pc := 1) C dX0_so_1 rfl rfl ?_
  refine j_iload_n (pc := 2) C dX0_so_2 rfl rfl ?_
  have Jn85 : ∀ (s0 : Nat) (I : II), f_X0_so_J85 sh s0 I = some Z → J G p l e rm_X0_so s m args below meth c 6 (.returned (some (.int Z.1))) (sh, Z.2) (rm_X0_so).cells (rm_X0_so).slots (sh, I) 0 0 85 [some (.ref (wad G 0)), none, none, none, none, none] [.ref (wad G s0)] := by
    intro s0 I hk
    unfold f_X0_so_J85 at hk
    refine j_astore (pc := 85) C dX0_so_85 (Nat.le_of_ble_eq_true rfl) rfl ?_
    refine j_aload_n (pc := 87) C dX0_so_87 rfl rfl ?_
    refine j_aload (pc := 88) C dX0_so_88 rfl ?_
    replace hk := bd2_some hk
    obtain ⟨r90, I90, h1, hk⟩ := hk
    refine x_callV (pc := 90) C (ct_X0_finds hS h1) mv_X0_finds (stN_o0 hS).r rfl rfl q433 dX0_so_90 rfl rfl (Nat.le_of_ble_eq_true rfl) rfl ?_
    obtain rfl := Option.some.inj hk
    exact j_iret (pc := 93) C dX0_so_93 (Nat.le_of_ble_eq_true rfl) (Nat.le_of_ble_eq_true rfl)
  replace hk := bd2_some hk
  obtain ⟨u3, I3, h2, hk⟩ := hk
  cases u3 with
  | inr w3 =>
    replace hk := oex_r hk
    replace hk := ock_some hk
    obtain ⟨h4, hk⟩ := hk
    refine x_callVC [] [] (0, 84, 85, 8) (pc := 3) C (ct_X0_casesOf hS h2) mv_X0_casesOf (stN_o0 hS).r rfl rfl q1376 dX0_so_3 rfl rfl (Nat.le_of_ble_eq_true rfl) rfl rfl h4 rfl (by decide) (by decide) q146 (fun z hz => by cases hz) ?_
    exact j_mask [true, false, false, false, false, false] (Jn85 _ _ hk)
  | inl a3 =>
    replace hk := oex_l hk
    refine x_callV (pc := 3) C (ct_X0_casesOf hS h2) mv_X0_casesOf (stN_o0 hS).r rfl rfl q1376 dX0_so_3 rfl rfl (Nat.le_of_ble_eq_true rfl) rfl ?_
    refine j_astore (pc := 6) C dX0_so_6 (Nat.le_of_ble_eq_true rfl) rfl ?_
    refine j_aload_n (pc := 8) C dX0_so_8 rfl rfl ?_
    refine j_iload_n (pc := 9) C dX0_so_9 rfl rfl ?_
    replace hk := ob_some hk
    obtain ⟨r10, h5, hk⟩ := hk
    refine j_callS (pc := 10) C (ct_X0_isChoice h5) ms_X0_isChoice q449 dX0_so_10 rfl rfl (Nat.le_of_ble_eq_true rfl) rfl ?_
    have Jn38 : ∀ (x1 : Int32) (x2 : Int32) (x3 : Int32) (x4 : Int32) (x5 : Nat) (s1 : Int32) (I : II), f_X0_so_J38 sh x1 x2 x3 x4 x5 s1 I = some Z → J G p l e rm_X0_so s m args below meth c 6 (.returned (some (.int Z.1))) (sh, Z.2) (rm_X0_so).cells (rm_X0_so).slots (sh, I) 0 0 38 [some (.ref (wad G 0)), some (.int x1), some (.int x2), some (.int x3), some (.int x4), some (.ref (wad G x5))] [.int s1, .ref (wad G 0)] := by
      intro x1 x2 x3 x4 x5 s1 I hk
      unfold f_X0_so_J38 at hk
      refine j_iconst (pc := 38) (v := nI 1) C dX0_so_38 (by decide) ?_
      replace hk := bd2_some hk
      obtain ⟨u39, I39, h6, hk⟩ := hk
      cases u39 with
      | inr w39 =>
        replace hk := oex_r hk
        replace hk := ock_some hk
        obtain ⟨h8, hk⟩ := hk
        refine x_callVC [] [] (0, 84, 85, 8) (pc := 39) C (ct_X0_need hS h6) mv_X0_need (stN_o0 hS).r rfl rfl q416 dX0_so_39 rfl rfl (Nat.le_of_ble_eq_true rfl) rfl rfl h8 rfl (by decide) (by decide) q146 (fun z hz => by cases hz) ?_
        exact j_mask [true, false, false, false, false, false] (Jn85 _ _ hk)
      | inl _w39 =>
        replace hk := oex_l hk
        refine x_callV (pc := 39) C (ct_X0_need hS h6) mv_X0_need (stN_o0 hS).r rfl rfl q416 dX0_so_39 rfl rfl (Nat.le_of_ble_eq_true rfl) rfl ?_
        refine j_aload_n (pc := 42) C dX0_so_42 rfl rfl ?_
        replace hk := orf_some hk
        obtain ⟨t43, et43, hk⟩ := hk
        refine x_getR (pc := 43) C fd_0_1 (fl1 C q373) (stN_o0 hS).r et43 dX0_so_43 ?_
        replace hk := ock_some hk
        obtain ⟨h9, hk⟩ := hk
        replace hk := orf_some hk
        obtain ⟨t46, et46, hk⟩ := hk
        refine x_getR (pc := 46) C fd_2_1 (fl3 C q251) h9 et46 dX0_so_46 ?_
        refine j_iload_n (pc := 49) C dX0_so_49 rfl rfl ?_
        replace hk := ock_some hk
        obtain ⟨h10, hk⟩ := hk
        replace hk := ob_some hk
        obtain ⟨a50, h11, hk⟩ := hk
        refine x_callV (pc := 50) C (ct_J5_get h11) mv_J5_get h10 rfl rfl q1329 dX0_so_50 rfl rfl (Nat.le_of_ble_eq_true rfl) rfl ?_
        replace hk := ockD_some hk
        obtain ⟨ch12, ch12h, h12, hk⟩ := hk
        obtain ⟨cr53, hcr53, hcs53⟩ := castD_NineDemands_Demand ch12h
        refine x_cast (pc := 53) C h12 hcr53 q640 hcs53 dX0_so_53 ?_
        refine j_iload_n (pc := 56) C dX0_so_56 rfl rfl ?_
        refine j_iload_n (pc := 57) C dX0_so_57 rfl rfl ?_
        refine j_aload (pc := 58) C dX0_so_58 rfl ?_
        refine j_iload_n (pc := 60) C dX0_so_60 rfl rfl ?_
        replace hk := ock_some hk
        obtain ⟨h13, hk⟩ := hk
        replace hk := ob_some hk
        obtain ⟨r61, h14, hk⟩ := hk
        refine x_callV (pc := 61) C (ct_X23_isPair hS h14) mv_X23_isPair h13 rfl rfl q1380 dX0_so_61 rfl rfl (Nat.le_of_ble_eq_true rfl) rfl ?_
        have Jn73 : ∀ (s0 : Nat) (s1 : Int32) (s2 : Int32) (s3 : Int32) (I : II), f_X0_so_J73 sh s0 s1 s2 s3 I = some Z → J G p l e rm_X0_so s m args below meth c 6 (.returned (some (.int Z.1))) (sh, Z.2) (rm_X0_so).cells (rm_X0_so).slots (sh, I) 0 0 73 [none, none, none, none, none, none] [.int s3, .int s2, .int s1, .ref (wad G s0)] := by
          intro s0 s1 s2 s3 I hk
          unfold f_X0_so_J73 at hk
          replace hk := ob_some hk
          obtain ⟨r73, h15, hk⟩ := hk
          refine x_callX (pc := 73) C (vc_X10_goes hS h15) q1388 dX0_so_73 rfl rfl (Nat.le_of_ble_eq_true rfl) (Nat.le_of_ble_eq_true rfl) (Nat.le_of_ble_eq_true rfl) (Nat.le_of_ble_eq_true rfl) (Nat.le_of_ble_eq_true rfl) ?_
          refine j_if_eq (pc := 76) 83 C dX0_so_76 (by decide) (fun h16 => ?_) (fun h16 => ?_)
          · replace hk := it_t h16 hk
            refine j_iconst (pc := 83) (v := nI 0) C dX0_so_83 (by decide) ?_
            obtain rfl := Option.some.inj hk
            exact j_iret (pc := 84) C dX0_so_84 (Nat.le_of_ble_eq_true rfl) (Nat.le_of_ble_eq_true rfl)
          · replace hk := it_f h16 hk
            refine j_iconst (pc := 79) (v := nI 1) C dX0_so_79 (by decide) ?_
            refine j_goto (pc := 80) 84 C dX0_so_80 (by decide) ?_
            obtain rfl := Option.some.inj hk
            exact j_iret (pc := 84) C dX0_so_84 (Nat.le_of_ble_eq_true rfl) (Nat.le_of_ble_eq_true rfl)
        refine j_if_eq (pc := 64) 72 C dX0_so_64 (by decide) (fun h17 => ?_) (fun h17 => ?_)
        · replace hk := it_t h17 hk
          refine j_iconst (pc := 72) (v := nI 1) C dX0_so_72 (by decide) ?_
          exact j_mask [false, false, false, false, false, false] (Jn73 _ _ _ _ _ hk)
        · replace hk := it_f h17 hk
          refine j_iload (pc := 67) C dX0_so_67 rfl ?_
          refine j_goto (pc := 69) 73 C dX0_so_69 (by decide) ?_
          exact j_mask [false, false, false, false, false, false] (Jn73 _ _ _ _ _ hk)
    have Jn37 : ∀ (x1 : Int32) (x2 : Int32) (x3 : Int32) (x4 : Int32) (x5 : Nat) (I : II), f_X0_so_J37 sh x1 x2 x3 x4 x5 I = some Z → J G p l e rm_X0_so s m args below meth c 6 (.returned (some (.int Z.1))) (sh, Z.2) (rm_X0_so).cells (rm_X0_so).slots (sh, I) 0 0 37 [some (.ref (wad G 0)), some (.int x1), some (.int x2), some (.int x3), some (.int x4), some (.ref (wad G x5))] [.ref (wad G 0)] := by
      intro x1 x2 x3 x4 x5 I hk
      unfold f_X0_so_J37 at hk
      refine j_iconst (pc := 37) (v := nI 0) C dX0_so_37 (by decide) ?_
      exact j_mask [true, true, true, true, true, true] (Jn38 _ _ _ _ _ _ _ hk)
    refine j_if_eq (pc := 13) 37 C dX0_so_13 (by decide) (fun h18 => ?_) (fun h18 => ?_)
    · replace hk := it_t h18 hk
      exact j_mask [true, true, true, true, true, true] (Jn37 _ _ _ _ _ _ hk)
    · replace hk := it_f h18 hk
      refine j_aload (pc := 16) C dX0_so_16 rfl ?_
      refine j_iload_n (pc := 18) C dX0_so_18 rfl rfl ?_
      replace hk := ock_some hk
      obtain ⟨h19, hk⟩ := hk
      replace hk := ob_some hk
      obtain ⟨r19, h20, hk⟩ := hk
      refine x_callV (pc := 19) C (ct_X23_isPair hS h20) mv_X23_isPair h19 rfl rfl q1380 dX0_so_19 rfl rfl (Nat.le_of_ble_eq_true rfl) rfl ?_
      have Jn33 : ∀ (x1 : Int32) (x2 : Int32) (x3 : Int32) (x4 : Int32) (x5 : Nat) (I : II), f_X0_so_J33 sh x1 x2 x3 x4 x5 I = some Z → J G p l e rm_X0_so s m args below meth c 6 (.returned (some (.int Z.1))) (sh, Z.2) (rm_X0_so).cells (rm_X0_so).slots (sh, I) 0 0 33 [some (.ref (wad G 0)), some (.int x1), some (.int x2), some (.int x3), some (.int x4), some (.ref (wad G x5))] [.ref (wad G 0)] := by
        intro x1 x2 x3 x4 x5 I hk
        unfold f_X0_so_J33 at hk
        refine j_iconst (pc := 33) (v := nI 1) C dX0_so_33 (by decide) ?_
        refine j_goto (pc := 34) 38 C dX0_so_34 (by decide) ?_
        exact j_mask [true, true, true, true, true, true] (Jn38 _ _ _ _ _ _ _ hk)
      refine j_if_eq (pc := 22) 33 C dX0_so_22 (by decide) (fun h21 => ?_) (fun h21 => ?_)
      · replace hk := it_t h21 hk
        exact j_mask [true, true, true, true, true, true] (Jn33 _ _ _ _ _ _ hk)
      · replace hk := it_f h21 hk
        refine j_iload (pc := 25) C dX0_so_25 rfl ?_
        replace hk := ob_some hk
        obtain ⟨r27, h22, hk⟩ := hk
        refine j_callS (pc := 27) C (ct_X0_isChoice h22) ms_X0_isChoice q449 dX0_so_27 rfl rfl (Nat.le_of_ble_eq_true rfl) rfl ?_
        refine j_if_eq (pc := 30) 37 C dX0_so_30 (by decide) (fun h23 => ?_) (fun h23 => ?_)
        · replace hk := it_t h23 hk
          exact j_mask [true, true, true, true, true, true] (Jn37 _ _ _ _ _ _ hk)
        · replace hk := it_f h23 hk
          exact j_mask [true, true, true, true, true, true] (Jn33 _ _ _ _ _ _ hk)
def f_X0_part_J64 (sh : SH) (s0 : Nat) (I : II) : Option (Int32 × II) := bd2 (f_X0_finds sh s0 I) fun r69 I69 => some (r69, I69)
def f_X0_part_J38 (sh : SH) (x2 : Int32) (x3 : Int32) (x4 : Nat) (s1 : Int32) (I : II) : Option (Int32 × II) := bd2 (f_X0_need sh s1 (nI 2) I) fun u39 I39 => oex u39 (fun _w39 => if x3 = 0 then ock sh x4 23 <| orf (sh.2.2 x4 0) fun t48 => oarw sh t48 100 fun nh17 => oix x2 nh17 fun i52 => some ((I39 t48 i52), I39) else ock sh x4 23 <| orf (sh.2.2 x4 1) fun t58 => oarw sh t58 100 fun nh14 => oix x2 nh14 fun i62 => some ((I39 t58 i62), I39)) (fun w39 => ock sh w39 1 <| f_X0_part_J64 sh w39 I39)
def f_X0_part_J33 (sh : SH) (x2 : Int32) (x3 : Int32) (x4 : Nat) (I : II) : Option (Int32 × II) := f_X0_part_J38 sh x2 x3 x4 (nI 1) I
def f_X0_part (sh : SH) (x1 : Int32) (x2 : Int32) (x3 : Int32) (I : II) : Option (Int32 × II) := bd2 (f_X0_casesOf sh x1 x2 I) fun u3 I3 => oex u3 (fun a3 => (f_X0_in x3 (nI 0) (nI 1)).bind fun r12 => bd2 (f_X0_need sh r12 (nI 1) I3) fun u16 I16 => oex u16 (fun _w16 => if x3 = 0 then f_X0_part_J33 sh x2 x3 a3 I16 else ock sh a3 23 <| (f_X23_isPair sh a3 x2 I16).bind fun r27 => if r27 = 0 then f_X0_part_J38 sh x2 x3 a3 (nI 0) I16 else f_X0_part_J33 sh x2 x3 a3 I16) (fun w16 => ock sh w16 1 <| f_X0_part_J64 sh w16 I16)) (fun w3 => ock sh w3 1 <| f_X0_part_J64 sh w3 I3)
abbrev rm_X0_part : Room := { frames := 4, cells := 0, slots := 0, locals := 87 }
theorem mv_X0_part_ok : callOK yX0_part 3 := by decide +kernel
theorem mw_X0_part : MW yX0_part cX0_part 5 (some .int) [(0, 63, 64, 8)] 3 := ⟨q1373, q1374, q91, q1375, mv_X0_part_ok⟩
set_option maxHeartbeats 4000000 in
theorem ct_X0_part {G : WG} {l : Launch} {sh : SH} (hS : stN sh) {I : II} {x1 : Int32} {x2 : Int32} {x3 : Int32} {Z : (Int32 × II)} (hk : f_X0_part sh x1 x2 x3 I = some Z) : CT G l yX0_part (wsW_ yX0_part cX0_part 5 (some .int) [(0, 63, 64, 8)]) rm_X0_part [.ref (wad G 0), .int x1, .int x2, .int x3] (sh, I) (.returned (some (.int Z.1))) (sh, Z.2) := by
  refine CT.ofJW "NineDemands" rfl (by decide) (Nat.le_of_ble_eq_true rfl) ?_
  intro p e s m args below meth c C
  unfold f_X0_part at hk
  refine j_lv (lv' := [some (.ref (wad G 0)), some (.int x1), some (.int x2), some (.int x3), none]) rfl ?_
  refine j_aload_n (pc := 0) C dX0_part_0 rfl rfl ?_
  refine j_iload_n (pc := 1) C dX0_part_1 rfl rfl ?_
  refine j_iload_n (pc := 2) C dX0_part_2 rfl rfl ?_
  have Jn64 : ∀ (s0 : Nat) (I : II), f_X0_part_J64 sh s0 I = some Z → J G p l e rm_X0_part s m args below meth c 5 (.returned (some (.int Z.1))) (sh, Z.2) (rm_X0_part).cells (rm_X0_part).slots (sh, I) 0 0 64 [some (.ref (wad G 0)), none, none, none, none] [.ref (wad G s0)] := by
    intro s0 I hk
    unfold f_X0_part_J64 at hk
    refine j_astore (pc := 64) C dX0_part_64 (Nat.le_of_ble_eq_true rfl) rfl ?_
    refine j_aload_n (pc := 66) C dX0_part_66 rfl rfl ?_
    refine j_aload (pc := 67) C dX0_part_67 rfl ?_
    replace hk := bd2_some hk
    obtain ⟨r69, I69, h1, hk⟩ := hk
    refine x_callV (pc := 69) C (ct_X0_finds hS h1) mv_X0_finds (stN_o0 hS).r rfl rfl q433 dX0_part_69 rfl rfl (Nat.le_of_ble_eq_true rfl) rfl ?_
    obtain rfl := Option.some.inj hk
    exact j_iret (pc := 72) C dX0_part_72 (Nat.le_of_ble_eq_true rfl) (Nat.le_of_ble_eq_true rfl)
  replace hk := bd2_some hk
  obtain ⟨u3, I3, h2, hk⟩ := hk
  cases u3 with
  | inr w3 =>
    replace hk := oex_r hk
    replace hk := ock_some hk
    obtain ⟨h4, hk⟩ := hk
    refine x_callVC [] [] (0, 63, 64, 8) (pc := 3) C (ct_X0_casesOf hS h2) mv_X0_casesOf (stN_o0 hS).r rfl rfl q1376 dX0_part_3 rfl rfl (Nat.le_of_ble_eq_true rfl) rfl rfl h4 rfl (by decide) (by decide) q146 (fun z hz => by cases hz) ?_
    exact j_mask [true, false, false, false, false] (Jn64 _ _ hk)
  | inl a3 =>
    replace hk := oex_l hk
    refine x_callV (pc := 3) C (ct_X0_casesOf hS h2) mv_X0_casesOf (stN_o0 hS).r rfl rfl q1376 dX0_part_3 rfl rfl (Nat.le_of_ble_eq_true rfl) rfl ?_
    refine j_astore (pc := 6) C dX0_part_6 (Nat.le_of_ble_eq_true rfl) rfl ?_
    refine j_aload_n (pc := 8) C dX0_part_8 rfl rfl ?_
    refine j_iload_n (pc := 9) C dX0_part_9 rfl rfl ?_
    refine j_iconst (pc := 10) (v := nI 0) C dX0_part_10 (by decide) ?_
    refine j_iconst (pc := 11) (v := nI 1) C dX0_part_11 (by decide) ?_
    replace hk := ob_some hk
    obtain ⟨r12, h5, hk⟩ := hk
    refine j_callS (pc := 12) C (ct_X0_in h5) ms_X0_in q413 dX0_part_12 rfl rfl (Nat.le_of_ble_eq_true rfl) rfl ?_
    refine j_iconst (pc := 15) (v := nI 1) C dX0_part_15 (by decide) ?_
    replace hk := bd2_some hk
    obtain ⟨u16, I16, h6, hk⟩ := hk
    cases u16 with
    | inr w16 =>
      replace hk := oex_r hk
      replace hk := ock_some hk
      obtain ⟨h8, hk⟩ := hk
      refine x_callVC [] [] (0, 63, 64, 8) (pc := 16) C (ct_X0_need hS h6) mv_X0_need (stN_o0 hS).r rfl rfl q416 dX0_part_16 rfl rfl (Nat.le_of_ble_eq_true rfl) rfl rfl h8 rfl (by decide) (by decide) q146 (fun z hz => by cases hz) ?_
      exact j_mask [true, false, false, false, false] (Jn64 _ _ hk)
    | inl _w16 =>
      replace hk := oex_l hk
      refine x_callV (pc := 16) C (ct_X0_need hS h6) mv_X0_need (stN_o0 hS).r rfl rfl q416 dX0_part_16 rfl rfl (Nat.le_of_ble_eq_true rfl) rfl ?_
      refine j_aload_n (pc := 19) C dX0_part_19 rfl rfl ?_
      refine j_iload_n (pc := 20) C dX0_part_20 rfl rfl ?_
      have Jn38 : ∀ (x2 : Int32) (x3 : Int32) (x4 : Nat) (s1 : Int32) (I : II), f_X0_part_J38 sh x2 x3 x4 s1 I = some Z → J G p l e rm_X0_part s m args below meth c 5 (.returned (some (.int Z.1))) (sh, Z.2) (rm_X0_part).cells (rm_X0_part).slots (sh, I) 0 0 38 [some (.ref (wad G 0)), none, some (.int x2), some (.int x3), some (.ref (wad G x4))] [.int s1, .ref (wad G 0)] := by
        intro x2 x3 x4 s1 I hk
        unfold f_X0_part_J38 at hk
        refine j_iconst (pc := 38) (v := nI 2) C dX0_part_38 (by decide) ?_
        replace hk := bd2_some hk
        obtain ⟨u39, I39, h9, hk⟩ := hk
        cases u39 with
        | inr w39 =>
          replace hk := oex_r hk
          replace hk := ock_some hk
          obtain ⟨h11, hk⟩ := hk
          refine x_callVC [] [] (0, 63, 64, 8) (pc := 39) C (ct_X0_need hS h9) mv_X0_need (stN_o0 hS).r rfl rfl q416 dX0_part_39 rfl rfl (Nat.le_of_ble_eq_true rfl) rfl rfl h11 rfl (by decide) (by decide) q146 (fun z hz => by cases hz) ?_
          exact j_mask [true, false, false, false, false] (Jn64 _ _ hk)
        | inl _w39 =>
          replace hk := oex_l hk
          refine x_callV (pc := 39) C (ct_X0_need hS h9) mv_X0_need (stN_o0 hS).r rfl rfl q416 dX0_part_39 rfl rfl (Nat.le_of_ble_eq_true rfl) rfl ?_
          refine j_iload_n (pc := 42) C dX0_part_42 rfl rfl ?_
          refine j_if_ne (pc := 43) 56 C dX0_part_43 (by decide) (fun h12 => ?_) (fun h12 => ?_)
          · replace hk := it_f h12 hk
            refine j_aload (pc := 56) C dX0_part_56 rfl ?_
            replace hk := ock_some hk
            obtain ⟨h13, hk⟩ := hk
            replace hk := orf_some hk
            obtain ⟨t58, et58, hk⟩ := hk
            refine x_getR (pc := 58) C fd_23_1 (fl3 C q1131) h13 et58 dX0_part_58 ?_
            refine j_iload_n (pc := 61) C dX0_part_61 rfl rfl ?_
            replace hk := oarw_some hk
            obtain ⟨nh14, h14, hk⟩ := hk
            replace hk := oix_ex hk
            obtain ⟨i62, e62, h15, hk⟩ := hk
            refine j_iald (pc := 62) C h14 h15 e62 dX0_part_62 ?_
            obtain rfl := Option.some.inj hk
            exact j_iret (pc := 63) C dX0_part_63 (Nat.le_of_ble_eq_true rfl) (Nat.le_of_ble_eq_true rfl)
          · replace hk := it_t h12 hk
            refine j_aload (pc := 46) C dX0_part_46 rfl ?_
            replace hk := ock_some hk
            obtain ⟨h16, hk⟩ := hk
            replace hk := orf_some hk
            obtain ⟨t48, et48, hk⟩ := hk
            refine x_getR (pc := 48) C fd_23_0 (fl3 C q1125) h16 et48 dX0_part_48 ?_
            refine j_iload_n (pc := 51) C dX0_part_51 rfl rfl ?_
            replace hk := oarw_some hk
            obtain ⟨nh17, h17, hk⟩ := hk
            replace hk := oix_ex hk
            obtain ⟨i52, e52, h18, hk⟩ := hk
            refine j_iald (pc := 52) C h17 h18 e52 dX0_part_52 ?_
            refine j_goto (pc := 53) 63 C dX0_part_53 (by decide) ?_
            obtain rfl := Option.some.inj hk
            exact j_iret (pc := 63) C dX0_part_63 (Nat.le_of_ble_eq_true rfl) (Nat.le_of_ble_eq_true rfl)
      have Jn33 : ∀ (x2 : Int32) (x3 : Int32) (x4 : Nat) (I : II), f_X0_part_J33 sh x2 x3 x4 I = some Z → J G p l e rm_X0_part s m args below meth c 5 (.returned (some (.int Z.1))) (sh, Z.2) (rm_X0_part).cells (rm_X0_part).slots (sh, I) 0 0 33 [some (.ref (wad G 0)), none, some (.int x2), some (.int x3), some (.ref (wad G x4))] [.ref (wad G 0)] := by
        intro x2 x3 x4 I hk
        unfold f_X0_part_J33 at hk
        refine j_iconst (pc := 33) (v := nI 1) C dX0_part_33 (by decide) ?_
        refine j_goto (pc := 34) 38 C dX0_part_34 (by decide) ?_
        exact j_mask [true, false, true, true, true] (Jn38 _ _ _ _ _ hk)
      refine j_if_eq (pc := 21) 33 C dX0_part_21 (by decide) (fun h19 => ?_) (fun h19 => ?_)
      · replace hk := it_t h19 hk
        exact j_mask [true, false, true, true, true] (Jn33 _ _ _ _ hk)
      · replace hk := it_f h19 hk
        refine j_aload (pc := 24) C dX0_part_24 rfl ?_
        refine j_iload_n (pc := 26) C dX0_part_26 rfl rfl ?_
        replace hk := ock_some hk
        obtain ⟨h20, hk⟩ := hk
        replace hk := ob_some hk
        obtain ⟨r27, h21, hk⟩ := hk
        refine x_callV (pc := 27) C (ct_X23_isPair hS h21) mv_X23_isPair h20 rfl rfl q1380 dX0_part_27 rfl rfl (Nat.le_of_ble_eq_true rfl) rfl ?_
        refine j_if_eq (pc := 30) 37 C dX0_part_30 (by decide) (fun h22 => ?_) (fun h22 => ?_)
        · replace hk := it_t h22 hk
          refine j_iconst (pc := 37) (v := nI 0) C dX0_part_37 (by decide) ?_
          exact j_mask [true, false, true, true, true] (Jn38 _ _ _ _ _ hk)
        · replace hk := it_f h22 hk
          exact j_mask [true, false, true, true, true] (Jn33 _ _ _ _ hk)
def f_X10_isOf (sh : SH) (x0 : Nat) (x1 : Int32) (I : II) : Option Int32 := if x1 = 0 then some (nI 1) else some (nI 0)
abbrev rm_X10_isOf : Room := { frames := 0, cells := 0, slots := 0, locals := 0 }
theorem mv_X10_isOf_ok : callOK yX10_isOf 1 := by decide +kernel
theorem mv_X10_isOf : MV yX10_isOf cX10_isOf 2 (some .boolean) 1 := ⟨q1348, q1349, q108, q1371, mv_X10_isOf_ok⟩
set_option maxHeartbeats 4000000 in
theorem ct_X10_isOf {G : WG} {l : Launch} {sh : SH} (hS : stN sh) {I : II} {x0 : Nat} {x1 : Int32} {Z : Int32} (hk : f_X10_isOf sh x0 x1 I = some Z) : CT G l yX10_isOf (ws_ yX10_isOf cX10_isOf 2 (some .boolean)) rm_X10_isOf [.ref (wad G x0), .int x1] (sh, I) (.returned (some (.int Z))) (sh, I) := by
  refine CT.ofJ "NineDemands$Demand" rfl (by decide) (Nat.le_of_ble_eq_true rfl) ?_
  intro p e s m args below meth c C
  unfold f_X10_isOf at hk
  refine j_lv (lv' := [some (.ref (wad G x0)), some (.int x1)]) rfl ?_
  refine j_iload_n (pc := 0) C dX10_isOf_0 rfl rfl ?_
  refine j_if_ne (pc := 1) 8 C dX10_isOf_1 (by decide) (fun h1 => ?_) (fun h1 => ?_)
  · replace hk := it_f h1 hk
    refine j_iconst (pc := 8) (v := nI 0) C dX10_isOf_8 (by decide) ?_
    obtain rfl := Option.some.inj hk
    exact j_zret (pc := 9) C dX10_isOf_9 (Nat.le_of_ble_eq_true rfl) (Nat.le_of_ble_eq_true rfl) (isB.nar (v := (nI 0)) (by unfold isB; decide))
  · replace hk := it_t h1 hk
    refine j_iconst (pc := 4) (v := nI 1) C dX10_isOf_4 (by decide) ?_
    refine j_goto (pc := 5) 9 C dX10_isOf_5 (by decide) ?_
    obtain rfl := Option.some.inj hk
    exact j_zret (pc := 9) C dX10_isOf_9 (Nat.le_of_ble_eq_true rfl) (Nat.le_of_ble_eq_true rfl) (isB.nar (v := (nI 1)) (by unfold isB; decide))
def f_X11_isOf (sh : SH) (x0 : Nat) (x1 : Int32) (I : II) : Option Int32 := if x1 = (nI 1) then some (nI 1) else ockD sh x0 <| (f_X10_isOf sh x0 x1 I).bind fun r7 => if r7 = 0 then some (nI 0) else some (nI 1)
abbrev rm_X11_isOf : Room := { frames := 1, cells := 0, slots := 0, locals := 21 }
theorem mv_X11_isOf_ok : callOK yX11_isOf 1 := by decide +kernel
set_option maxHeartbeats 4000000 in
theorem ct_X11_isOf {G : WG} {l : Launch} {sh : SH} (hS : stN sh) {I : II} {x0 : Nat} {x1 : Int32} {Z : Int32} (hk : f_X11_isOf sh x0 x1 I = some Z) : CT G l yX11_isOf (ws_ yX11_isOf cX11_isOf 2 (some .boolean)) rm_X11_isOf [.ref (wad G x0), .int x1] (sh, I) (.returned (some (.int Z))) (sh, I) := by
  refine CT.ofJ "NineDemands$Moved" rfl (by decide) (Nat.le_of_ble_eq_true rfl) ?_
  intro p e s m args below meth c C
  unfold f_X11_isOf at hk
  refine j_lv (lv' := [some (.ref (wad G x0)), some (.int x1)]) rfl ?_
  refine j_iload_n (pc := 0) C dX11_isOf_0 rfl rfl ?_
  refine j_iconst (pc := 1) (v := nI 1) C dX11_isOf_1 (by decide) ?_
  refine j_icmp_eq (pc := 2) 13 C dX11_isOf_2 (by decide) (fun h1 => ?_) (fun h1 => ?_)
  · replace hk := it_t h1 hk
    refine j_iconst (pc := 13) (v := nI 1) C dX11_isOf_13 (by decide) ?_
    refine j_goto (pc := 14) 18 C dX11_isOf_14 (by decide) ?_
    obtain rfl := Option.some.inj hk
    exact j_zret (pc := 18) C dX11_isOf_18 (Nat.le_of_ble_eq_true rfl) (Nat.le_of_ble_eq_true rfl) (isB.nar (v := (nI 1)) (by unfold isB; decide))
  · replace hk := it_f h1 hk
    refine j_aload_n (pc := 5) C dX11_isOf_5 rfl rfl ?_
    refine j_iload_n (pc := 6) C dX11_isOf_6 rfl rfl ?_
    replace hk := ockD_some hk
    obtain ⟨ch2, ch2h, h2, hk⟩ := hk
    replace hk := ob_some hk
    obtain ⟨r7, h3, hk⟩ := hk
    obtain ⟨cr7, hcr7⟩ := famclD ch2h
    refine x_callSU (pc := 7) C (ct_X10_isOf hS h3) h2 hcr7 q1357 q1350 q591 q1348 q108 q1371 (by decide) (mv_X10_isOf_ok) dX11_isOf_7 rfl rfl (Nat.le_of_ble_eq_true rfl) rfl ?_
    refine j_if_eq (pc := 10) 17 C dX11_isOf_10 (by decide) (fun h4 => ?_) (fun h4 => ?_)
    · replace hk := it_t h4 hk
      refine j_iconst (pc := 17) (v := nI 0) C dX11_isOf_17 (by decide) ?_
      obtain rfl := Option.some.inj hk
      exact j_zret (pc := 18) C dX11_isOf_18 (Nat.le_of_ble_eq_true rfl) (Nat.le_of_ble_eq_true rfl) (isB.nar (v := (nI 0)) (by unfold isB; decide))
    · replace hk := it_f h4 hk
      refine j_iconst (pc := 13) (v := nI 1) C dX11_isOf_13 (by decide) ?_
      refine j_goto (pc := 14) 18 C dX11_isOf_14 (by decide) ?_
      obtain rfl := Option.some.inj hk
      exact j_zret (pc := 18) C dX11_isOf_18 (Nat.le_of_ble_eq_true rfl) (Nat.le_of_ble_eq_true rfl) (isB.nar (v := (nI 1)) (by unfold isB; decide))
def f_X12_isOf (sh : SH) (x0 : Nat) (x1 : Int32) (I : II) : Option Int32 := if x1 = (nI 2) then some (nI 1) else ockD sh x0 <| (f_X11_isOf sh x0 x1 I).bind fun r7 => if r7 = 0 then some (nI 0) else some (nI 1)
abbrev rm_X12_isOf : Room := { frames := 2, cells := 0, slots := 0, locals := 42 }
theorem mv_X12_isOf_ok : callOK yX12_isOf 1 := by decide +kernel
set_option maxHeartbeats 4000000 in
theorem ct_X12_isOf {G : WG} {l : Launch} {sh : SH} (hS : stN sh) {I : II} {x0 : Nat} {x1 : Int32} {Z : Int32} (hk : f_X12_isOf sh x0 x1 I = some Z) : CT G l yX12_isOf (ws_ yX12_isOf cX12_isOf 2 (some .boolean)) rm_X12_isOf [.ref (wad G x0), .int x1] (sh, I) (.returned (some (.int Z))) (sh, I) := by
  refine CT.ofJ "NineDemands$Alike" rfl (by decide) (Nat.le_of_ble_eq_true rfl) ?_
  intro p e s m args below meth c C
  unfold f_X12_isOf at hk
  refine j_lv (lv' := [some (.ref (wad G x0)), some (.int x1)]) rfl ?_
  refine j_iload_n (pc := 0) C dX12_isOf_0 rfl rfl ?_
  refine j_iconst (pc := 1) (v := nI 2) C dX12_isOf_1 (by decide) ?_
  refine j_icmp_eq (pc := 2) 13 C dX12_isOf_2 (by decide) (fun h1 => ?_) (fun h1 => ?_)
  · replace hk := it_t h1 hk
    refine j_iconst (pc := 13) (v := nI 1) C dX12_isOf_13 (by decide) ?_
    refine j_goto (pc := 14) 18 C dX12_isOf_14 (by decide) ?_
    obtain rfl := Option.some.inj hk
    exact j_zret (pc := 18) C dX12_isOf_18 (Nat.le_of_ble_eq_true rfl) (Nat.le_of_ble_eq_true rfl) (isB.nar (v := (nI 1)) (by unfold isB; decide))
  · replace hk := it_f h1 hk
    refine j_aload_n (pc := 5) C dX12_isOf_5 rfl rfl ?_
    refine j_iload_n (pc := 6) C dX12_isOf_6 rfl rfl ?_
    replace hk := ockD_some hk
    obtain ⟨ch2, ch2h, h2, hk⟩ := hk
    replace hk := ob_some hk
    obtain ⟨r7, h3, hk⟩ := hk
    obtain ⟨cr7, hcr7⟩ := famclD ch2h
    refine x_callSU (pc := 7) C (ct_X11_isOf hS h3) h2 hcr7 q1354 q2490 q603 q1355 q109 q1356 (by decide) (mv_X11_isOf_ok) dX12_isOf_7 rfl rfl (Nat.le_of_ble_eq_true rfl) rfl ?_
    refine j_if_eq (pc := 10) 17 C dX12_isOf_10 (by decide) (fun h4 => ?_) (fun h4 => ?_)
    · replace hk := it_t h4 hk
      refine j_iconst (pc := 17) (v := nI 0) C dX12_isOf_17 (by decide) ?_
      obtain rfl := Option.some.inj hk
      exact j_zret (pc := 18) C dX12_isOf_18 (Nat.le_of_ble_eq_true rfl) (Nat.le_of_ble_eq_true rfl) (isB.nar (v := (nI 0)) (by unfold isB; decide))
    · replace hk := it_f h4 hk
      refine j_iconst (pc := 13) (v := nI 1) C dX12_isOf_13 (by decide) ?_
      refine j_goto (pc := 14) 18 C dX12_isOf_14 (by decide) ?_
      obtain rfl := Option.some.inj hk
      exact j_zret (pc := 18) C dX12_isOf_18 (Nat.le_of_ble_eq_true rfl) (Nat.le_of_ble_eq_true rfl) (isB.nar (v := (nI 1)) (by unfold isB; decide))
def f_X13_isOf (sh : SH) (x0 : Nat) (x1 : Int32) (I : II) : Option Int32 := if x1 = (nI 3) then some (nI 1) else ockD sh x0 <| (f_X11_isOf sh x0 x1 I).bind fun r7 => if r7 = 0 then some (nI 0) else some (nI 1)
abbrev rm_X13_isOf : Room := { frames := 2, cells := 0, slots := 0, locals := 42 }
theorem mv_X13_isOf_ok : callOK yX13_isOf 1 := by decide +kernel
set_option maxHeartbeats 4000000 in
theorem ct_X13_isOf {G : WG} {l : Launch} {sh : SH} (hS : stN sh) {I : II} {x0 : Nat} {x1 : Int32} {Z : Int32} (hk : f_X13_isOf sh x0 x1 I = some Z) : CT G l yX13_isOf (ws_ yX13_isOf cX13_isOf 2 (some .boolean)) rm_X13_isOf [.ref (wad G x0), .int x1] (sh, I) (.returned (some (.int Z))) (sh, I) := by
  refine CT.ofJ "NineDemands$Turns" rfl (by decide) (Nat.le_of_ble_eq_true rfl) ?_
  intro p e s m args below meth c C
  unfold f_X13_isOf at hk
  refine j_lv (lv' := [some (.ref (wad G x0)), some (.int x1)]) rfl ?_
  refine j_iload_n (pc := 0) C dX13_isOf_0 rfl rfl ?_
  refine j_iconst (pc := 1) (v := nI 3) C dX13_isOf_1 (by decide) ?_
  refine j_icmp_eq (pc := 2) 13 C dX13_isOf_2 (by decide) (fun h1 => ?_) (fun h1 => ?_)
  · replace hk := it_t h1 hk
    refine j_iconst (pc := 13) (v := nI 1) C dX13_isOf_13 (by decide) ?_
    refine j_goto (pc := 14) 18 C dX13_isOf_14 (by decide) ?_
    obtain rfl := Option.some.inj hk
    exact j_zret (pc := 18) C dX13_isOf_18 (Nat.le_of_ble_eq_true rfl) (Nat.le_of_ble_eq_true rfl) (isB.nar (v := (nI 1)) (by unfold isB; decide))
  · replace hk := it_f h1 hk
    refine j_aload_n (pc := 5) C dX13_isOf_5 rfl rfl ?_
    refine j_iload_n (pc := 6) C dX13_isOf_6 rfl rfl ?_
    replace hk := ockD_some hk
    obtain ⟨ch2, ch2h, h2, hk⟩ := hk
    replace hk := ob_some hk
    obtain ⟨r7, h3, hk⟩ := hk
    obtain ⟨cr7, hcr7⟩ := famclD ch2h
    refine x_callSU (pc := 7) C (ct_X11_isOf hS h3) h2 hcr7 q1370 q2490 q615 q1355 q109 q1356 (by decide) (mv_X11_isOf_ok) dX13_isOf_7 rfl rfl (Nat.le_of_ble_eq_true rfl) rfl ?_
    refine j_if_eq (pc := 10) 17 C dX13_isOf_10 (by decide) (fun h4 => ?_) (fun h4 => ?_)
    · replace hk := it_t h4 hk
      refine j_iconst (pc := 17) (v := nI 0) C dX13_isOf_17 (by decide) ?_
      obtain rfl := Option.some.inj hk
      exact j_zret (pc := 18) C dX13_isOf_18 (Nat.le_of_ble_eq_true rfl) (Nat.le_of_ble_eq_true rfl) (isB.nar (v := (nI 0)) (by unfold isB; decide))
    · replace hk := it_f h4 hk
      refine j_iconst (pc := 13) (v := nI 1) C dX13_isOf_13 (by decide) ?_
      refine j_goto (pc := 14) 18 C dX13_isOf_14 (by decide) ?_
      obtain rfl := Option.some.inj hk
      exact j_zret (pc := 18) C dX13_isOf_18 (Nat.le_of_ble_eq_true rfl) (Nat.le_of_ble_eq_true rfl) (isB.nar (v := (nI 1)) (by unfold isB; decide))
def f_X14_isOf (sh : SH) (x0 : Nat) (x1 : Int32) (I : II) : Option Int32 := if x1 = (nI 4) then some (nI 1) else ockD sh x0 <| (f_X11_isOf sh x0 x1 I).bind fun r7 => if r7 = 0 then some (nI 0) else some (nI 1)
abbrev rm_X14_isOf : Room := { frames := 2, cells := 0, slots := 0, locals := 42 }
theorem mv_X14_isOf_ok : callOK yX14_isOf 1 := by decide +kernel
set_option maxHeartbeats 4000000 in
theorem ct_X14_isOf {G : WG} {l : Launch} {sh : SH} (hS : stN sh) {I : II} {x0 : Nat} {x1 : Int32} {Z : Int32} (hk : f_X14_isOf sh x0 x1 I = some Z) : CT G l yX14_isOf (ws_ yX14_isOf cX14_isOf 2 (some .boolean)) rm_X14_isOf [.ref (wad G x0), .int x1] (sh, I) (.returned (some (.int Z))) (sh, I) := by
  refine CT.ofJ "NineDemands$Comes" rfl (by decide) (Nat.le_of_ble_eq_true rfl) ?_
  intro p e s m args below meth c C
  unfold f_X14_isOf at hk
  refine j_lv (lv' := [some (.ref (wad G x0)), some (.int x1)]) rfl ?_
  refine j_iload_n (pc := 0) C dX14_isOf_0 rfl rfl ?_
  refine j_iconst (pc := 1) (v := nI 4) C dX14_isOf_1 (by decide) ?_
  refine j_icmp_eq (pc := 2) 13 C dX14_isOf_2 (by decide) (fun h1 => ?_) (fun h1 => ?_)
  · replace hk := it_t h1 hk
    refine j_iconst (pc := 13) (v := nI 1) C dX14_isOf_13 (by decide) ?_
    refine j_goto (pc := 14) 18 C dX14_isOf_14 (by decide) ?_
    obtain rfl := Option.some.inj hk
    exact j_zret (pc := 18) C dX14_isOf_18 (Nat.le_of_ble_eq_true rfl) (Nat.le_of_ble_eq_true rfl) (isB.nar (v := (nI 1)) (by unfold isB; decide))
  · replace hk := it_f h1 hk
    refine j_aload_n (pc := 5) C dX14_isOf_5 rfl rfl ?_
    refine j_iload_n (pc := 6) C dX14_isOf_6 rfl rfl ?_
    replace hk := ockD_some hk
    obtain ⟨ch2, ch2h, h2, hk⟩ := hk
    replace hk := ob_some hk
    obtain ⟨r7, h3, hk⟩ := hk
    obtain ⟨cr7, hcr7⟩ := famclD ch2h
    refine x_callSU (pc := 7) C (ct_X11_isOf hS h3) h2 hcr7 q1361 q2490 q627 q1355 q109 q1356 (by decide) (mv_X11_isOf_ok) dX14_isOf_7 rfl rfl (Nat.le_of_ble_eq_true rfl) rfl ?_
    refine j_if_eq (pc := 10) 17 C dX14_isOf_10 (by decide) (fun h4 => ?_) (fun h4 => ?_)
    · replace hk := it_t h4 hk
      refine j_iconst (pc := 17) (v := nI 0) C dX14_isOf_17 (by decide) ?_
      obtain rfl := Option.some.inj hk
      exact j_zret (pc := 18) C dX14_isOf_18 (Nat.le_of_ble_eq_true rfl) (Nat.le_of_ble_eq_true rfl) (isB.nar (v := (nI 0)) (by unfold isB; decide))
    · replace hk := it_f h4 hk
      refine j_iconst (pc := 13) (v := nI 1) C dX14_isOf_13 (by decide) ?_
      refine j_goto (pc := 14) 18 C dX14_isOf_14 (by decide) ?_
      obtain rfl := Option.some.inj hk
      exact j_zret (pc := 18) C dX14_isOf_18 (Nat.le_of_ble_eq_true rfl) (Nat.le_of_ble_eq_true rfl) (isB.nar (v := (nI 1)) (by unfold isB; decide))
def f_X15_isOf (sh : SH) (x0 : Nat) (x1 : Int32) (I : II) : Option Int32 := if x1 = (nI 5) then some (nI 1) else ockD sh x0 <| (f_X10_isOf sh x0 x1 I).bind fun r7 => if r7 = 0 then some (nI 0) else some (nI 1)
abbrev rm_X15_isOf : Room := { frames := 1, cells := 0, slots := 0, locals := 21 }
theorem mv_X15_isOf_ok : callOK yX15_isOf 1 := by decide +kernel
set_option maxHeartbeats 4000000 in
theorem ct_X15_isOf {G : WG} {l : Launch} {sh : SH} (hS : stN sh) {I : II} {x0 : Nat} {x1 : Int32} {Z : Int32} (hk : f_X15_isOf sh x0 x1 I = some Z) : CT G l yX15_isOf (ws_ yX15_isOf cX15_isOf 2 (some .boolean)) rm_X15_isOf [.ref (wad G x0), .int x1] (sh, I) (.returned (some (.int Z))) (sh, I) := by
  refine CT.ofJ "NineDemands$Single" rfl (by decide) (Nat.le_of_ble_eq_true rfl) ?_
  intro p e s m args below meth c C
  unfold f_X15_isOf at hk
  refine j_lv (lv' := [some (.ref (wad G x0)), some (.int x1)]) rfl ?_
  refine j_iload_n (pc := 0) C dX15_isOf_0 rfl rfl ?_
  refine j_iconst (pc := 1) (v := nI 5) C dX15_isOf_1 (by decide) ?_
  refine j_icmp_eq (pc := 2) 13 C dX15_isOf_2 (by decide) (fun h1 => ?_) (fun h1 => ?_)
  · replace hk := it_t h1 hk
    refine j_iconst (pc := 13) (v := nI 1) C dX15_isOf_13 (by decide) ?_
    refine j_goto (pc := 14) 18 C dX15_isOf_14 (by decide) ?_
    obtain rfl := Option.some.inj hk
    exact j_zret (pc := 18) C dX15_isOf_18 (Nat.le_of_ble_eq_true rfl) (Nat.le_of_ble_eq_true rfl) (isB.nar (v := (nI 1)) (by unfold isB; decide))
  · replace hk := it_f h1 hk
    refine j_aload_n (pc := 5) C dX15_isOf_5 rfl rfl ?_
    refine j_iload_n (pc := 6) C dX15_isOf_6 rfl rfl ?_
    replace hk := ockD_some hk
    obtain ⟨ch2, ch2h, h2, hk⟩ := hk
    replace hk := ob_some hk
    obtain ⟨r7, h3, hk⟩ := hk
    obtain ⟨cr7, hcr7⟩ := famclD ch2h
    refine x_callSU (pc := 7) C (ct_X10_isOf hS h3) h2 hcr7 q1366 q1350 q639 q1348 q108 q1371 (by decide) (mv_X10_isOf_ok) dX15_isOf_7 rfl rfl (Nat.le_of_ble_eq_true rfl) rfl ?_
    refine j_if_eq (pc := 10) 17 C dX15_isOf_10 (by decide) (fun h4 => ?_) (fun h4 => ?_)
    · replace hk := it_t h4 hk
      refine j_iconst (pc := 17) (v := nI 0) C dX15_isOf_17 (by decide) ?_
      obtain rfl := Option.some.inj hk
      exact j_zret (pc := 18) C dX15_isOf_18 (Nat.le_of_ble_eq_true rfl) (Nat.le_of_ble_eq_true rfl) (isB.nar (v := (nI 0)) (by unfold isB; decide))
    · replace hk := it_f h4 hk
      refine j_iconst (pc := 13) (v := nI 1) C dX15_isOf_13 (by decide) ?_
      refine j_goto (pc := 14) 18 C dX15_isOf_14 (by decide) ?_
      obtain rfl := Option.some.inj hk
      exact j_zret (pc := 18) C dX15_isOf_18 (Nat.le_of_ble_eq_true rfl) (Nat.le_of_ble_eq_true rfl) (isB.nar (v := (nI 1)) (by unfold isB; decide))
def v_X10_isOf (sh : SH) (x0 : Nat) (x1 : Int32) (I : II) : Option Int32 := og (x0 < sh.1 ∨ (exA ≤ x0 ∧ x0 < exA + exN)) <| if (sh.2.1 x0).1 = 11 then f_X10_isOf sh x0 x1 I else if (sh.2.1 x0).1 = 12 then f_X11_isOf sh x0 x1 I else if (sh.2.1 x0).1 = 13 then f_X12_isOf sh x0 x1 I else if (sh.2.1 x0).1 = 14 then f_X13_isOf sh x0 x1 I else if (sh.2.1 x0).1 = 15 then f_X14_isOf sh x0 x1 I else if (sh.2.1 x0).1 = 16 then f_X15_isOf sh x0 x1 I else none
set_option maxHeartbeats 4000000 in
theorem vc_X10_isOf {G : WG} {l : Launch} {sh : SH} (hS : stN sh) {I : II} {x0 : Nat} {x1 : Int32} {Z : Int32} (hk : v_X10_isOf sh x0 x1 I = some Z) : VC G l ⟨"NineDemands$Demand", "isOf", "(I)Z"⟩ x0 [.int x1] (sh, I) (some (.int Z)) (sh, I) 3 63 0 0 1 := by
  unfold v_X10_isOf at hk
  replace hk := og_some hk
  obtain ⟨hd9, hk⟩ := hk
  by_cases h0 : (sh.2.1 x0).1 = 11
  · replace hk := it_t h0 hk
    exact ⟨11, _, yX10_isOf, _, _, _, "NineDemands$Demand", _, ⟨hd9, h0⟩, rfl, ct_X10_isOf hS hk, q1350, q1349, q1348, q108, q1371, Or.inl ⟨q1348, _, _, _, q1371⟩, by decide +kernel, Nat.le_of_ble_eq_true rfl, Nat.le_of_ble_eq_true rfl, rfl, rfl⟩
  replace hk := it_f h0 hk
  by_cases h1 : (sh.2.1 x0).1 = 12
  · replace hk := it_t h1 hk
    exact ⟨12, _, yX11_isOf, _, _, _, "NineDemands$Demand", _, ⟨hd9, h1⟩, rfl, ct_X11_isOf hS hk, q1350, q1362, q1355, q109, q1356, Or.inl ⟨q1348, _, _, _, q1371⟩, by decide +kernel, Nat.le_of_ble_eq_true rfl, Nat.le_of_ble_eq_true rfl, rfl, rfl⟩
  replace hk := it_f h1 hk
  by_cases h2 : (sh.2.1 x0).1 = 13
  · replace hk := it_t h2 hk
    exact ⟨13, _, yX12_isOf, _, _, _, "NineDemands$Demand", _, ⟨hd9, h2⟩, rfl, ct_X12_isOf hS hk, q1350, q1351, q1352, q110, q1353, Or.inl ⟨q1348, _, _, _, q1371⟩, by decide +kernel, Nat.le_of_ble_eq_true rfl, Nat.le_of_ble_eq_true rfl, rfl, rfl⟩
  replace hk := it_f h2 hk
  by_cases h3 : (sh.2.1 x0).1 = 14
  · replace hk := it_t h3 hk
    exact ⟨14, _, yX13_isOf, _, _, _, "NineDemands$Demand", _, ⟨hd9, h3⟩, rfl, ct_X13_isOf hS hk, q1350, q1367, q1368, q111, q1369, Or.inl ⟨q1348, _, _, _, q1371⟩, by decide +kernel, Nat.le_of_ble_eq_true rfl, Nat.le_of_ble_eq_true rfl, rfl, rfl⟩
  replace hk := it_f h3 hk
  by_cases h4 : (sh.2.1 x0).1 = 15
  · replace hk := it_t h4 hk
    exact ⟨15, _, yX14_isOf, _, _, _, "NineDemands$Demand", _, ⟨hd9, h4⟩, rfl, ct_X14_isOf hS hk, q1350, q1358, q1359, q112, q1360, Or.inl ⟨q1348, _, _, _, q1371⟩, by decide +kernel, Nat.le_of_ble_eq_true rfl, Nat.le_of_ble_eq_true rfl, rfl, rfl⟩
  replace hk := it_f h4 hk
  by_cases h5 : (sh.2.1 x0).1 = 16
  · replace hk := it_t h5 hk
    exact ⟨16, _, yX15_isOf, _, _, _, "NineDemands$Demand", _, ⟨hd9, h5⟩, rfl, ct_X15_isOf hS hk, q1350, q1363, q1364, q113, q1365, Or.inl ⟨q1348, _, _, _, q1371⟩, by decide +kernel, Nat.le_of_ble_eq_true rfl, Nat.le_of_ble_eq_true rfl, rfl, rfl⟩
  replace hk := it_f h5 hk
  cases hk
def f_X0_as_J60 (sh : SH) (s0 : Nat) (I : II) : Option (Int32 × II) := bd2 (f_X0_finds sh s0 I) fun r63 I63 => some (r63, I63)
def f_X0_as_J23 (sh : SH) (x1 : Int32) (x2 : Int32) (s1 : Int32) (I : II) : Option (Int32 × II) := bd2 (f_X0_need sh s1 (nI 1) I) fun u24 I24 => oex u24 (fun _w24 => orf (sh.2.2 0 1) fun t28 => ock sh t28 2 <| orf (sh.2.2 t28 1) fun t31 => ock sh t31 3 <| (f_J5_get sh t31 x1 I24).bind fun a35 => ockD sh a35 <| (v_X10_isOf sh a35 x2 I24).bind fun r45 => bd2 (f_X0_need sh r45 (nI 5) I24) fun u49 I49 => oex u49 (fun _w49 => orf (sh.2.2 a35 4) fun t53 => ock sh t53 23 <| some ((I49 t53 4), I49)) (fun w49 => ock sh w49 1 <| f_X0_as_J60 sh w49 I49)) (fun w24 => ock sh w24 1 <| f_X0_as_J60 sh w24 I24)
def f_X0_as_J22 (sh : SH) (x1 : Int32) (x2 : Int32) (I : II) : Option (Int32 × II) := f_X0_as_J23 sh x1 x2 (nI 0) I
def f_X0_as (sh : SH) (x1 : Int32) (x2 : Int32) (I : II) : Option (Int32 × II) := (f_X0_isLaw sh x1 I).bind fun r3 => if r3 = 0 then f_X0_as_J22 sh x1 x2 I else (f_X0_in x2 (nI 0) (nI 5)).bind fun r12 => if r12 = 0 then f_X0_as_J22 sh x1 x2 I else f_X0_as_J23 sh x1 x2 (nI 1) I
abbrev rm_X0_as : Room := { frames := 3, cells := 0, slots := 0, locals := 64 }
theorem mv_X0_as_ok : callOK yX0_as 2 := by decide +kernel
theorem mw_X0_as : MW yX0_as cX0_as 4 (some .int) [(0, 59, 60, 8)] 2 := ⟨q1344, q1345, q91, q1346, mv_X0_as_ok⟩
set_option maxHeartbeats 4000000 in
theorem ct_X0_as {G : WG} {l : Launch} {sh : SH} (hS : stN sh) {I : II} {x1 : Int32} {x2 : Int32} {Z : (Int32 × II)} (hk : f_X0_as sh x1 x2 I = some Z) : CT G l yX0_as (wsW_ yX0_as cX0_as 4 (some .int) [(0, 59, 60, 8)]) rm_X0_as [.ref (wad G 0), .int x1, .int x2] (sh, I) (.returned (some (.int Z.1))) (sh, Z.2) := by
  refine CT.ofJW "NineDemands" rfl (by decide) (Nat.le_of_ble_eq_true rfl) ?_
  intro p e s m args below meth c C
  unfold f_X0_as at hk
  refine j_lv (lv' := [some (.ref (wad G 0)), some (.int x1), some (.int x2), none]) rfl ?_
  refine j_aload_n (pc := 0) C dX0_as_0 rfl rfl ?_
  refine j_aload_n (pc := 1) C dX0_as_1 rfl rfl ?_
  refine j_iload_n (pc := 2) C dX0_as_2 rfl rfl ?_
  replace hk := ob_some hk
  obtain ⟨r3, h1, hk⟩ := hk
  refine x_callV (pc := 3) C (ct_X0_isLaw hS h1) mv_X0_isLaw (stN_o0 hS).r rfl rfl q1325 dX0_as_3 rfl rfl (Nat.le_of_ble_eq_true rfl) rfl ?_
  have Jn23 : ∀ (x1 : Int32) (x2 : Int32) (s1 : Int32) (I : II), f_X0_as_J23 sh x1 x2 s1 I = some Z → J G p l e rm_X0_as s m args below meth c 4 (.returned (some (.int Z.1))) (sh, Z.2) (rm_X0_as).cells (rm_X0_as).slots (sh, I) 0 0 23 [some (.ref (wad G 0)), some (.int x1), some (.int x2), none] [.int s1, .ref (wad G 0)] := by
    intro x1 x2 s1 I hk
    unfold f_X0_as_J23 at hk
    refine j_iconst (pc := 23) (v := nI 1) C dX0_as_23 (by decide) ?_
    have Jn60 : ∀ (s0 : Nat) (I : II), f_X0_as_J60 sh s0 I = some Z → J G p l e rm_X0_as s m args below meth c 4 (.returned (some (.int Z.1))) (sh, Z.2) (rm_X0_as).cells (rm_X0_as).slots (sh, I) 0 0 60 [some (.ref (wad G 0)), none, none, none] [.ref (wad G s0)] := by
      intro s0 I hk
      unfold f_X0_as_J60 at hk
      refine j_astore_n (pc := 60) C dX0_as_60 rfl (Nat.le_of_ble_eq_true rfl) rfl ?_
      refine j_aload_n (pc := 61) C dX0_as_61 rfl rfl ?_
      refine j_aload_n (pc := 62) C dX0_as_62 rfl rfl ?_
      replace hk := bd2_some hk
      obtain ⟨r63, I63, h2, hk⟩ := hk
      refine x_callV (pc := 63) C (ct_X0_finds hS h2) mv_X0_finds (stN_o0 hS).r rfl rfl q433 dX0_as_63 rfl rfl (Nat.le_of_ble_eq_true rfl) rfl ?_
      obtain rfl := Option.some.inj hk
      exact j_iret (pc := 66) C dX0_as_66 (Nat.le_of_ble_eq_true rfl) (Nat.le_of_ble_eq_true rfl)
    replace hk := bd2_some hk
    obtain ⟨u24, I24, h3, hk⟩ := hk
    cases u24 with
    | inr w24 =>
      replace hk := oex_r hk
      replace hk := ock_some hk
      obtain ⟨h5, hk⟩ := hk
      refine x_callVC [] [] (0, 59, 60, 8) (pc := 24) C (ct_X0_need hS h3) mv_X0_need (stN_o0 hS).r rfl rfl q416 dX0_as_24 rfl rfl (Nat.le_of_ble_eq_true rfl) rfl rfl h5 rfl (by decide) (by decide) q146 (fun z hz => by cases hz) ?_
      exact j_mask [true, false, false, false] (Jn60 _ _ hk)
    | inl _w24 =>
      replace hk := oex_l hk
      refine x_callV (pc := 24) C (ct_X0_need hS h3) mv_X0_need (stN_o0 hS).r rfl rfl q416 dX0_as_24 rfl rfl (Nat.le_of_ble_eq_true rfl) rfl ?_
      refine j_aload_n (pc := 27) C dX0_as_27 rfl rfl ?_
      replace hk := orf_some hk
      obtain ⟨t28, et28, hk⟩ := hk
      refine x_getR (pc := 28) C fd_0_1 (fl1 C q373) (stN_o0 hS).r et28 dX0_as_28 ?_
      replace hk := ock_some hk
      obtain ⟨h6, hk⟩ := hk
      replace hk := orf_some hk
      obtain ⟨t31, et31, hk⟩ := hk
      refine x_getR (pc := 31) C fd_2_1 (fl3 C q251) h6 et31 dX0_as_31 ?_
      refine j_iload_n (pc := 34) C dX0_as_34 rfl rfl ?_
      replace hk := ock_some hk
      obtain ⟨h7, hk⟩ := hk
      replace hk := ob_some hk
      obtain ⟨a35, h8, hk⟩ := hk
      refine x_callV (pc := 35) C (ct_J5_get h8) mv_J5_get h7 rfl rfl q1329 dX0_as_35 rfl rfl (Nat.le_of_ble_eq_true rfl) rfl ?_
      replace hk := ockD_some hk
      obtain ⟨ch9, ch9h, h9, hk⟩ := hk
      obtain ⟨cr38, hcr38, hcs38⟩ := castD_NineDemands_Demand ch9h
      refine x_cast (pc := 38) C h9 hcr38 q640 hcs38 dX0_as_38 ?_
      refine j_astore_n (pc := 41) C dX0_as_41 rfl (Nat.le_of_ble_eq_true rfl) rfl ?_
      refine j_aload_n (pc := 42) C dX0_as_42 rfl rfl ?_
      refine j_aload_n (pc := 43) C dX0_as_43 rfl rfl ?_
      refine j_iload_n (pc := 44) C dX0_as_44 rfl rfl ?_
      replace hk := ob_some hk
      obtain ⟨r45, h10, hk⟩ := hk
      refine x_callX (pc := 45) C (vc_X10_isOf hS h10) q1347 dX0_as_45 rfl rfl (Nat.le_of_ble_eq_true rfl) (Nat.le_of_ble_eq_true rfl) (Nat.le_of_ble_eq_true rfl) (Nat.le_of_ble_eq_true rfl) (Nat.le_of_ble_eq_true rfl) ?_
      refine j_iconst (pc := 48) (v := nI 5) C dX0_as_48 (by decide) ?_
      replace hk := bd2_some hk
      obtain ⟨u49, I49, h11, hk⟩ := hk
      cases u49 with
      | inr w49 =>
        replace hk := oex_r hk
        replace hk := ock_some hk
        obtain ⟨h13, hk⟩ := hk
        refine x_callVC [] [] (0, 59, 60, 8) (pc := 49) C (ct_X0_need hS h11) mv_X0_need (stN_o0 hS).r rfl rfl q416 dX0_as_49 rfl rfl (Nat.le_of_ble_eq_true rfl) rfl rfl h13 rfl (by decide) (by decide) q146 (fun z hz => by cases hz) ?_
        exact j_mask [true, false, false, false] (Jn60 _ _ hk)
      | inl _w49 =>
        replace hk := oex_l hk
        refine x_callV (pc := 49) C (ct_X0_need hS h11) mv_X0_need (stN_o0 hS).r rfl rfl q416 dX0_as_49 rfl rfl (Nat.le_of_ble_eq_true rfl) rfl ?_
        refine j_aload_n (pc := 52) C dX0_as_52 rfl rfl ?_
        replace hk := orf_some hk
        obtain ⟨t53, et53, hk⟩ := hk
        refine x_getR (pc := 53) C (fdD_4 ch9h) (fl1 C q580) h9 et53 dX0_as_53 ?_
        replace hk := ock_some hk
        obtain ⟨h14, hk⟩ := hk
        refine x_getI (pc := 56) C fd_23_4 (fl3 C q1142) h14 dX0_as_56 ?_
        obtain rfl := Option.some.inj hk
        exact j_iret (pc := 59) C dX0_as_59 (Nat.le_of_ble_eq_true rfl) (Nat.le_of_ble_eq_true rfl)
  have Jn22 : ∀ (x1 : Int32) (x2 : Int32) (I : II), f_X0_as_J22 sh x1 x2 I = some Z → J G p l e rm_X0_as s m args below meth c 4 (.returned (some (.int Z.1))) (sh, Z.2) (rm_X0_as).cells (rm_X0_as).slots (sh, I) 0 0 22 [some (.ref (wad G 0)), some (.int x1), some (.int x2), none] [.ref (wad G 0)] := by
    intro x1 x2 I hk
    unfold f_X0_as_J22 at hk
    refine j_iconst (pc := 22) (v := nI 0) C dX0_as_22 (by decide) ?_
    exact j_mask [true, true, true, false] (Jn23 _ _ _ _ hk)
  refine j_if_eq (pc := 6) 22 C dX0_as_6 (by decide) (fun h15 => ?_) (fun h15 => ?_)
  · replace hk := it_t h15 hk
    exact j_mask [true, true, true, false] (Jn22 _ _ _ hk)
  · replace hk := it_f h15 hk
    refine j_iload_n (pc := 9) C dX0_as_9 rfl rfl ?_
    refine j_iconst (pc := 10) (v := nI 0) C dX0_as_10 (by decide) ?_
    refine j_iconst (pc := 11) (v := nI 5) C dX0_as_11 (by decide) ?_
    replace hk := ob_some hk
    obtain ⟨r12, h16, hk⟩ := hk
    refine j_callS (pc := 12) C (ct_X0_in h16) ms_X0_in q413 dX0_as_12 rfl rfl (Nat.le_of_ble_eq_true rfl) rfl ?_
    refine j_if_eq (pc := 15) 22 C dX0_as_15 (by decide) (fun h17 => ?_) (fun h17 => ?_)
    · replace hk := it_t h17 hk
      exact j_mask [true, true, true, false] (Jn22 _ _ _ hk)
    · replace hk := it_f h17 hk
      refine j_iconst (pc := 18) (v := nI 1) C dX0_as_18 (by decide) ?_
      refine j_goto (pc := 19) 23 C dX0_as_19 (by decide) ?_
      exact j_mask [true, true, true, false] (Jn23 _ _ _ _ hk)
def f_X0_price_J57 (sh : SH) (s0 : Nat) (I : II) : Option (Int32 × II) := bd2 (f_X0_finds sh s0 I) fun r60 I60 => some (r60, I60)
def f_X0_price_J24 (sh : SH) (x1 : Int32) (x2 : Int32) (s1 : Int32) (I : II) : Option (Int32 × II) := bd2 (f_X0_need sh s1 (nI 1) I) fun u25 I25 => oex u25 (fun _w25 => orf (sh.2.2 0 1) fun t29 => ock sh t29 2 <| orf (sh.2.2 t29 1) fun t32 => ock sh t32 3 <| (f_J5_get sh t32 x1 I25).bind fun a36 => ockD sh a36 <| ockwD sh a36 <| some ((I25 a36 2), up2 I25 a36 2 x2)) (fun w25 => ock sh w25 1 <| f_X0_price_J57 sh w25 I25)
def f_X0_price_J23 (sh : SH) (x1 : Int32) (x2 : Int32) (I : II) : Option (Int32 × II) := f_X0_price_J24 sh x1 x2 (nI 0) I
def f_X0_price (sh : SH) (x1 : Int32) (x2 : Int32) (I : II) : Option (Int32 × II) := (f_X0_isLaw sh x1 I).bind fun r3 => if r3 = 0 then f_X0_price_J23 sh x1 x2 I else (f_X0_in x2 (nI 0) (nI 99)).bind fun r13 => if r13 = 0 then f_X0_price_J23 sh x1 x2 I else f_X0_price_J24 sh x1 x2 (nI 1) I
abbrev rm_X0_price : Room := { frames := 3, cells := 0, slots := 0, locals := 64 }
theorem mv_X0_price_ok : callOK yX0_price 2 := by decide +kernel
theorem mw_X0_price : MW yX0_price cX0_price 5 (some .int) [(0, 56, 57, 8)] 2 := ⟨q1322, q1323, q91, q1324, mv_X0_price_ok⟩
set_option maxHeartbeats 4000000 in
theorem ct_X0_price {G : WG} {l : Launch} {sh : SH} (hS : stN sh) {I : II} {x1 : Int32} {x2 : Int32} {Z : (Int32 × II)} (hk : f_X0_price sh x1 x2 I = some Z) : CT G l yX0_price (wsW_ yX0_price cX0_price 5 (some .int) [(0, 56, 57, 8)]) rm_X0_price [.ref (wad G 0), .int x1, .int x2] (sh, I) (.returned (some (.int Z.1))) (sh, Z.2) := by
  refine CT.ofJW "NineDemands" rfl (by decide) (Nat.le_of_ble_eq_true rfl) ?_
  intro p e s m args below meth c C
  unfold f_X0_price at hk
  refine j_lv (lv' := [some (.ref (wad G 0)), some (.int x1), some (.int x2), none, none]) rfl ?_
  refine j_aload_n (pc := 0) C dX0_price_0 rfl rfl ?_
  refine j_aload_n (pc := 1) C dX0_price_1 rfl rfl ?_
  refine j_iload_n (pc := 2) C dX0_price_2 rfl rfl ?_
  replace hk := ob_some hk
  obtain ⟨r3, h1, hk⟩ := hk
  refine x_callV (pc := 3) C (ct_X0_isLaw hS h1) mv_X0_isLaw (stN_o0 hS).r rfl rfl q1325 dX0_price_3 rfl rfl (Nat.le_of_ble_eq_true rfl) rfl ?_
  have Jn24 : ∀ (x1 : Int32) (x2 : Int32) (s1 : Int32) (I : II), f_X0_price_J24 sh x1 x2 s1 I = some Z → J G p l e rm_X0_price s m args below meth c 5 (.returned (some (.int Z.1))) (sh, Z.2) (rm_X0_price).cells (rm_X0_price).slots (sh, I) 0 0 24 [some (.ref (wad G 0)), some (.int x1), some (.int x2), none, none] [.int s1, .ref (wad G 0)] := by
    intro x1 x2 s1 I hk
    unfold f_X0_price_J24 at hk
    refine j_iconst (pc := 24) (v := nI 1) C dX0_price_24 (by decide) ?_
    have Jn57 : ∀ (s0 : Nat) (I : II), f_X0_price_J57 sh s0 I = some Z → J G p l e rm_X0_price s m args below meth c 5 (.returned (some (.int Z.1))) (sh, Z.2) (rm_X0_price).cells (rm_X0_price).slots (sh, I) 0 0 57 [some (.ref (wad G 0)), none, none, none, none] [.ref (wad G s0)] := by
      intro s0 I hk
      unfold f_X0_price_J57 at hk
      refine j_astore_n (pc := 57) C dX0_price_57 rfl (Nat.le_of_ble_eq_true rfl) rfl ?_
      refine j_aload_n (pc := 58) C dX0_price_58 rfl rfl ?_
      refine j_aload_n (pc := 59) C dX0_price_59 rfl rfl ?_
      replace hk := bd2_some hk
      obtain ⟨r60, I60, h2, hk⟩ := hk
      refine x_callV (pc := 60) C (ct_X0_finds hS h2) mv_X0_finds (stN_o0 hS).r rfl rfl q433 dX0_price_60 rfl rfl (Nat.le_of_ble_eq_true rfl) rfl ?_
      obtain rfl := Option.some.inj hk
      exact j_iret (pc := 63) C dX0_price_63 (Nat.le_of_ble_eq_true rfl) (Nat.le_of_ble_eq_true rfl)
    replace hk := bd2_some hk
    obtain ⟨u25, I25, h3, hk⟩ := hk
    cases u25 with
    | inr w25 =>
      replace hk := oex_r hk
      replace hk := ock_some hk
      obtain ⟨h5, hk⟩ := hk
      refine x_callVC [] [] (0, 56, 57, 8) (pc := 25) C (ct_X0_need hS h3) mv_X0_need (stN_o0 hS).r rfl rfl q416 dX0_price_25 rfl rfl (Nat.le_of_ble_eq_true rfl) rfl rfl h5 rfl (by decide) (by decide) q146 (fun z hz => by cases hz) ?_
      exact j_mask [true, false, false, false, false] (Jn57 _ _ hk)
    | inl _w25 =>
      replace hk := oex_l hk
      refine x_callV (pc := 25) C (ct_X0_need hS h3) mv_X0_need (stN_o0 hS).r rfl rfl q416 dX0_price_25 rfl rfl (Nat.le_of_ble_eq_true rfl) rfl ?_
      refine j_aload_n (pc := 28) C dX0_price_28 rfl rfl ?_
      replace hk := orf_some hk
      obtain ⟨t29, et29, hk⟩ := hk
      refine x_getR (pc := 29) C fd_0_1 (fl1 C q373) (stN_o0 hS).r et29 dX0_price_29 ?_
      replace hk := ock_some hk
      obtain ⟨h6, hk⟩ := hk
      replace hk := orf_some hk
      obtain ⟨t32, et32, hk⟩ := hk
      refine x_getR (pc := 32) C fd_2_1 (fl3 C q251) h6 et32 dX0_price_32 ?_
      refine j_iload_n (pc := 35) C dX0_price_35 rfl rfl ?_
      replace hk := ock_some hk
      obtain ⟨h7, hk⟩ := hk
      replace hk := ob_some hk
      obtain ⟨a36, h8, hk⟩ := hk
      refine x_callV (pc := 36) C (ct_J5_get h8) mv_J5_get h7 rfl rfl q1329 dX0_price_36 rfl rfl (Nat.le_of_ble_eq_true rfl) rfl ?_
      replace hk := ockD_some hk
      obtain ⟨ch9, ch9h, h9, hk⟩ := hk
      obtain ⟨cr39, hcr39, hcs39⟩ := castD_NineDemands_Demand ch9h
      refine x_cast (pc := 39) C h9 hcr39 q640 hcs39 dX0_price_39 ?_
      refine j_astore_n (pc := 42) C dX0_price_42 rfl (Nat.le_of_ble_eq_true rfl) rfl ?_
      refine j_aload_n (pc := 43) C dX0_price_43 rfl rfl ?_
      refine x_getI (pc := 44) C (fdD_2 ch9h) (fl1 C q565) h9 dX0_price_44 ?_
      refine j_istore (pc := 47) C dX0_price_47 (Nat.le_of_ble_eq_true rfl) rfl ?_
      refine j_aload_n (pc := 49) C dX0_price_49 rfl rfl ?_
      refine j_iload_n (pc := 50) C dX0_price_50 rfl rfl ?_
      replace hk := ockwD_some hk
      obtain ⟨ch10, ch10h, h10, hk⟩ := hk
      refine x_putI (pc := 51) C (fdD_2 ch10h) (fl1 C q565) h10 rfl rfl dX0_price_51 ?_
      refine j_iload (pc := 54) C dX0_price_54 rfl ?_
      obtain rfl := Option.some.inj hk
      exact j_iret (pc := 56) C dX0_price_56 (Nat.le_of_ble_eq_true rfl) (Nat.le_of_ble_eq_true rfl)
  have Jn23 : ∀ (x1 : Int32) (x2 : Int32) (I : II), f_X0_price_J23 sh x1 x2 I = some Z → J G p l e rm_X0_price s m args below meth c 5 (.returned (some (.int Z.1))) (sh, Z.2) (rm_X0_price).cells (rm_X0_price).slots (sh, I) 0 0 23 [some (.ref (wad G 0)), some (.int x1), some (.int x2), none, none] [.ref (wad G 0)] := by
    intro x1 x2 I hk
    unfold f_X0_price_J23 at hk
    refine j_iconst (pc := 23) (v := nI 0) C dX0_price_23 (by decide) ?_
    exact j_mask [true, true, true, false, false] (Jn24 _ _ _ _ hk)
  refine j_if_eq (pc := 6) 23 C dX0_price_6 (by decide) (fun h11 => ?_) (fun h11 => ?_)
  · replace hk := it_t h11 hk
    exact j_mask [true, true, true, false, false] (Jn23 _ _ _ hk)
  · replace hk := it_f h11 hk
    refine j_iload_n (pc := 9) C dX0_price_9 rfl rfl ?_
    refine j_iconst (pc := 10) (v := nI 0) C dX0_price_10 (by decide) ?_
    refine j_bipush (pc := 11) (v := nI 99) C dX0_price_11 (by decide) ?_
    replace hk := ob_some hk
    obtain ⟨r13, h12, hk⟩ := hk
    refine j_callS (pc := 13) C (ct_X0_in h12) ms_X0_in q413 dX0_price_13 rfl rfl (Nat.le_of_ble_eq_true rfl) rfl ?_
    refine j_if_eq (pc := 16) 23 C dX0_price_16 (by decide) (fun h13 => ?_) (fun h13 => ?_)
    · replace hk := it_t h13 hk
      exact j_mask [true, true, true, false, false] (Jn23 _ _ _ hk)
    · replace hk := it_f h13 hk
      refine j_iconst (pc := 19) (v := nI 1) C dX0_price_19 (by decide) ?_
      refine j_goto (pc := 20) 24 C dX0_price_20 (by decide) ?_
      exact j_mask [true, true, true, false, false] (Jn24 _ _ _ _ hk)
