/-! the class: walks -/
set_option maxRecDepth 100000
def f_X0_fitsForm_L2 (F : Nat) (sh : SH) (x1 : Int32) (x2 : Int32) : Nat → Int32 → II → Option (Int32 × II)
  | 0, _, _ => none
  | n2 + 1, x3, I => if (nI 12) ≤ x3 then orf (sh.2.2 0 1) fun t26 => ock sh t26 2 <| (f_X2_fits F sh t26 x1 20 I).bind fun r34 => og (r34 = 0 ∨ r34 = 1) <| some (r34, I) else (f_X0_formed F x2 x3).bind fun r15 => oix x3 12 fun i18 => (f_X0_fitsForm_L2 F sh x1 x2 n2) (x3 + (nI 1)) (up2 I 20 i18 r15)
def f_X0_fitsForm (F : Nat) (sh : SH) (x1 : Int32) (x2 : Int32) (I : II) : Option (Int32 × II) := f_X0_fitsForm_L2 F sh x1 x2 F (nI 0) I
abbrev rm_X0_fitsForm : Room := { frames := 4, cells := 0, slots := 0, locals := 91 }
theorem mv_X0_fitsForm_ok : callOK yX0_fitsForm 2 := by decide +kernel
theorem mv_X0_fitsForm : MV yX0_fitsForm cX0_fitsForm 4 (some .boolean) 2 := ⟨q1528, qs31, q91, q1529, mv_X0_fitsForm_ok⟩
set_option maxHeartbeats 4000000 in
theorem ct_X0_fitsForm {G : WG} {l : Launch} {sh : SH} (hS : stN sh) {I : II} {F : Nat} {x1 : Int32} {x2 : Int32} {Z : (Int32 × II)} (hk : f_X0_fitsForm F sh x1 x2 I = some Z) : CT G l yX0_fitsForm (ws_ yX0_fitsForm cX0_fitsForm 4 (some .boolean)) rm_X0_fitsForm [.ref (wad G 0), .int x1, .int x2] (sh, I) (.returned (some (.int Z.1))) (sh, Z.2) := by
  refine CT.ofJ "NineDemands" rfl (by decide) (Nat.le_of_ble_eq_true rfl) ?_
  intro p e s m args below meth c C
  unfold f_X0_fitsForm at hk
  refine j_lv (lv' := [some (.ref (wad G 0)), some (.int x1), some (.int x2), none]) rfl ?_
  refine j_iconst (pc := 0) (v := nI 0) C dX0_fitsForm_0 (by decide) ?_
  refine j_istore_n (pc := 1) C dX0_fitsForm_1 rfl (Nat.le_of_ble_eq_true rfl) rfl ?_
  have L2 : ∀ (x1 : Int32) (x2 : Int32) (n2 : Nat) (x3 : Int32) (I : II), f_X0_fitsForm_L2 F sh x1 x2 n2 x3 I = some Z → J G p l e rm_X0_fitsForm s m args below meth c 4 (.returned (some (.int Z.1))) (sh, Z.2) (rm_X0_fitsForm).cells (rm_X0_fitsForm).slots (sh, I) 0 0 2 [some (.ref (wad G 0)), some (.int x1), some (.int x2), some (.int x3)] [] := by
    intro x1 x2 n2
    induction n2 with
    | zero => intro x3 I hk; rw [f_X0_fitsForm_L2] at hk; cases hk
    | succ n2 ih2 =>
      intro x3 I hk
      rw [f_X0_fitsForm_L2] at hk
      generalize f_X0_fitsForm_L2 F sh x1 x2 n2 = k2 at ih2 hk
      refine j_iload_n (pc := 2) C dX0_fitsForm_2 rfl rfl ?_
      refine j_bipush (pc := 3) (v := nI 12) C dX0_fitsForm_3 (by decide) ?_
      refine j_icmp_ge (pc := 5) 25 C dX0_fitsForm_5 (by decide) (fun h1 => ?_) (fun h1 => ?_)
      · replace hk := it_t h1 hk
        refine j_aload_n (pc := 25) C dX0_fitsForm_25 rfl rfl ?_
        replace hk := orf_some hk
        obtain ⟨t26, et26, hk⟩ := hk
        refine x_getR (pc := 26) C fd_0_1 (fl1 C q373) (stN_o0 hS).r et26 dX0_fitsForm_26 ?_
        refine j_iload_n (pc := 29) C dX0_fitsForm_29 rfl rfl ?_
        refine j_aload_n (pc := 30) C dX0_fitsForm_30 rfl rfl ?_
        refine x_getR (pc := 31) C fd_0_8 (fl1 C q380) (stN_o0 hS).r (stN_r0_8 hS) dX0_fitsForm_31 ?_
        replace hk := ock_some hk
        obtain ⟨h2, hk⟩ := hk
        replace hk := ob_some hk
        obtain ⟨r34, h3, hk⟩ := hk
        refine x_callV (pc := 34) C (ct_X2_fits hS h3) mv_X2_fits h2 rfl rfl q1530 dX0_fitsForm_34 rfl rfl (Nat.le_of_ble_eq_true rfl) rfl ?_
        replace hk := og_some hk
        obtain ⟨h4, hk⟩ := hk
        obtain rfl := Option.some.inj hk
        exact j_zret (pc := 37) C dX0_fitsForm_37 (Nat.le_of_ble_eq_true rfl) (Nat.le_of_ble_eq_true rfl) (isB.nar h4)
      · replace hk := it_f h1 hk
        refine j_aload_n (pc := 8) C dX0_fitsForm_8 rfl rfl ?_
        refine x_getR (pc := 9) C fd_0_8 (fl1 C q380) (stN_o0 hS).r (stN_r0_8 hS) dX0_fitsForm_9 ?_
        refine j_iload_n (pc := 12) C dX0_fitsForm_12 rfl rfl ?_
        refine j_iload_n (pc := 13) C dX0_fitsForm_13 rfl rfl ?_
        refine j_iload_n (pc := 14) C dX0_fitsForm_14 rfl rfl ?_
        replace hk := ob_some hk
        obtain ⟨r15, h5, hk⟩ := hk
        refine j_callS (pc := 15) C (ct_X0_formed h5) ms_X0_formed q499 dX0_fitsForm_15 rfl rfl (Nat.le_of_ble_eq_true rfl) rfl ?_
        replace hk := oix_ex hk
        obtain ⟨i18, e18, h6, hk⟩ := hk
        refine j_iast (pc := 18) C (stN_a20 hS) h6 e18 dX0_fitsForm_18 ?_
        refine j_iinc (pc := 19) (nI 1) C dX0_fitsForm_19 rfl (by decide) (Nat.le_of_ble_eq_true rfl) rfl ?_
        refine j_goto (pc := 22) 2 C dX0_fitsForm_22 (by decide) ?_
        exact j_mask [true, true, true, true] (ih2 _ _ hk)
  exact j_mask [true, true, true, true] (L2 _ _ _ _ _ hk)
def f_X0_word_J51 (F : Nat) (sh : SH) (s0 : Nat) (I : II) : Option (Int32 × II) := bd2 (f_X0_finds sh s0 I) fun r54 I54 => some (r54, I54)
def f_X0_word_J45 (F : Nat) (sh : SH) (x2 : Int32) (s1 : Int32) (I : II) : Option (Int32 × II) := bd2 (f_X0_need sh s1 (nI 2) I) fun u46 I46 => oex u46 (fun _w46 => some (x2, I46)) (fun w46 => ock sh w46 1 <| f_X0_word_J51 F sh w46 I46)
def f_X0_word_J33 (F : Nat) (sh : SH) (x2 : Int32) (I : II) : Option (Int32 × II) := if (nI 12) ≤ x2 then f_X0_word_J45 F sh x2 (nI 0) I else f_X0_word_J45 F sh x2 (nI 1) I
def f_X0_word_L12 (F : Nat) (sh : SH) (x1 : Int32) : Nat → Int32 → II → Option (Int32 × II)
  | 0, _, _ => none
  | n12 + 1, x2, I => if (nI 12) ≤ x2 then f_X0_word_J33 F sh x2 I else bd2 (f_X0_fitsForm F sh x1 x2 I) fun r21 I21 => if r21 = 0 then (f_X0_word_L12 F sh x1 n12) (x2 + (nI 1)) I21 else f_X0_word_J33 F sh x2 I21
def f_X0_word (F : Nat) (sh : SH) (x1 : Int32) (I : II) : Option (Int32 × II) := (f_X0_isSet sh x1 I).bind fun r3 => bd2 (f_X0_need sh r3 (nI 1) I) fun u7 I7 => oex u7 (fun _w7 => f_X0_word_L12 F sh x1 F (nI 0) I7) (fun w7 => ock sh w7 1 <| f_X0_word_J51 F sh w7 I7)
abbrev rm_X0_word : Room := { frames := 5, cells := 0, slots := 0, locals := 114 }
theorem mv_X0_word_ok : callOK yX0_word 1 := by decide +kernel
theorem mw_X0_word : MW yX0_word cX0_word 3 (some .int) [(0, 50, 51, 8)] 1 := ⟨q1523, q1524, q91, q1525, mv_X0_word_ok⟩
set_option maxHeartbeats 4000000 in
theorem ct_X0_word {G : WG} {l : Launch} {sh : SH} (hS : stN sh) {I : II} {F : Nat} {x1 : Int32} {Z : (Int32 × II)} (hk : f_X0_word F sh x1 I = some Z) : CT G l yX0_word (wsW_ yX0_word cX0_word 3 (some .int) [(0, 50, 51, 8)]) rm_X0_word [.ref (wad G 0), .int x1] (sh, I) (.returned (some (.int Z.1))) (sh, Z.2) := by
  refine CT.ofJW "NineDemands" rfl (by decide) (Nat.le_of_ble_eq_true rfl) ?_
  intro p e s m args below meth c C
  unfold f_X0_word at hk
  refine j_lv (lv' := [some (.ref (wad G 0)), some (.int x1), none]) rfl ?_
  refine j_aload_n (pc := 0) C dX0_word_0 rfl rfl ?_
  refine j_aload_n (pc := 1) C dX0_word_1 rfl rfl ?_
  refine j_iload_n (pc := 2) C dX0_word_2 rfl rfl ?_
  replace hk := ob_some hk
  obtain ⟨r3, h1, hk⟩ := hk
  refine x_callV (pc := 3) C (ct_X0_isSet hS h1) mv_X0_isSet (stN_o0 hS).r rfl rfl q1415 dX0_word_3 rfl rfl (Nat.le_of_ble_eq_true rfl) rfl ?_
  refine j_iconst (pc := 6) (v := nI 1) C dX0_word_6 (by decide) ?_
  have Jn51 : ∀ (s0 : Nat) (I : II), f_X0_word_J51 F sh s0 I = some Z → J G p l e rm_X0_word s m args below meth c 3 (.returned (some (.int Z.1))) (sh, Z.2) (rm_X0_word).cells (rm_X0_word).slots (sh, I) 0 0 51 [some (.ref (wad G 0)), none, none] [.ref (wad G s0)] := by
    intro s0 I hk
    unfold f_X0_word_J51 at hk
    refine j_astore_n (pc := 51) C dX0_word_51 rfl (Nat.le_of_ble_eq_true rfl) rfl ?_
    refine j_aload_n (pc := 52) C dX0_word_52 rfl rfl ?_
    refine j_aload_n (pc := 53) C dX0_word_53 rfl rfl ?_
    replace hk := bd2_some hk
    obtain ⟨r54, I54, h2, hk⟩ := hk
    refine x_callV (pc := 54) C (ct_X0_finds hS h2) mv_X0_finds (stN_o0 hS).r rfl rfl q433 dX0_word_54 rfl rfl (Nat.le_of_ble_eq_true rfl) rfl ?_
    obtain rfl := Option.some.inj hk
    exact j_iret (pc := 57) C dX0_word_57 (Nat.le_of_ble_eq_true rfl) (Nat.le_of_ble_eq_true rfl)
  replace hk := bd2_some hk
  obtain ⟨u7, I7, h3, hk⟩ := hk
  cases u7 with
  | inr w7 =>
    replace hk := oex_r hk
    replace hk := ock_some hk
    obtain ⟨h5, hk⟩ := hk
    refine x_callVC [] [] (0, 50, 51, 8) (pc := 7) C (ct_X0_need hS h3) mv_X0_need (stN_o0 hS).r rfl rfl q416 dX0_word_7 rfl rfl (Nat.le_of_ble_eq_true rfl) rfl rfl h5 rfl (by decide) (by decide) q146 (fun z hz => by cases hz) ?_
    exact j_mask [true, false, false] (Jn51 _ _ hk)
  | inl _w7 =>
    replace hk := oex_l hk
    refine x_callV (pc := 7) C (ct_X0_need hS h3) mv_X0_need (stN_o0 hS).r rfl rfl q416 dX0_word_7 rfl rfl (Nat.le_of_ble_eq_true rfl) rfl ?_
    refine j_iconst (pc := 10) (v := nI 0) C dX0_word_10 (by decide) ?_
    refine j_istore_n (pc := 11) C dX0_word_11 rfl (Nat.le_of_ble_eq_true rfl) rfl ?_
    have L12 : ∀ (x1 : Int32) (n12 : Nat) (x2 : Int32) (I : II), f_X0_word_L12 F sh x1 n12 x2 I = some Z → J G p l e rm_X0_word s m args below meth c 3 (.returned (some (.int Z.1))) (sh, Z.2) (rm_X0_word).cells (rm_X0_word).slots (sh, I) 0 0 12 [some (.ref (wad G 0)), some (.int x1), some (.int x2)] [] := by
      intro x1 n12
      induction n12 with
      | zero => intro x2 I hk; rw [f_X0_word_L12] at hk; cases hk
      | succ n12 ih12 =>
        intro x2 I hk
        rw [f_X0_word_L12] at hk
        generalize f_X0_word_L12 F sh x1 n12 = k12 at ih12 hk
        refine j_iload_n (pc := 12) C dX0_word_12 rfl rfl ?_
        refine j_bipush (pc := 13) (v := nI 12) C dX0_word_13 (by decide) ?_
        have Jn33 : ∀ (x2 : Int32) (I : II), f_X0_word_J33 F sh x2 I = some Z → J G p l e rm_X0_word s m args below meth c 3 (.returned (some (.int Z.1))) (sh, Z.2) (rm_X0_word).cells (rm_X0_word).slots (sh, I) 0 0 33 [some (.ref (wad G 0)), none, some (.int x2)] [] := by
          intro x2 I hk
          unfold f_X0_word_J33 at hk
          refine j_aload_n (pc := 33) C dX0_word_33 rfl rfl ?_
          refine j_iload_n (pc := 34) C dX0_word_34 rfl rfl ?_
          refine j_bipush (pc := 35) (v := nI 12) C dX0_word_35 (by decide) ?_
          have Jn45 : ∀ (x2 : Int32) (s1 : Int32) (I : II), f_X0_word_J45 F sh x2 s1 I = some Z → J G p l e rm_X0_word s m args below meth c 3 (.returned (some (.int Z.1))) (sh, Z.2) (rm_X0_word).cells (rm_X0_word).slots (sh, I) 0 0 45 [some (.ref (wad G 0)), none, some (.int x2)] [.int s1, .ref (wad G 0)] := by
            intro x2 s1 I hk
            unfold f_X0_word_J45 at hk
            refine j_iconst (pc := 45) (v := nI 2) C dX0_word_45 (by decide) ?_
            replace hk := bd2_some hk
            obtain ⟨u46, I46, h6, hk⟩ := hk
            cases u46 with
            | inr w46 =>
              replace hk := oex_r hk
              replace hk := ock_some hk
              obtain ⟨h8, hk⟩ := hk
              refine x_callVC [] [] (0, 50, 51, 8) (pc := 46) C (ct_X0_need hS h6) mv_X0_need (stN_o0 hS).r rfl rfl q416 dX0_word_46 rfl rfl (Nat.le_of_ble_eq_true rfl) rfl rfl h8 rfl (by decide) (by decide) q146 (fun z hz => by cases hz) ?_
              exact j_mask [true, false, false] (Jn51 _ _ hk)
            | inl _w46 =>
              replace hk := oex_l hk
              refine x_callV (pc := 46) C (ct_X0_need hS h6) mv_X0_need (stN_o0 hS).r rfl rfl q416 dX0_word_46 rfl rfl (Nat.le_of_ble_eq_true rfl) rfl ?_
              refine j_iload_n (pc := 49) C dX0_word_49 rfl rfl ?_
              obtain rfl := Option.some.inj hk
              exact j_iret (pc := 50) C dX0_word_50 (Nat.le_of_ble_eq_true rfl) (Nat.le_of_ble_eq_true rfl)
          refine j_icmp_ge (pc := 37) 44 C dX0_word_37 (by decide) (fun h9 => ?_) (fun h9 => ?_)
          · replace hk := it_t h9 hk
            refine j_iconst (pc := 44) (v := nI 0) C dX0_word_44 (by decide) ?_
            exact j_mask [true, false, true] (Jn45 _ _ _ hk)
          · replace hk := it_f h9 hk
            refine j_iconst (pc := 40) (v := nI 1) C dX0_word_40 (by decide) ?_
            refine j_goto (pc := 41) 45 C dX0_word_41 (by decide) ?_
            exact j_mask [true, false, true] (Jn45 _ _ _ hk)
        refine j_icmp_ge (pc := 15) 33 C dX0_word_15 (by decide) (fun h10 => ?_) (fun h10 => ?_)
        · replace hk := it_t h10 hk
          exact j_mask [true, false, true] (Jn33 _ _ hk)
        · replace hk := it_f h10 hk
          refine j_aload_n (pc := 18) C dX0_word_18 rfl rfl ?_
          refine j_iload_n (pc := 19) C dX0_word_19 rfl rfl ?_
          refine j_iload_n (pc := 20) C dX0_word_20 rfl rfl ?_
          replace hk := bd2_some hk
          obtain ⟨r21, I21, h11, hk⟩ := hk
          refine x_callV (pc := 21) C (ct_X0_fitsForm hS h11) mv_X0_fitsForm (stN_o0 hS).r rfl rfl q1526 dX0_word_21 rfl rfl (Nat.le_of_ble_eq_true rfl) rfl ?_
          refine j_if_ne (pc := 24) 33 C dX0_word_24 (by decide) (fun h12 => ?_) (fun h12 => ?_)
          · replace hk := it_f h12 hk
            exact j_mask [true, false, true] (Jn33 _ _ hk)
          · replace hk := it_t h12 hk
            refine j_iinc (pc := 27) (nI 1) C dX0_word_27 rfl (by decide) (Nat.le_of_ble_eq_true rfl) rfl ?_
            refine j_goto (pc := 30) 12 C dX0_word_30 (by decide) ?_
            exact j_mask [true, true, true] (ih12 _ _ hk)
    exact j_mask [true, true, true] (L12 _ _ _ _ hk)
def f_X6_tied_L26 (F : Nat) (sh : SH) (I : II) (k6 : Int32 → Int32 → Option Int32) (k16 : Int32 → Int32 → Option Int32) (x3 : Int32) (x4 : Int32) : Nat → Int32 → Int32 → Option Int32
  | 0, _, _ => none
  | n26 + 1, x2, x5 => if (nI 12) ≤ x5 then k16 x2 (x4 + (nI 1)) else (f_X0_has x2 x4).bind fun r36 => if r36 = 0 then k16 x2 (x4 + (nI 1)) else oix (((nI 12) * x4) + x5) 144 fun i55 => if (I 14 i55) = (nI 511) then (f_X6_tied_L26 F sh I k6 k16 x3 x4 n26) (x2 ||| (nI 0)) (x5 + (nI 1)) else (f_X6_tied_L26 F sh I k6 k16 x3 x4 n26) (x2 ||| ((nI 1) <<< (x5 &&& 31))) (x5 + (nI 1))
def f_X6_tied_L16 (F : Nat) (sh : SH) (I : II) (k6 : Int32 → Int32 → Option Int32) (x3 : Int32) : Nat → Int32 → Int32 → Option Int32
  | 0, _, _ => none
  | n16 + 1, x2, x4 => if (nI 12) ≤ x4 then k6 x2 x3 else f_X6_tied_L26 F sh I k6 (f_X6_tied_L16 F sh I k6 x3 n16) x3 x4 F x2 (nI 0)
def f_X6_tied_L6 (F : Nat) (sh : SH) (I : II) : Nat → Int32 → Int32 → Option Int32
  | 0, _, _ => none
  | n6 + 1, x2, x3 => if x3 = x2 then some x2 else f_X6_tied_L16 F sh I (f_X6_tied_L6 F sh I n6) x2 F x2 (nI 0)
def f_X6_tied (F : Nat) (sh : SH) (x1 : Int32) (I : II) : Option Int32 := f_X6_tied_L6 F sh I F ((nI 1) <<< (x1 &&& 31)) (nI 0)
abbrev rm_X6_tied : Room := { frames := 1, cells := 0, slots := 0, locals := 21 }
theorem mv_X6_tied_ok : callOK yX6_tied 1 := by decide +kernel
theorem mv_X6_tied : MV yX6_tied cX6_tied 6 (some .int) 1 := ⟨q1493, q1494, q103, q1495, mv_X6_tied_ok⟩
set_option maxHeartbeats 4000000 in
theorem ct_X6_tied {G : WG} {l : Launch} {sh : SH} (hS : stN sh) {I : II} {F : Nat} {x1 : Int32} {Z : Int32} (hk : f_X6_tied F sh x1 I = some Z) : CT G l yX6_tied (ws_ yX6_tied cX6_tied 6 (some .int)) rm_X6_tied [.ref (wad G 12), .int x1] (sh, I) (.returned (some (.int Z))) (sh, I) := by
  refine CT.ofJ "NineDemands$Web" rfl (by decide) (Nat.le_of_ble_eq_true rfl) ?_
  intro p e s m args below meth c C
  unfold f_X6_tied at hk
  refine j_lv (lv' := [some (.ref (wad G 12)), some (.int x1), none, none, none, none]) rfl ?_
  refine j_iconst (pc := 0) (v := nI 1) C dX6_tied_0 (by decide) ?_
  refine j_iload_n (pc := 1) C dX6_tied_1 rfl rfl ?_
  refine j_ishl (pc := 2) C dX6_tied_2 ?_
  refine j_istore_n (pc := 3) C dX6_tied_3 rfl (Nat.le_of_ble_eq_true rfl) rfl ?_
  refine j_iconst (pc := 4) (v := nI 0) C dX6_tied_4 (by decide) ?_
  refine j_istore_n (pc := 5) C dX6_tied_5 rfl (Nat.le_of_ble_eq_true rfl) rfl ?_
  have L6 : ∀  (n6 : Nat) (x2 : Int32) (x3 : Int32), f_X6_tied_L6 F sh I n6 x2 x3 = some Z → J G p l e rm_X6_tied s m args below meth c 6 (.returned (some (.int Z))) (sh, I) (rm_X6_tied).cells (rm_X6_tied).slots (sh, I) 0 0 6 [some (.ref (wad G 12)), none, some (.int x2), some (.int x3), none, none] [] := by
    intro  n6
    induction n6 with
    | zero => intro x2 x3 hk; rw [f_X6_tied_L6] at hk; cases hk
    | succ n6 ih6 =>
      intro x2 x3 hk
      rw [f_X6_tied_L6] at hk
      generalize f_X6_tied_L6 F sh I n6 = k6 at ih6 hk
      refine j_iload_n (pc := 6) C dX6_tied_6 rfl rfl ?_
      refine j_iload_n (pc := 7) C dX6_tied_7 rfl rfl ?_
      refine j_icmp_eq (pc := 8) 87 C dX6_tied_8 (by decide) (fun h1 => ?_) (fun h1 => ?_)
      · replace hk := it_t h1 hk
        refine j_iload_n (pc := 87) C dX6_tied_87 rfl rfl ?_
        obtain rfl := Option.some.inj hk
        exact j_iret (pc := 88) C dX6_tied_88 (Nat.le_of_ble_eq_true rfl) (Nat.le_of_ble_eq_true rfl)
      · replace hk := it_f h1 hk
        refine j_iload_n (pc := 11) C dX6_tied_11 rfl rfl ?_
        refine j_istore_n (pc := 12) C dX6_tied_12 rfl (Nat.le_of_ble_eq_true rfl) rfl ?_
        refine j_iconst (pc := 13) (v := nI 0) C dX6_tied_13 (by decide) ?_
        refine j_istore (pc := 14) C dX6_tied_14 (Nat.le_of_ble_eq_true rfl) rfl ?_
        have L16 : ∀ (x3 : Int32) (n16 : Nat) (x2 : Int32) (x4 : Int32), f_X6_tied_L16 F sh I k6 x3 n16 x2 x4 = some Z → J G p l e rm_X6_tied s m args below meth c 6 (.returned (some (.int Z))) (sh, I) (rm_X6_tied).cells (rm_X6_tied).slots (sh, I) 0 0 16 [some (.ref (wad G 12)), none, some (.int x2), some (.int x3), some (.int x4), none] [] := by
          intro x3 n16
          induction n16 with
          | zero => intro x2 x4 hk; rw [f_X6_tied_L16] at hk; cases hk
          | succ n16 ih16 =>
            intro x2 x4 hk
            rw [f_X6_tied_L16] at hk
            generalize f_X6_tied_L16 F sh I k6 x3 n16 = k16 at ih16 hk
            refine j_iload (pc := 16) C dX6_tied_16 rfl ?_
            refine j_bipush (pc := 18) (v := nI 12) C dX6_tied_18 (by decide) ?_
            refine j_icmp_ge (pc := 20) 84 C dX6_tied_20 (by decide) (fun h2 => ?_) (fun h2 => ?_)
            · replace hk := it_t h2 hk
              refine j_goto (pc := 84) 6 C dX6_tied_84 (by decide) ?_
              exact j_mask [true, false, true, true, false, false] (ih6 _ _ hk)
            · replace hk := it_f h2 hk
              refine j_iconst (pc := 23) (v := nI 0) C dX6_tied_23 (by decide) ?_
              refine j_istore (pc := 24) C dX6_tied_24 (Nat.le_of_ble_eq_true rfl) rfl ?_
              have L26 : ∀ (x4 : Int32) (n26 : Nat) (x2 : Int32) (x5 : Int32), f_X6_tied_L26 F sh I k6 k16 x3 x4 n26 x2 x5 = some Z → J G p l e rm_X6_tied s m args below meth c 6 (.returned (some (.int Z))) (sh, I) (rm_X6_tied).cells (rm_X6_tied).slots (sh, I) 0 0 26 [some (.ref (wad G 12)), none, some (.int x2), some (.int x3), some (.int x4), some (.int x5)] [] := by
                intro x4 n26
                induction n26 with
                | zero => intro x2 x5 hk; rw [f_X6_tied_L26] at hk; cases hk
                | succ n26 ih26 =>
                  intro x2 x5 hk
                  rw [f_X6_tied_L26] at hk
                  generalize f_X6_tied_L26 F sh I k6 k16 x3 x4 n26 = k26 at ih26 hk
                  refine j_iload (pc := 26) C dX6_tied_26 rfl ?_
                  refine j_bipush (pc := 28) (v := nI 12) C dX6_tied_28 (by decide) ?_
                  refine j_icmp_ge (pc := 30) 78 C dX6_tied_30 (by decide) (fun h3 => ?_) (fun h3 => ?_)
                  · replace hk := it_t h3 hk
                    refine j_iinc (pc := 78) (nI 1) C dX6_tied_78 rfl (by decide) (Nat.le_of_ble_eq_true rfl) rfl ?_
                    refine j_goto (pc := 81) 16 C dX6_tied_81 (by decide) ?_
                    exact j_mask [true, false, true, true, true, false] (ih16 _ _ hk)
                  · replace hk := it_f h3 hk
                    refine j_iload_n (pc := 33) C dX6_tied_33 rfl rfl ?_
                    refine j_iload (pc := 34) C dX6_tied_34 rfl ?_
                    replace hk := ob_some hk
                    obtain ⟨r36, h4, hk⟩ := hk
                    refine x_callSN (pc := 36) C (ct_X0_has h4) ms_X0_has q1496 dX6_tied_36 rfl rfl (Nat.le_of_ble_eq_true rfl) rfl ?_
                    refine j_if_eq (pc := 39) 78 C dX6_tied_39 (by decide) (fun h5 => ?_) (fun h5 => ?_)
                    · replace hk := it_t h5 hk
                      refine j_iinc (pc := 78) (nI 1) C dX6_tied_78 rfl (by decide) (Nat.le_of_ble_eq_true rfl) rfl ?_
                      refine j_goto (pc := 81) 16 C dX6_tied_81 (by decide) ?_
                      exact j_mask [true, false, true, true, true, false] (ih16 _ _ hk)
                    · replace hk := it_f h5 hk
                      refine j_iload_n (pc := 42) C dX6_tied_42 rfl rfl ?_
                      refine j_aload_n (pc := 43) C dX6_tied_43 rfl rfl ?_
                      refine x_getR (pc := 44) C fd_7_1 (fl1 C q314) (stN_o12 hS).r (stN_r12_1 hS) dX6_tied_44 ?_
                      refine j_bipush (pc := 47) (v := nI 12) C dX6_tied_47 (by decide) ?_
                      refine j_iload (pc := 49) C dX6_tied_49 rfl ?_
                      refine j_imul (pc := 51) C dX6_tied_51 ?_
                      refine j_iload (pc := 52) C dX6_tied_52 rfl ?_
                      refine j_iadd (pc := 54) C dX6_tied_54 ?_
                      replace hk := oix_ex hk
                      obtain ⟨i55, e55, h6, hk⟩ := hk
                      refine j_iald (pc := 55) C (stN_a14 hS) h6 e55 dX6_tied_55 ?_
                      refine j_sipush (pc := 56) (v := nI 511) C dX6_tied_56 (by decide) ?_
                      refine j_icmp_eq (pc := 59) 69 C dX6_tied_59 (by decide) (fun h7 => ?_) (fun h7 => ?_)
                      · replace hk := it_t h7 hk
                        refine j_iconst (pc := 69) (v := nI 0) C dX6_tied_69 (by decide) ?_
                        refine j_ior (pc := 70) C dX6_tied_70 ?_
                        refine j_istore_n (pc := 71) C dX6_tied_71 rfl (Nat.le_of_ble_eq_true rfl) rfl ?_
                        refine j_iinc (pc := 72) (nI 1) C dX6_tied_72 rfl (by decide) (Nat.le_of_ble_eq_true rfl) rfl ?_
                        refine j_goto (pc := 75) 26 C dX6_tied_75 (by decide) ?_
                        exact j_mask [true, false, true, true, true, true] (ih26 _ _ hk)
                      · replace hk := it_f h7 hk
                        refine j_iconst (pc := 62) (v := nI 1) C dX6_tied_62 (by decide) ?_
                        refine j_iload (pc := 63) C dX6_tied_63 rfl ?_
                        refine j_ishl (pc := 65) C dX6_tied_65 ?_
                        refine j_goto (pc := 66) 70 C dX6_tied_66 (by decide) ?_
                        refine j_ior (pc := 70) C dX6_tied_70 ?_
                        refine j_istore_n (pc := 71) C dX6_tied_71 rfl (Nat.le_of_ble_eq_true rfl) rfl ?_
                        refine j_iinc (pc := 72) (nI 1) C dX6_tied_72 rfl (by decide) (Nat.le_of_ble_eq_true rfl) rfl ?_
                        refine j_goto (pc := 75) 26 C dX6_tied_75 (by decide) ?_
                        exact j_mask [true, false, true, true, true, true] (ih26 _ _ hk)
              exact j_mask [true, false, true, true, true, true] (L26 _ _ _ _ hk)
        exact j_mask [true, false, true, true, true, false] (L16 _ _ _ _ hk)
  exact j_mask [true, false, true, true, false, false] (L6  _ _ _ hk)
theorem mv_X5_nears_ok : callOK yX5_nears 3 := by decide +kernel
theorem mv_X5_nears : MV yX5_nears cX5_nears 6 none 3 := ⟨q1520, qs30, q102, q1521, mv_X5_nears_ok⟩
def f_X5_nears_L84 (F : Nat) (c_X5_nears : SH → Int32 → Int32 → Nat → II → Option II) (sh : SH) (x1 : Int32) (x2 : Int32) (x3 : Nat) (x4 : Int32) : Nat → Int32 → II → Option II
  | 0, _, _ => none
  | n84 + 1, x5, I => if (nI 3) < x5 then some I else if x5 = x4 then (f_X5_nears_L84 F c_X5_nears sh x1 x2 x3 x4 n84) (x5 + (nI 1)) I else (f_X5_isLeft sh x1 x5 I).bind fun r101 => if r101 = 0 then (f_X5_nears_L84 F c_X5_nears sh x1 x2 x3 x4 n84) (x5 + (nI 1)) I else bd2 (f_X5_goesOn F sh x1 x5 I) fun r111 I111 => if r111 = 0 then (f_X5_nears_L84 F c_X5_nears sh x1 x2 x3 x4 n84) (x5 + (nI 1)) I111 else (c_X5_nears sh (x1 + (nI 1)) (x2 + (nI 1)) x3 I111).bind fun I125 => (f_X5_nears_L84 F c_X5_nears sh x1 x2 x3 x4 n84) (x5 + (nI 1)) I125
def fb_X5_nears (F : Nat) (c_X5_nears : SH → Int32 → Int32 → Nat → II → Option II) (sh : SH) (x1 : Int32) (x2 : Int32) (x3 : Nat) (I : II) : Option II := if x2 < (I 11 4) then if x1 = (nI 12) then some (up2 I 11 4 x2) else (f_X0_has (I 11 3) x1).bind fun r26 => if r26 = 0 then (f_X5_passes F sh x1 I).bind fun I34 => (c_X5_nears sh (x1 + (nI 1)) x2 x3 I34).bind fun I43 => some I43 else oarw sh x3 100 fun nh5 => oix x1 nh5 fun i49 => (f_X5_isLeft sh x1 (I x3 i49) I).bind fun r56 => if r56 = 0 then f_X5_nears_L84 F c_X5_nears sh x1 x2 x3 (I x3 i49) F (nI 1) I else bd2 (f_X5_goesOn F sh x1 (I x3 i49) I) fun r66 I66 => if r66 = 0 then f_X5_nears_L84 F c_X5_nears sh x1 x2 x3 (I x3 i49) F (nI 1) I66 else (c_X5_nears sh (x1 + (nI 1)) x2 x3 I66).bind fun I78 => f_X5_nears_L84 F c_X5_nears sh x1 x2 x3 (I x3 i49) F (nI 1) I78 else some I
set_option maxHeartbeats 4000000 in
theorem ctb_X5_nears {G : WG} {l : Launch} {sh : SH} (hS : stN sh) {Rf Rl : Nat} {F : Nat} {fc_X5_nears lc_X5_nears : Nat} {c_X5_nears : SH → Int32 → Int32 → Nat → II → Option II} (hc_X5_nears : ∀ {x1 : Int32} {x2 : Int32} {x3 : Nat} {I : II} {Z : II}, c_X5_nears sh x1 x2 x3 I = some Z → CT G l yX5_nears (ws_ yX5_nears cX5_nears 6 none) (rmA fc_X5_nears lc_X5_nears 0) [.ref (wad G 11), .int x1, .int x2, .ref (wad G x3)] (sh, I) (.returned none) (sh, Z)) (hr_X0_has : 0 + 1 ≤ Rf ∧ 8 + (2 + 11) + 0 ≤ Rl) (hr_X5_isLeft : 1 + 1 ≤ Rf ∧ 8 + (3 + 11) + 21 ≤ Rl) (hr_X5_goesOn : 1 + 1 ≤ Rf ∧ 8 + (6 + 11) + 21 ≤ Rl) (hr_X5_nears : fc_X5_nears + 1 ≤ Rf ∧ 8 + (6 + 11) + lc_X5_nears ≤ Rl) (hr_X5_passes : 0 + 1 ≤ Rf ∧ 8 + (3 + 11) + 0 ≤ Rl) {x1 : Int32} {x2 : Int32} {x3 : Nat} {I : II} {Z : II} (hk : fb_X5_nears F c_X5_nears sh x1 x2 x3 I = some Z) : CT G l yX5_nears (ws_ yX5_nears cX5_nears 6 none) (rmA Rf Rl 0) [.ref (wad G 11), .int x1, .int x2, .ref (wad G x3)] (sh, I) (.returned none) (sh, Z) := by
  refine CT.ofJ "NineDemands$Search" rfl (by decide) (Nat.le_of_ble_eq_true rfl) ?_
  intro p e s m args below meth c C
  unfold fb_X5_nears at hk
  refine j_lv (lv' := [some (.ref (wad G 11)), some (.int x1), some (.int x2), some (.ref (wad G x3)), none, none]) rfl ?_
  refine j_iload_n (pc := 0) C dX5_nears_0 rfl rfl ?_
  refine j_aload_n (pc := 1) C dX5_nears_1 rfl rfl ?_
  refine x_getI (pc := 2) C fd_6_4 (fl1 C q327) (stN_o11 hS).r dX5_nears_2 ?_
  refine j_icmp_lt (pc := 5) 9 C dX5_nears_5 (by decide) (fun h1 => ?_) (fun h1 => ?_)
  · replace hk := it_t h1 hk
    refine j_iload_n (pc := 9) C dX5_nears_9 rfl rfl ?_
    refine j_bipush (pc := 10) (v := nI 12) C dX5_nears_10 (by decide) ?_
    refine j_icmp_ne (pc := 12) 21 C dX5_nears_12 (by decide) (fun h2 => ?_) (fun h2 => ?_)
    · replace hk := it_f h2 hk
      refine j_aload_n (pc := 21) C dX5_nears_21 rfl rfl ?_
      refine x_getI (pc := 22) C fd_6_3 (fl1 C q326) (stN_o11 hS).r dX5_nears_22 ?_
      refine j_iload_n (pc := 25) C dX5_nears_25 rfl rfl ?_
      replace hk := ob_some hk
      obtain ⟨r26, h3, hk⟩ := hk
      refine x_callSN (pc := 26) C (ct_X0_has h3) ms_X0_has q1461 dX5_nears_26 rfl rfl (Nat.le_of_ble_eq_true rfl) (rmOK.i hr_X0_has.1 hr_X0_has.2 (Nat.zero_le _) (Nat.zero_le _)) ?_
      refine j_if_ne (pc := 29) 47 C dX5_nears_29 (by decide) (fun h4 => ?_) (fun h4 => ?_)
      · replace hk := it_f h4 hk
        refine j_aload_n (pc := 47) C dX5_nears_47 rfl rfl ?_
        refine j_iload_n (pc := 48) C dX5_nears_48 rfl rfl ?_
        replace hk := oarw_some hk
        obtain ⟨nh5, h5, hk⟩ := hk
        replace hk := oix_ex hk
        obtain ⟨i49, e49, h6, hk⟩ := hk
        refine j_iald (pc := 49) C h5 h6 e49 dX5_nears_49 ?_
        refine j_istore (pc := 50) C dX5_nears_50 (Nat.le_of_ble_eq_true rfl) rfl ?_
        refine j_aload_n (pc := 52) C dX5_nears_52 rfl rfl ?_
        refine j_iload_n (pc := 53) C dX5_nears_53 rfl rfl ?_
        refine j_iload (pc := 54) C dX5_nears_54 rfl ?_
        replace hk := ob_some hk
        obtain ⟨r56, h7, hk⟩ := hk
        refine x_callV (pc := 56) C (ct_X5_isLeft hS h7) mv_X5_isLeft (stN_o11 hS).r rfl rfl q1466 dX5_nears_56 rfl rfl (Nat.le_of_ble_eq_true rfl) (rmOK.i hr_X5_isLeft.1 hr_X5_isLeft.2 (Nat.zero_le _) (Nat.zero_le _)) ?_
        refine j_if_eq (pc := 59) 81 C dX5_nears_59 (by decide) (fun h8 => ?_) (fun h8 => ?_)
        · replace hk := it_t h8 hk
          refine j_iconst (pc := 81) (v := nI 1) C dX5_nears_81 (by decide) ?_
          refine j_istore (pc := 82) C dX5_nears_82 (Nat.le_of_ble_eq_true rfl) rfl ?_
          have L84 : ∀ (x1 : Int32) (x2 : Int32) (x3 : Nat) (x4 : Int32) (n84 : Nat) (x5 : Int32) (I : II), f_X5_nears_L84 F c_X5_nears sh x1 x2 x3 x4 n84 x5 I = some Z → J G p l e (rmA Rf Rl 0) s m args below meth c 6 (.returned none) (sh, Z) ((rmA Rf Rl 0)).cells ((rmA Rf Rl 0)).slots (sh, I) 0 0 84 [some (.ref (wad G 11)), some (.int x1), some (.int x2), some (.ref (wad G x3)), some (.int x4), some (.int x5)] [] := by
            intro x1 x2 x3 x4 n84
            induction n84 with
            | zero => intro x5 I hk; rw [f_X5_nears_L84] at hk; cases hk
            | succ n84 ih84 =>
              intro x5 I hk
              rw [f_X5_nears_L84] at hk
              generalize f_X5_nears_L84 F c_X5_nears sh x1 x2 x3 x4 n84 = k84 at ih84 hk
              refine j_iload (pc := 84) C dX5_nears_84 rfl ?_
              refine j_iconst (pc := 86) (v := nI 3) C dX5_nears_86 (by decide) ?_
              refine j_icmp_gt (pc := 87) 134 C dX5_nears_87 (by decide) (fun h9 => ?_) (fun h9 => ?_)
              · replace hk := it_t h9 hk
                obtain rfl := Option.some.inj hk
                exact j_vret (pc := 134) C dX5_nears_134 (Nat.zero_le _) (Nat.zero_le _)
              · replace hk := it_f h9 hk
                refine j_iload (pc := 90) C dX5_nears_90 rfl ?_
                refine j_iload (pc := 92) C dX5_nears_92 rfl ?_
                refine j_icmp_eq (pc := 94) 128 C dX5_nears_94 (by decide) (fun h10 => ?_) (fun h10 => ?_)
                · replace hk := it_t h10 hk
                  refine j_iinc (pc := 128) (nI 1) C dX5_nears_128 rfl (by decide) (Nat.le_of_ble_eq_true rfl) rfl ?_
                  refine j_goto (pc := 131) 84 C dX5_nears_131 (by decide) ?_
                  exact j_mask [true, true, true, true, true, true] (ih84 _ _ hk)
                · replace hk := it_f h10 hk
                  refine j_aload_n (pc := 97) C dX5_nears_97 rfl rfl ?_
                  refine j_iload_n (pc := 98) C dX5_nears_98 rfl rfl ?_
                  refine j_iload (pc := 99) C dX5_nears_99 rfl ?_
                  replace hk := ob_some hk
                  obtain ⟨r101, h11, hk⟩ := hk
                  refine x_callV (pc := 101) C (ct_X5_isLeft hS h11) mv_X5_isLeft (stN_o11 hS).r rfl rfl q1466 dX5_nears_101 rfl rfl (Nat.le_of_ble_eq_true rfl) (rmOK.i hr_X5_isLeft.1 hr_X5_isLeft.2 (Nat.zero_le _) (Nat.zero_le _)) ?_
                  refine j_if_eq (pc := 104) 128 C dX5_nears_104 (by decide) (fun h12 => ?_) (fun h12 => ?_)
                  · replace hk := it_t h12 hk
                    refine j_iinc (pc := 128) (nI 1) C dX5_nears_128 rfl (by decide) (Nat.le_of_ble_eq_true rfl) rfl ?_
                    refine j_goto (pc := 131) 84 C dX5_nears_131 (by decide) ?_
                    exact j_mask [true, true, true, true, true, true] (ih84 _ _ hk)
                  · replace hk := it_f h12 hk
                    refine j_aload_n (pc := 107) C dX5_nears_107 rfl rfl ?_
                    refine j_iload_n (pc := 108) C dX5_nears_108 rfl rfl ?_
                    refine j_iload (pc := 109) C dX5_nears_109 rfl ?_
                    replace hk := bd2_some hk
                    obtain ⟨r111, I111, h13, hk⟩ := hk
                    refine x_callV (pc := 111) C (ct_X5_goesOn hS h13) mv_X5_goesOn (stN_o11 hS).r rfl rfl q1470 dX5_nears_111 rfl rfl (Nat.le_of_ble_eq_true rfl) (rmOK.i hr_X5_goesOn.1 hr_X5_goesOn.2 (Nat.zero_le _) (Nat.zero_le _)) ?_
                    refine j_if_eq (pc := 114) 128 C dX5_nears_114 (by decide) (fun h14 => ?_) (fun h14 => ?_)
                    · replace hk := it_t h14 hk
                      refine j_iinc (pc := 128) (nI 1) C dX5_nears_128 rfl (by decide) (Nat.le_of_ble_eq_true rfl) rfl ?_
                      refine j_goto (pc := 131) 84 C dX5_nears_131 (by decide) ?_
                      exact j_mask [true, true, true, true, true, true] (ih84 _ _ hk)
                    · replace hk := it_f h14 hk
                      refine j_aload_n (pc := 117) C dX5_nears_117 rfl rfl ?_
                      refine j_iload_n (pc := 118) C dX5_nears_118 rfl rfl ?_
                      refine j_iconst (pc := 119) (v := nI 1) C dX5_nears_119 (by decide) ?_
                      refine j_iadd (pc := 120) C dX5_nears_120 ?_
                      refine j_iload_n (pc := 121) C dX5_nears_121 rfl rfl ?_
                      refine j_iconst (pc := 122) (v := nI 1) C dX5_nears_122 (by decide) ?_
                      refine j_iadd (pc := 123) C dX5_nears_123 ?_
                      refine j_aload_n (pc := 124) C dX5_nears_124 rfl rfl ?_
                      replace hk := ob_some hk
                      obtain ⟨I125, h15, hk⟩ := hk
                      refine x_callV (pc := 125) C (hc_X5_nears h15) mv_X5_nears (stN_o11 hS).r rfl rfl q1518 dX5_nears_125 rfl rfl (Nat.le_of_ble_eq_true rfl) (rmOK.i hr_X5_nears.1 hr_X5_nears.2 (Nat.zero_le _) (Nat.zero_le _)) ?_
                      refine j_iinc (pc := 128) (nI 1) C dX5_nears_128 rfl (by decide) (Nat.le_of_ble_eq_true rfl) rfl ?_
                      refine j_goto (pc := 131) 84 C dX5_nears_131 (by decide) ?_
                      exact j_mask [true, true, true, true, true, true] (ih84 _ _ hk)
          exact j_mask [true, true, true, true, true, true] (L84 _ _ _ _ _ _ _ hk)
        · replace hk := it_f h8 hk
          refine j_aload_n (pc := 62) C dX5_nears_62 rfl rfl ?_
          refine j_iload_n (pc := 63) C dX5_nears_63 rfl rfl ?_
          refine j_iload (pc := 64) C dX5_nears_64 rfl ?_
          replace hk := bd2_some hk
          obtain ⟨r66, I66, h16, hk⟩ := hk
          refine x_callV (pc := 66) C (ct_X5_goesOn hS h16) mv_X5_goesOn (stN_o11 hS).r rfl rfl q1470 dX5_nears_66 rfl rfl (Nat.le_of_ble_eq_true rfl) (rmOK.i hr_X5_goesOn.1 hr_X5_goesOn.2 (Nat.zero_le _) (Nat.zero_le _)) ?_
          refine j_if_eq (pc := 69) 81 C dX5_nears_69 (by decide) (fun h17 => ?_) (fun h17 => ?_)
          · replace hk := it_t h17 hk
            refine j_iconst (pc := 81) (v := nI 1) C dX5_nears_81 (by decide) ?_
            refine j_istore (pc := 82) C dX5_nears_82 (Nat.le_of_ble_eq_true rfl) rfl ?_
            have L84 : ∀ (x1 : Int32) (x2 : Int32) (x3 : Nat) (x4 : Int32) (n84 : Nat) (x5 : Int32) (I : II), f_X5_nears_L84 F c_X5_nears sh x1 x2 x3 x4 n84 x5 I = some Z → J G p l e (rmA Rf Rl 0) s m args below meth c 6 (.returned none) (sh, Z) ((rmA Rf Rl 0)).cells ((rmA Rf Rl 0)).slots (sh, I) 0 0 84 [some (.ref (wad G 11)), some (.int x1), some (.int x2), some (.ref (wad G x3)), some (.int x4), some (.int x5)] [] := by
              intro x1 x2 x3 x4 n84
              induction n84 with
              | zero => intro x5 I hk; rw [f_X5_nears_L84] at hk; cases hk
              | succ n84 ih84 =>
                intro x5 I hk
                rw [f_X5_nears_L84] at hk
                generalize f_X5_nears_L84 F c_X5_nears sh x1 x2 x3 x4 n84 = k84 at ih84 hk
                refine j_iload (pc := 84) C dX5_nears_84 rfl ?_
                refine j_iconst (pc := 86) (v := nI 3) C dX5_nears_86 (by decide) ?_
                refine j_icmp_gt (pc := 87) 134 C dX5_nears_87 (by decide) (fun h18 => ?_) (fun h18 => ?_)
                · replace hk := it_t h18 hk
                  obtain rfl := Option.some.inj hk
                  exact j_vret (pc := 134) C dX5_nears_134 (Nat.zero_le _) (Nat.zero_le _)
                · replace hk := it_f h18 hk
                  refine j_iload (pc := 90) C dX5_nears_90 rfl ?_
                  refine j_iload (pc := 92) C dX5_nears_92 rfl ?_
                  refine j_icmp_eq (pc := 94) 128 C dX5_nears_94 (by decide) (fun h19 => ?_) (fun h19 => ?_)
                  · replace hk := it_t h19 hk
                    refine j_iinc (pc := 128) (nI 1) C dX5_nears_128 rfl (by decide) (Nat.le_of_ble_eq_true rfl) rfl ?_
                    refine j_goto (pc := 131) 84 C dX5_nears_131 (by decide) ?_
                    exact j_mask [true, true, true, true, true, true] (ih84 _ _ hk)
                  · replace hk := it_f h19 hk
                    refine j_aload_n (pc := 97) C dX5_nears_97 rfl rfl ?_
                    refine j_iload_n (pc := 98) C dX5_nears_98 rfl rfl ?_
                    refine j_iload (pc := 99) C dX5_nears_99 rfl ?_
                    replace hk := ob_some hk
                    obtain ⟨r101, h20, hk⟩ := hk
                    refine x_callV (pc := 101) C (ct_X5_isLeft hS h20) mv_X5_isLeft (stN_o11 hS).r rfl rfl q1466 dX5_nears_101 rfl rfl (Nat.le_of_ble_eq_true rfl) (rmOK.i hr_X5_isLeft.1 hr_X5_isLeft.2 (Nat.zero_le _) (Nat.zero_le _)) ?_
                    refine j_if_eq (pc := 104) 128 C dX5_nears_104 (by decide) (fun h21 => ?_) (fun h21 => ?_)
                    · replace hk := it_t h21 hk
                      refine j_iinc (pc := 128) (nI 1) C dX5_nears_128 rfl (by decide) (Nat.le_of_ble_eq_true rfl) rfl ?_
                      refine j_goto (pc := 131) 84 C dX5_nears_131 (by decide) ?_
                      exact j_mask [true, true, true, true, true, true] (ih84 _ _ hk)
                    · replace hk := it_f h21 hk
                      refine j_aload_n (pc := 107) C dX5_nears_107 rfl rfl ?_
                      refine j_iload_n (pc := 108) C dX5_nears_108 rfl rfl ?_
                      refine j_iload (pc := 109) C dX5_nears_109 rfl ?_
                      replace hk := bd2_some hk
                      obtain ⟨r111, I111, h22, hk⟩ := hk
                      refine x_callV (pc := 111) C (ct_X5_goesOn hS h22) mv_X5_goesOn (stN_o11 hS).r rfl rfl q1470 dX5_nears_111 rfl rfl (Nat.le_of_ble_eq_true rfl) (rmOK.i hr_X5_goesOn.1 hr_X5_goesOn.2 (Nat.zero_le _) (Nat.zero_le _)) ?_
                      refine j_if_eq (pc := 114) 128 C dX5_nears_114 (by decide) (fun h23 => ?_) (fun h23 => ?_)
                      · replace hk := it_t h23 hk
                        refine j_iinc (pc := 128) (nI 1) C dX5_nears_128 rfl (by decide) (Nat.le_of_ble_eq_true rfl) rfl ?_
                        refine j_goto (pc := 131) 84 C dX5_nears_131 (by decide) ?_
                        exact j_mask [true, true, true, true, true, true] (ih84 _ _ hk)
                      · replace hk := it_f h23 hk
                        refine j_aload_n (pc := 117) C dX5_nears_117 rfl rfl ?_
                        refine j_iload_n (pc := 118) C dX5_nears_118 rfl rfl ?_
                        refine j_iconst (pc := 119) (v := nI 1) C dX5_nears_119 (by decide) ?_
                        refine j_iadd (pc := 120) C dX5_nears_120 ?_
                        refine j_iload_n (pc := 121) C dX5_nears_121 rfl rfl ?_
                        refine j_iconst (pc := 122) (v := nI 1) C dX5_nears_122 (by decide) ?_
                        refine j_iadd (pc := 123) C dX5_nears_123 ?_
                        refine j_aload_n (pc := 124) C dX5_nears_124 rfl rfl ?_
                        replace hk := ob_some hk
                        obtain ⟨I125, h24, hk⟩ := hk
                        refine x_callV (pc := 125) C (hc_X5_nears h24) mv_X5_nears (stN_o11 hS).r rfl rfl q1518 dX5_nears_125 rfl rfl (Nat.le_of_ble_eq_true rfl) (rmOK.i hr_X5_nears.1 hr_X5_nears.2 (Nat.zero_le _) (Nat.zero_le _)) ?_
                        refine j_iinc (pc := 128) (nI 1) C dX5_nears_128 rfl (by decide) (Nat.le_of_ble_eq_true rfl) rfl ?_
                        refine j_goto (pc := 131) 84 C dX5_nears_131 (by decide) ?_
                        exact j_mask [true, true, true, true, true, true] (ih84 _ _ hk)
            exact j_mask [true, true, true, true, true, true] (L84 _ _ _ _ _ _ _ hk)
          · replace hk := it_f h17 hk
            refine j_aload_n (pc := 72) C dX5_nears_72 rfl rfl ?_
            refine j_iload_n (pc := 73) C dX5_nears_73 rfl rfl ?_
            refine j_iconst (pc := 74) (v := nI 1) C dX5_nears_74 (by decide) ?_
            refine j_iadd (pc := 75) C dX5_nears_75 ?_
            refine j_iload_n (pc := 76) C dX5_nears_76 rfl rfl ?_
            refine j_aload_n (pc := 77) C dX5_nears_77 rfl rfl ?_
            replace hk := ob_some hk
            obtain ⟨I78, h25, hk⟩ := hk
            refine x_callV (pc := 78) C (hc_X5_nears h25) mv_X5_nears (stN_o11 hS).r rfl rfl q1518 dX5_nears_78 rfl rfl (Nat.le_of_ble_eq_true rfl) (rmOK.i hr_X5_nears.1 hr_X5_nears.2 (Nat.zero_le _) (Nat.zero_le _)) ?_
            refine j_iconst (pc := 81) (v := nI 1) C dX5_nears_81 (by decide) ?_
            refine j_istore (pc := 82) C dX5_nears_82 (Nat.le_of_ble_eq_true rfl) rfl ?_
            have L84 : ∀ (x1 : Int32) (x2 : Int32) (x3 : Nat) (x4 : Int32) (n84 : Nat) (x5 : Int32) (I : II), f_X5_nears_L84 F c_X5_nears sh x1 x2 x3 x4 n84 x5 I = some Z → J G p l e (rmA Rf Rl 0) s m args below meth c 6 (.returned none) (sh, Z) ((rmA Rf Rl 0)).cells ((rmA Rf Rl 0)).slots (sh, I) 0 0 84 [some (.ref (wad G 11)), some (.int x1), some (.int x2), some (.ref (wad G x3)), some (.int x4), some (.int x5)] [] := by
              intro x1 x2 x3 x4 n84
              induction n84 with
              | zero => intro x5 I hk; rw [f_X5_nears_L84] at hk; cases hk
              | succ n84 ih84 =>
                intro x5 I hk
                rw [f_X5_nears_L84] at hk
                generalize f_X5_nears_L84 F c_X5_nears sh x1 x2 x3 x4 n84 = k84 at ih84 hk
                refine j_iload (pc := 84) C dX5_nears_84 rfl ?_
                refine j_iconst (pc := 86) (v := nI 3) C dX5_nears_86 (by decide) ?_
                refine j_icmp_gt (pc := 87) 134 C dX5_nears_87 (by decide) (fun h26 => ?_) (fun h26 => ?_)
                · replace hk := it_t h26 hk
                  obtain rfl := Option.some.inj hk
                  exact j_vret (pc := 134) C dX5_nears_134 (Nat.zero_le _) (Nat.zero_le _)
                · replace hk := it_f h26 hk
                  refine j_iload (pc := 90) C dX5_nears_90 rfl ?_
                  refine j_iload (pc := 92) C dX5_nears_92 rfl ?_
                  refine j_icmp_eq (pc := 94) 128 C dX5_nears_94 (by decide) (fun h27 => ?_) (fun h27 => ?_)
                  · replace hk := it_t h27 hk
                    refine j_iinc (pc := 128) (nI 1) C dX5_nears_128 rfl (by decide) (Nat.le_of_ble_eq_true rfl) rfl ?_
                    refine j_goto (pc := 131) 84 C dX5_nears_131 (by decide) ?_
                    exact j_mask [true, true, true, true, true, true] (ih84 _ _ hk)
                  · replace hk := it_f h27 hk
                    refine j_aload_n (pc := 97) C dX5_nears_97 rfl rfl ?_
                    refine j_iload_n (pc := 98) C dX5_nears_98 rfl rfl ?_
                    refine j_iload (pc := 99) C dX5_nears_99 rfl ?_
                    replace hk := ob_some hk
                    obtain ⟨r101, h28, hk⟩ := hk
                    refine x_callV (pc := 101) C (ct_X5_isLeft hS h28) mv_X5_isLeft (stN_o11 hS).r rfl rfl q1466 dX5_nears_101 rfl rfl (Nat.le_of_ble_eq_true rfl) (rmOK.i hr_X5_isLeft.1 hr_X5_isLeft.2 (Nat.zero_le _) (Nat.zero_le _)) ?_
                    refine j_if_eq (pc := 104) 128 C dX5_nears_104 (by decide) (fun h29 => ?_) (fun h29 => ?_)
                    · replace hk := it_t h29 hk
                      refine j_iinc (pc := 128) (nI 1) C dX5_nears_128 rfl (by decide) (Nat.le_of_ble_eq_true rfl) rfl ?_
                      refine j_goto (pc := 131) 84 C dX5_nears_131 (by decide) ?_
                      exact j_mask [true, true, true, true, true, true] (ih84 _ _ hk)
                    · replace hk := it_f h29 hk
                      refine j_aload_n (pc := 107) C dX5_nears_107 rfl rfl ?_
                      refine j_iload_n (pc := 108) C dX5_nears_108 rfl rfl ?_
                      refine j_iload (pc := 109) C dX5_nears_109 rfl ?_
                      replace hk := bd2_some hk
                      obtain ⟨r111, I111, h30, hk⟩ := hk
                      refine x_callV (pc := 111) C (ct_X5_goesOn hS h30) mv_X5_goesOn (stN_o11 hS).r rfl rfl q1470 dX5_nears_111 rfl rfl (Nat.le_of_ble_eq_true rfl) (rmOK.i hr_X5_goesOn.1 hr_X5_goesOn.2 (Nat.zero_le _) (Nat.zero_le _)) ?_
                      refine j_if_eq (pc := 114) 128 C dX5_nears_114 (by decide) (fun h31 => ?_) (fun h31 => ?_)
                      · replace hk := it_t h31 hk
                        refine j_iinc (pc := 128) (nI 1) C dX5_nears_128 rfl (by decide) (Nat.le_of_ble_eq_true rfl) rfl ?_
                        refine j_goto (pc := 131) 84 C dX5_nears_131 (by decide) ?_
                        exact j_mask [true, true, true, true, true, true] (ih84 _ _ hk)
                      · replace hk := it_f h31 hk
                        refine j_aload_n (pc := 117) C dX5_nears_117 rfl rfl ?_
                        refine j_iload_n (pc := 118) C dX5_nears_118 rfl rfl ?_
                        refine j_iconst (pc := 119) (v := nI 1) C dX5_nears_119 (by decide) ?_
                        refine j_iadd (pc := 120) C dX5_nears_120 ?_
                        refine j_iload_n (pc := 121) C dX5_nears_121 rfl rfl ?_
                        refine j_iconst (pc := 122) (v := nI 1) C dX5_nears_122 (by decide) ?_
                        refine j_iadd (pc := 123) C dX5_nears_123 ?_
                        refine j_aload_n (pc := 124) C dX5_nears_124 rfl rfl ?_
                        replace hk := ob_some hk
                        obtain ⟨I125, h32, hk⟩ := hk
                        refine x_callV (pc := 125) C (hc_X5_nears h32) mv_X5_nears (stN_o11 hS).r rfl rfl q1518 dX5_nears_125 rfl rfl (Nat.le_of_ble_eq_true rfl) (rmOK.i hr_X5_nears.1 hr_X5_nears.2 (Nat.zero_le _) (Nat.zero_le _)) ?_
                        refine j_iinc (pc := 128) (nI 1) C dX5_nears_128 rfl (by decide) (Nat.le_of_ble_eq_true rfl) rfl ?_
                        refine j_goto (pc := 131) 84 C dX5_nears_131 (by decide) ?_
                        exact j_mask [true, true, true, true, true, true] (ih84 _ _ hk)
            exact j_mask [true, true, true, true, true, true] (L84 _ _ _ _ _ _ _ hk)
      · replace hk := it_t h4 hk
        refine j_aload_n (pc := 32) C dX5_nears_32 rfl rfl ?_
        refine j_iload_n (pc := 33) C dX5_nears_33 rfl rfl ?_
        replace hk := ob_some hk
        obtain ⟨I34, h33, hk⟩ := hk
        refine x_callV (pc := 34) C (ct_X5_passes hS h33) mv_X5_passes (stN_o11 hS).r rfl rfl q1462 dX5_nears_34 rfl rfl (Nat.le_of_ble_eq_true rfl) (rmOK.i hr_X5_passes.1 hr_X5_passes.2 (Nat.zero_le _) (Nat.zero_le _)) ?_
        refine j_aload_n (pc := 37) C dX5_nears_37 rfl rfl ?_
        refine j_iload_n (pc := 38) C dX5_nears_38 rfl rfl ?_
        refine j_iconst (pc := 39) (v := nI 1) C dX5_nears_39 (by decide) ?_
        refine j_iadd (pc := 40) C dX5_nears_40 ?_
        refine j_iload_n (pc := 41) C dX5_nears_41 rfl rfl ?_
        refine j_aload_n (pc := 42) C dX5_nears_42 rfl rfl ?_
        replace hk := ob_some hk
        obtain ⟨I43, h34, hk⟩ := hk
        refine x_callV (pc := 43) C (hc_X5_nears h34) mv_X5_nears (stN_o11 hS).r rfl rfl q1518 dX5_nears_43 rfl rfl (Nat.le_of_ble_eq_true rfl) (rmOK.i hr_X5_nears.1 hr_X5_nears.2 (Nat.zero_le _) (Nat.zero_le _)) ?_
        obtain rfl := Option.some.inj hk
        exact j_vret (pc := 46) C dX5_nears_46 (Nat.zero_le _) (Nat.zero_le _)
    · replace hk := it_t h2 hk
      refine j_aload_n (pc := 15) C dX5_nears_15 rfl rfl ?_
      refine j_iload_n (pc := 16) C dX5_nears_16 rfl rfl ?_
      refine x_putI (pc := 17) C fd_6_4 (fl1 C q327) (stN_o11 hS) rfl rfl dX5_nears_17 ?_
      obtain rfl := Option.some.inj hk
      exact j_vret (pc := 20) C dX5_nears_20 (Nat.zero_le _) (Nat.zero_le _)
  · replace hk := it_f h1 hk
    obtain rfl := Option.some.inj hk
    exact j_vret (pc := 8) C dX5_nears_8 (Nat.zero_le _) (Nat.zero_le _)
def f_X5_nears (F : Nat) : Nat → SH → Int32 → Int32 → Nat → II → Option II
  | 0 => fun _ _ _ _ _ => none
  | d + 1 => fb_X5_nears F (f_X5_nears F d)
theorem f_X5_nears_s (F : Nat) (d : Nat) : f_X5_nears F (d + 1) = fb_X5_nears F (f_X5_nears F d) := rfl
theorem f_X5_nears_0 (F : Nat) : f_X5_nears F 0 = fun _ _ _ _ _ => none := rfl
set_option maxHeartbeats 4000000 in
theorem ctg_X5_nears {G : WG} {l : Launch} {sh : SH} (hS : stN sh) (F : Nat) : ∀ d : Nat, (∀ (x1 : Int32) (x2 : Int32) (x3 : Nat) (I : II) (Z : II), f_X5_nears F d sh x1 x2 x3 I = some Z → CT G l yX5_nears (ws_ yX5_nears cX5_nears 6 none) (rmA (d + 2) (25 * d + 100) 0) [.ref (wad G 11), .int x1, .int x2, .ref (wad G x3)] (sh, I) (.returned none) (sh, Z)) := by
  intro d
  induction d with
  | zero =>
    (intros; rename_i hk; cases hk)
  | succ d ih =>
    have ih_X5_nears := ih
    · intro v0 v1 v2 v3 v4 hk
      exact ctb_X5_nears (F := F) hS (fun {a0 a1 a2 a3 a4} hk => ih_X5_nears a0 a1 a2 a3 a4 hk) ⟨by omega, by omega⟩ ⟨by omega, by omega⟩ ⟨by omega, by omega⟩ ⟨by omega, by omega⟩ ⟨by omega, by omega⟩ hk
theorem ct_X5_nears {G : WG} {l : Launch} {sh : SH} (hS : stN sh) {F : Nat} {d : Nat} {x1 : Int32} {x2 : Int32} {x3 : Nat} {I : II} {Z : II} (hk : f_X5_nears F d sh x1 x2 x3 I = some Z) : CT G l yX5_nears (ws_ yX5_nears cX5_nears 6 none) (rmA (d + 2) (25 * d + 100) 0) [.ref (wad G 11), .int x1, .int x2, .ref (wad G x3)] (sh, I) (.returned none) (sh, Z) := (ctg_X5_nears hS F d) _ _ _ _ _ hk
def f_X5_nearest_L7 (F : Nat) (sh : SH) (x1 : Nat) : Nat → Int32 → Int32 → Int32 → II → Option (Int32 × II)
  | 0, _, _, _, _ => none
  | n7 + 1, x2, x3, x4, I => if (nI 12) ≤ x4 then some (x2, I) else (f_X0_has x3 x4).bind fun r17 => if r17 = 0 then (f_X6_tied F sh x4 I).bind fun r29 => (f_X5_begin F sh r29 I).bind fun I42 => (f_X5_nears F 13 sh (nI 0) (nI 0) x1 (up2 I42 11 4 (nI 13))).bind fun I55 => (f_X5_nearest_L7 F sh x1 n7) (x2 + (I55 11 4)) (x3 ||| r29) (x4 + (nI 1)) I55 else (f_X5_nearest_L7 F sh x1 n7) x2 x3 (x4 + (nI 1)) I
def f_X5_nearest (F : Nat) (sh : SH) (x1 : Nat) (I : II) : Option (Int32 × II) := f_X5_nearest_L7 F sh x1 F (nI 0) (nI 0) (nI 0) I
abbrev rm_X5_nearest : Room := { frames := 16, cells := 0, slots := 0, locals := 450 }
theorem mv_X5_nearest_ok : callOK yX5_nearest 1 := by decide +kernel
theorem mv_X5_nearest : MV yX5_nearest cX5_nearest 6 (some .int) 1 := ⟨q1515, q1516, q102, q1517, mv_X5_nearest_ok⟩
set_option maxHeartbeats 4000000 in
theorem ct_X5_nearest {G : WG} {l : Launch} {sh : SH} (hS : stN sh) {I : II} {F : Nat} {x1 : Nat} {Z : (Int32 × II)} (hk : f_X5_nearest F sh x1 I = some Z) : CT G l yX5_nearest (ws_ yX5_nearest cX5_nearest 6 (some .int)) rm_X5_nearest [.ref (wad G 11), .ref (wad G x1)] (sh, I) (.returned (some (.int Z.1))) (sh, Z.2) := by
  refine CT.ofJ "NineDemands$Search" rfl (by decide) (Nat.le_of_ble_eq_true rfl) ?_
  intro p e s m args below meth c C
  unfold f_X5_nearest at hk
  refine j_lv (lv' := [some (.ref (wad G 11)), some (.ref (wad G x1)), none, none, none, none]) rfl ?_
  refine j_iconst (pc := 0) (v := nI 0) C dX5_nearest_0 (by decide) ?_
  refine j_istore_n (pc := 1) C dX5_nearest_1 rfl (Nat.le_of_ble_eq_true rfl) rfl ?_
  refine j_iconst (pc := 2) (v := nI 0) C dX5_nearest_2 (by decide) ?_
  refine j_istore_n (pc := 3) C dX5_nearest_3 rfl (Nat.le_of_ble_eq_true rfl) rfl ?_
  refine j_iconst (pc := 4) (v := nI 0) C dX5_nearest_4 (by decide) ?_
  refine j_istore (pc := 5) C dX5_nearest_5 (Nat.le_of_ble_eq_true rfl) rfl ?_
  have L7 : ∀ (x1 : Nat) (n7 : Nat) (x2 : Int32) (x3 : Int32) (x4 : Int32) (I : II), f_X5_nearest_L7 F sh x1 n7 x2 x3 x4 I = some Z → J G p l e rm_X5_nearest s m args below meth c 6 (.returned (some (.int Z.1))) (sh, Z.2) (rm_X5_nearest).cells (rm_X5_nearest).slots (sh, I) 0 0 7 [some (.ref (wad G 11)), some (.ref (wad G x1)), some (.int x2), some (.int x3), some (.int x4), none] [] := by
    intro x1 n7
    induction n7 with
    | zero => intro x2 x3 x4 I hk; rw [f_X5_nearest_L7] at hk; cases hk
    | succ n7 ih7 =>
      intro x2 x3 x4 I hk
      rw [f_X5_nearest_L7] at hk
      generalize f_X5_nearest_L7 F sh x1 n7 = k7 at ih7 hk
      refine j_iload (pc := 7) C dX5_nearest_7 rfl ?_
      refine j_bipush (pc := 9) (v := nI 12) C dX5_nearest_9 (by decide) ?_
      refine j_icmp_ge (pc := 11) 71 C dX5_nearest_11 (by decide) (fun h1 => ?_) (fun h1 => ?_)
      · replace hk := it_t h1 hk
        refine j_iload_n (pc := 71) C dX5_nearest_71 rfl rfl ?_
        obtain rfl := Option.some.inj hk
        exact j_iret (pc := 72) C dX5_nearest_72 (Nat.le_of_ble_eq_true rfl) (Nat.le_of_ble_eq_true rfl)
      · replace hk := it_f h1 hk
        refine j_iload_n (pc := 14) C dX5_nearest_14 rfl rfl ?_
        refine j_iload (pc := 15) C dX5_nearest_15 rfl ?_
        replace hk := ob_some hk
        obtain ⟨r17, h2, hk⟩ := hk
        refine x_callSN (pc := 17) C (ct_X0_has h2) ms_X0_has q1461 dX5_nearest_17 rfl rfl (Nat.le_of_ble_eq_true rfl) rfl ?_
        refine j_if_ne (pc := 20) 65 C dX5_nearest_20 (by decide) (fun h3 => ?_) (fun h3 => ?_)
        · replace hk := it_f h3 hk
          refine j_iinc (pc := 65) (nI 1) C dX5_nearest_65 rfl (by decide) (Nat.le_of_ble_eq_true rfl) rfl ?_
          refine j_goto (pc := 68) 7 C dX5_nearest_68 (by decide) ?_
          exact j_mask [true, true, true, true, true, false] (ih7 _ _ _ _ hk)
        · replace hk := it_t h3 hk
          refine j_aload_n (pc := 23) C dX5_nearest_23 rfl rfl ?_
          refine x_getR (pc := 24) C fd_6_0 (fl1 C q321) (stN_o11 hS).r (stN_r11_0 hS) dX5_nearest_24 ?_
          refine j_iload (pc := 27) C dX5_nearest_27 rfl ?_
          replace hk := ob_some hk
          obtain ⟨r29, h4, hk⟩ := hk
          refine x_callV (pc := 29) C (ct_X6_tied hS h4) mv_X6_tied (stN_o12 hS).r rfl rfl q1492 dX5_nearest_29 rfl rfl (Nat.le_of_ble_eq_true rfl) rfl ?_
          refine j_istore (pc := 32) C dX5_nearest_32 (Nat.le_of_ble_eq_true rfl) rfl ?_
          refine j_iload_n (pc := 34) C dX5_nearest_34 rfl rfl ?_
          refine j_iload (pc := 35) C dX5_nearest_35 rfl ?_
          refine j_ior (pc := 37) C dX5_nearest_37 ?_
          refine j_istore_n (pc := 38) C dX5_nearest_38 rfl (Nat.le_of_ble_eq_true rfl) rfl ?_
          refine j_aload_n (pc := 39) C dX5_nearest_39 rfl rfl ?_
          refine j_iload (pc := 40) C dX5_nearest_40 rfl ?_
          replace hk := ob_some hk
          obtain ⟨I42, h5, hk⟩ := hk
          refine x_callV (pc := 42) C (ct_X5_begin hS h5) mv_X5_begin (stN_o11 hS).r rfl rfl q1497 dX5_nearest_42 rfl rfl (Nat.le_of_ble_eq_true rfl) rfl ?_
          refine j_aload_n (pc := 45) C dX5_nearest_45 rfl rfl ?_
          refine j_bipush (pc := 46) (v := nI 13) C dX5_nearest_46 (by decide) ?_
          refine x_putI (pc := 48) C fd_6_4 (fl1 C q327) (stN_o11 hS) rfl rfl dX5_nearest_48 ?_
          refine j_aload_n (pc := 51) C dX5_nearest_51 rfl rfl ?_
          refine j_iconst (pc := 52) (v := nI 0) C dX5_nearest_52 (by decide) ?_
          refine j_iconst (pc := 53) (v := nI 0) C dX5_nearest_53 (by decide) ?_
          refine j_aload_n (pc := 54) C dX5_nearest_54 rfl rfl ?_
          replace hk := ob_some hk
          obtain ⟨I55, h6, hk⟩ := hk
          refine x_callV (pc := 55) C (ct_X5_nears hS h6) mv_X5_nears (stN_o11 hS).r rfl rfl q1518 dX5_nearest_55 rfl rfl (Nat.le_of_ble_eq_true rfl) rfl ?_
          refine j_iload_n (pc := 58) C dX5_nearest_58 rfl rfl ?_
          refine j_aload_n (pc := 59) C dX5_nearest_59 rfl rfl ?_
          refine x_getI (pc := 60) C fd_6_4 (fl1 C q327) (stN_o11 hS).r dX5_nearest_60 ?_
          refine j_iadd (pc := 63) C dX5_nearest_63 ?_
          refine j_istore_n (pc := 64) C dX5_nearest_64 rfl (Nat.le_of_ble_eq_true rfl) rfl ?_
          refine j_iinc (pc := 65) (nI 1) C dX5_nearest_65 rfl (by decide) (Nat.le_of_ble_eq_true rfl) rfl ?_
          refine j_goto (pc := 68) 7 C dX5_nearest_68 (by decide) ?_
          exact j_mask [true, true, true, true, true, false] (ih7 _ _ _ _ hk)
  exact j_mask [true, true, true, true, true, false] (L7 _ _ _ _ _ _ hk)
def f_X0_near_J43 (F : Nat) (sh : SH) (s0 : Nat) (I : II) : Option (Int32 × II) := bd2 (f_X0_finds sh s0 I) fun r46 I46 => some (r46, I46)
def f_X0_near_J24 (F : Nat) (sh : SH) (s1 : Int32) (I : II) : Option (Int32 × II) := bd2 (f_X0_need sh s1 (nI 2) I) fun u25 I25 => oex u25 (fun _w25 => orf (sh.2.2 0 1) fun t33 => ock sh t33 2 <| orf (sh.2.2 t33 0) fun t36 => bd2 (f_X5_nearest F sh t36 I25) fun r39 I39 => some (r39, I39)) (fun w25 => ock sh w25 1 <| f_X0_near_J43 F sh w25 I25)
def f_X0_near (F : Nat) (sh : SH) (x1 : Int32) (I : II) : Option (Int32 × II) := (f_X0_isSet sh x1 I).bind fun r3 => bd2 (f_X0_need sh r3 (nI 1) I) fun u7 I7 => oex u7 (fun _w7 => bd2 (f_X0_isOut F sh x1 I7) fun r13 I13 => if r13 = 0 then f_X0_near_J24 F sh (nI 1) I13 else f_X0_near_J24 F sh (nI 0) I13) (fun w7 => ock sh w7 1 <| f_X0_near_J43 F sh w7 I7)
abbrev rm_X0_near : Room := { frames := 18, cells := 0, slots := 0, locals := 475 }
theorem mv_X0_near_ok : callOK yX0_near 1 := by decide +kernel
theorem mw_X0_near : MW yX0_near cX0_near 3 (some .int) [(0, 42, 43, 8)] 1 := ⟨q1511, q1512, q91, q1513, mv_X0_near_ok⟩
set_option maxHeartbeats 4000000 in
theorem ct_X0_near {G : WG} {l : Launch} {sh : SH} (hS : stN sh) {I : II} {F : Nat} {x1 : Int32} {Z : (Int32 × II)} (hk : f_X0_near F sh x1 I = some Z) : CT G l yX0_near (wsW_ yX0_near cX0_near 3 (some .int) [(0, 42, 43, 8)]) rm_X0_near [.ref (wad G 0), .int x1] (sh, I) (.returned (some (.int Z.1))) (sh, Z.2) := by
  refine CT.ofJW "NineDemands" rfl (by decide) (Nat.le_of_ble_eq_true rfl) ?_
  intro p e s m args below meth c C
  unfold f_X0_near at hk
  refine j_lv (lv' := [some (.ref (wad G 0)), some (.int x1), none]) rfl ?_
  refine j_aload_n (pc := 0) C dX0_near_0 rfl rfl ?_
  refine j_aload_n (pc := 1) C dX0_near_1 rfl rfl ?_
  refine j_iload_n (pc := 2) C dX0_near_2 rfl rfl ?_
  replace hk := ob_some hk
  obtain ⟨r3, h1, hk⟩ := hk
  refine x_callV (pc := 3) C (ct_X0_isSet hS h1) mv_X0_isSet (stN_o0 hS).r rfl rfl q1415 dX0_near_3 rfl rfl (Nat.le_of_ble_eq_true rfl) rfl ?_
  refine j_iconst (pc := 6) (v := nI 1) C dX0_near_6 (by decide) ?_
  have Jn43 : ∀ (s0 : Nat) (I : II), f_X0_near_J43 F sh s0 I = some Z → J G p l e rm_X0_near s m args below meth c 3 (.returned (some (.int Z.1))) (sh, Z.2) (rm_X0_near).cells (rm_X0_near).slots (sh, I) 0 0 43 [some (.ref (wad G 0)), none, none] [.ref (wad G s0)] := by
    intro s0 I hk
    unfold f_X0_near_J43 at hk
    refine j_astore_n (pc := 43) C dX0_near_43 rfl (Nat.le_of_ble_eq_true rfl) rfl ?_
    refine j_aload_n (pc := 44) C dX0_near_44 rfl rfl ?_
    refine j_aload_n (pc := 45) C dX0_near_45 rfl rfl ?_
    replace hk := bd2_some hk
    obtain ⟨r46, I46, h2, hk⟩ := hk
    refine x_callV (pc := 46) C (ct_X0_finds hS h2) mv_X0_finds (stN_o0 hS).r rfl rfl q433 dX0_near_46 rfl rfl (Nat.le_of_ble_eq_true rfl) rfl ?_
    obtain rfl := Option.some.inj hk
    exact j_iret (pc := 49) C dX0_near_49 (Nat.le_of_ble_eq_true rfl) (Nat.le_of_ble_eq_true rfl)
  replace hk := bd2_some hk
  obtain ⟨u7, I7, h3, hk⟩ := hk
  cases u7 with
  | inr w7 =>
    replace hk := oex_r hk
    replace hk := ock_some hk
    obtain ⟨h5, hk⟩ := hk
    refine x_callVC [] [] (0, 42, 43, 8) (pc := 7) C (ct_X0_need hS h3) mv_X0_need (stN_o0 hS).r rfl rfl q416 dX0_near_7 rfl rfl (Nat.le_of_ble_eq_true rfl) rfl rfl h5 rfl (by decide) (by decide) q146 (fun z hz => by cases hz) ?_
    exact j_mask [true, false, false] (Jn43 _ _ hk)
  | inl _w7 =>
    replace hk := oex_l hk
    refine x_callV (pc := 7) C (ct_X0_need hS h3) mv_X0_need (stN_o0 hS).r rfl rfl q416 dX0_near_7 rfl rfl (Nat.le_of_ble_eq_true rfl) rfl ?_
    refine j_aload_n (pc := 10) C dX0_near_10 rfl rfl ?_
    refine j_aload_n (pc := 11) C dX0_near_11 rfl rfl ?_
    refine j_iload_n (pc := 12) C dX0_near_12 rfl rfl ?_
    replace hk := bd2_some hk
    obtain ⟨r13, I13, h6, hk⟩ := hk
    refine x_callV (pc := 13) C (ct_X0_isOut hS h6) mv_X0_isOut (stN_o0 hS).r rfl rfl q1419 dX0_near_13 rfl rfl (Nat.le_of_ble_eq_true rfl) rfl ?_
    have Jn24 : ∀ (s1 : Int32) (I : II), f_X0_near_J24 F sh s1 I = some Z → J G p l e rm_X0_near s m args below meth c 3 (.returned (some (.int Z.1))) (sh, Z.2) (rm_X0_near).cells (rm_X0_near).slots (sh, I) 0 0 24 [some (.ref (wad G 0)), none, none] [.int s1, .ref (wad G 0)] := by
      intro s1 I hk
      unfold f_X0_near_J24 at hk
      refine j_iconst (pc := 24) (v := nI 2) C dX0_near_24 (by decide) ?_
      replace hk := bd2_some hk
      obtain ⟨u25, I25, h7, hk⟩ := hk
      cases u25 with
      | inr w25 =>
        replace hk := oex_r hk
        replace hk := ock_some hk
        obtain ⟨h9, hk⟩ := hk
        refine x_callVC [] [] (0, 42, 43, 8) (pc := 25) C (ct_X0_need hS h7) mv_X0_need (stN_o0 hS).r rfl rfl q416 dX0_near_25 rfl rfl (Nat.le_of_ble_eq_true rfl) rfl rfl h9 rfl (by decide) (by decide) q146 (fun z hz => by cases hz) ?_
        exact j_mask [true, false, false] (Jn43 _ _ hk)
      | inl _w25 =>
        replace hk := oex_l hk
        refine x_callV (pc := 25) C (ct_X0_need hS h7) mv_X0_need (stN_o0 hS).r rfl rfl q416 dX0_near_25 rfl rfl (Nat.le_of_ble_eq_true rfl) rfl ?_
        refine j_aload_n (pc := 28) C dX0_near_28 rfl rfl ?_
        refine x_getR (pc := 29) C fd_0_6 (fl1 C q378) (stN_o0 hS).r (stN_r0_6 hS) dX0_near_29 ?_
        refine j_aload_n (pc := 32) C dX0_near_32 rfl rfl ?_
        replace hk := orf_some hk
        obtain ⟨t33, et33, hk⟩ := hk
        refine x_getR (pc := 33) C fd_0_1 (fl1 C q373) (stN_o0 hS).r et33 dX0_near_33 ?_
        replace hk := ock_some hk
        obtain ⟨h10, hk⟩ := hk
        replace hk := orf_some hk
        obtain ⟨t36, et36, hk⟩ := hk
        refine x_getR (pc := 36) C fd_2_0 (fl3 C q249) h10 et36 dX0_near_36 ?_
        replace hk := bd2_some hk
        obtain ⟨r39, I39, h11, hk⟩ := hk
        refine x_callV (pc := 39) C (ct_X5_nearest hS h11) mv_X5_nearest (stN_o11 hS).r rfl rfl q1514 dX0_near_39 rfl rfl (Nat.le_of_ble_eq_true rfl) rfl ?_
        obtain rfl := Option.some.inj hk
        exact j_iret (pc := 42) C dX0_near_42 (Nat.le_of_ble_eq_true rfl) (Nat.le_of_ble_eq_true rfl)
    refine j_if_ne (pc := 16) 23 C dX0_near_16 (by decide) (fun h12 => ?_) (fun h12 => ?_)
    · replace hk := it_f h12 hk
      refine j_iconst (pc := 23) (v := nI 0) C dX0_near_23 (by decide) ?_
      exact j_mask [true, false, false] (Jn24 _ _ hk)
    · replace hk := it_t h12 hk
      refine j_iconst (pc := 19) (v := nI 1) C dX0_near_19 (by decide) ?_
      refine j_goto (pc := 20) 24 C dX0_near_20 (by decide) ?_
      exact j_mask [true, false, false] (Jn24 _ _ hk)
def f_X0_isHall (x0 : Int32) : Option Int32 := (f_X0_in x0 (nI 0) (nI 11)).bind fun r4 => og (r4 = 0 ∨ r4 = 1) <| some r4
abbrev rm_X0_isHall : Room := { frames := 1, cells := 0, slots := 0, locals := 22 }
theorem ms_X0_isHall : MS yX0_isHall cX0_isHall 1 (some .boolean) 1 := ⟨q411, q91, q412, by decide +kernel⟩
set_option maxHeartbeats 4000000 in
theorem ct_X0_isHall {G : WG} {l : Launch} {sh : SH} {I : II} {x0 : Int32} {Z : Int32} (hk : f_X0_isHall x0 = some Z) : CT G l yX0_isHall (ws_ yX0_isHall cX0_isHall 1 (some .boolean)) rm_X0_isHall [.int x0] (sh, I) (.returned (some (.int Z))) (sh, I) := by
  refine CT.ofJ "NineDemands" rfl (by decide) (Nat.le_of_ble_eq_true rfl) ?_
  intro p e s m args below meth c C
  unfold f_X0_isHall at hk
  refine j_lv (lv' := [some (.int x0)]) rfl ?_
  refine j_iload_n (pc := 0) C dX0_isHall_0 rfl rfl ?_
  refine j_iconst (pc := 1) (v := nI 0) C dX0_isHall_1 (by decide) ?_
  refine j_bipush (pc := 2) (v := nI 11) C dX0_isHall_2 (by decide) ?_
  replace hk := ob_some hk
  obtain ⟨r4, h1, hk⟩ := hk
  refine j_callS (pc := 4) C (ct_X0_in h1) ms_X0_in q413 dX0_isHall_4 rfl rfl (Nat.le_of_ble_eq_true rfl) rfl ?_
  replace hk := og_some hk
  obtain ⟨h2, hk⟩ := hk
  obtain rfl := Option.some.inj hk
  exact j_zret (pc := 7) C dX0_isHall_7 (Nat.le_of_ble_eq_true rfl) (Nat.le_of_ble_eq_true rfl) (isB.nar h2)
def f_X0_may_J90 (F : Nat) (sh : SH) (s0 : Nat) (I : II) : Option (Int32 × II) := bd2 (f_X0_finds sh s0 I) fun r93 I93 => some (r93, I93)
def f_X0_may_L35 (F : Nat) (sh : SH) (x2 : Int32) : Nat → Int32 → Int32 → II → Option (Int32 × II)
  | 0, _, _, _ => none
  | n35 + 1, x3, x4, I => if (nI 3) < x4 then some (x3, I) else (f_X5_begin F sh (nI 4095) I).bind fun I48 => (f_X5_keep sh x2 x4 I48).bind fun I58 => bd2 (f_X5_finds F sh I58) fun r66 I66 => if r66 = 0 then (f_X0_may_L35 F sh x2 n35) (x3 ||| (nI 0)) (x4 + (nI 1)) I66 else (f_X0_may_L35 F sh x2 n35) (x3 ||| ((nI 1) <<< (x4 &&& 31))) (x4 + (nI 1)) I66
def f_X0_may_J21 (F : Nat) (sh : SH) (x1 : Int32) (x2 : Int32) (s1 : Int32) (I : II) : Option (Int32 × II) := bd2 (f_X0_need sh s1 (nI 1) I) fun u22 I22 => oex u22 (fun _w22 => (f_X0_weave F sh x1 I22).bind fun I27 => f_X0_may_L35 F sh x2 F (nI 0) (nI 1) I27) (fun w22 => ock sh w22 1 <| f_X0_may_J90 F sh w22 I22)
def f_X0_may_J20 (F : Nat) (sh : SH) (x1 : Int32) (x2 : Int32) (I : II) : Option (Int32 × II) := f_X0_may_J21 F sh x1 x2 (nI 0) I
def f_X0_may (F : Nat) (sh : SH) (x1 : Int32) (x2 : Int32) (I : II) : Option (Int32 × II) := (f_X0_isSet sh x1 I).bind fun r3 => if r3 = 0 then f_X0_may_J20 F sh x1 x2 I else (f_X0_isHall x2).bind fun r10 => if r10 = 0 then f_X0_may_J20 F sh x1 x2 I else f_X0_may_J21 F sh x1 x2 (nI 1) I
abbrev rm_X0_may : Room := { frames := 17, cells := 0, slots := 0, locals := 428 }
theorem mv_X0_may_ok : callOK yX0_may 2 := by decide +kernel
theorem mw_X0_may : MW yX0_may cX0_may 5 (some .int) [(0, 89, 90, 8)] 2 := ⟨q1503, q1504, q91, q1505, mv_X0_may_ok⟩
set_option maxHeartbeats 4000000 in
theorem ct_X0_may {G : WG} {l : Launch} {sh : SH} (hS : stN sh) {I : II} {F : Nat} {x1 : Int32} {x2 : Int32} {Z : (Int32 × II)} (hk : f_X0_may F sh x1 x2 I = some Z) : CT G l yX0_may (wsW_ yX0_may cX0_may 5 (some .int) [(0, 89, 90, 8)]) rm_X0_may [.ref (wad G 0), .int x1, .int x2] (sh, I) (.returned (some (.int Z.1))) (sh, Z.2) := by
  refine CT.ofJW "NineDemands" rfl (by decide) (Nat.le_of_ble_eq_true rfl) ?_
  intro p e s m args below meth c C
  unfold f_X0_may at hk
  refine j_lv (lv' := [some (.ref (wad G 0)), some (.int x1), some (.int x2), none, none]) rfl ?_
  refine j_aload_n (pc := 0) C dX0_may_0 rfl rfl ?_
  refine j_aload_n (pc := 1) C dX0_may_1 rfl rfl ?_
  refine j_iload_n (pc := 2) C dX0_may_2 rfl rfl ?_
  replace hk := ob_some hk
  obtain ⟨r3, h1, hk⟩ := hk
  refine x_callV (pc := 3) C (ct_X0_isSet hS h1) mv_X0_isSet (stN_o0 hS).r rfl rfl q1415 dX0_may_3 rfl rfl (Nat.le_of_ble_eq_true rfl) rfl ?_
  have Jn21 : ∀ (x1 : Int32) (x2 : Int32) (s1 : Int32) (I : II), f_X0_may_J21 F sh x1 x2 s1 I = some Z → J G p l e rm_X0_may s m args below meth c 5 (.returned (some (.int Z.1))) (sh, Z.2) (rm_X0_may).cells (rm_X0_may).slots (sh, I) 0 0 21 [some (.ref (wad G 0)), some (.int x1), some (.int x2), none, none] [.int s1, .ref (wad G 0)] := by
    intro x1 x2 s1 I hk
    unfold f_X0_may_J21 at hk
    refine j_iconst (pc := 21) (v := nI 1) C dX0_may_21 (by decide) ?_
    have Jn90 : ∀ (s0 : Nat) (I : II), f_X0_may_J90 F sh s0 I = some Z → J G p l e rm_X0_may s m args below meth c 5 (.returned (some (.int Z.1))) (sh, Z.2) (rm_X0_may).cells (rm_X0_may).slots (sh, I) 0 0 90 [some (.ref (wad G 0)), none, none, none, none] [.ref (wad G s0)] := by
      intro s0 I hk
      unfold f_X0_may_J90 at hk
      refine j_astore_n (pc := 90) C dX0_may_90 rfl (Nat.le_of_ble_eq_true rfl) rfl ?_
      refine j_aload_n (pc := 91) C dX0_may_91 rfl rfl ?_
      refine j_aload_n (pc := 92) C dX0_may_92 rfl rfl ?_
      replace hk := bd2_some hk
      obtain ⟨r93, I93, h2, hk⟩ := hk
      refine x_callV (pc := 93) C (ct_X0_finds hS h2) mv_X0_finds (stN_o0 hS).r rfl rfl q433 dX0_may_93 rfl rfl (Nat.le_of_ble_eq_true rfl) rfl ?_
      obtain rfl := Option.some.inj hk
      exact j_iret (pc := 96) C dX0_may_96 (Nat.le_of_ble_eq_true rfl) (Nat.le_of_ble_eq_true rfl)
    replace hk := bd2_some hk
    obtain ⟨u22, I22, h3, hk⟩ := hk
    cases u22 with
    | inr w22 =>
      replace hk := oex_r hk
      replace hk := ock_some hk
      obtain ⟨h5, hk⟩ := hk
      refine x_callVC [] [] (0, 89, 90, 8) (pc := 22) C (ct_X0_need hS h3) mv_X0_need (stN_o0 hS).r rfl rfl q416 dX0_may_22 rfl rfl (Nat.le_of_ble_eq_true rfl) rfl rfl h5 rfl (by decide) (by decide) q146 (fun z hz => by cases hz) ?_
      exact j_mask [true, false, false, false, false] (Jn90 _ _ hk)
    | inl _w22 =>
      replace hk := oex_l hk
      refine x_callV (pc := 22) C (ct_X0_need hS h3) mv_X0_need (stN_o0 hS).r rfl rfl q416 dX0_may_22 rfl rfl (Nat.le_of_ble_eq_true rfl) rfl ?_
      refine j_aload_n (pc := 25) C dX0_may_25 rfl rfl ?_
      refine j_iload_n (pc := 26) C dX0_may_26 rfl rfl ?_
      replace hk := ob_some hk
      obtain ⟨I27, h6, hk⟩ := hk
      refine x_callV (pc := 27) C (ct_X0_weave hS h6) mv_X0_weave (stN_o0 hS).r rfl rfl q1423 dX0_may_27 rfl rfl (Nat.le_of_ble_eq_true rfl) rfl ?_
      refine j_iconst (pc := 30) (v := nI 0) C dX0_may_30 (by decide) ?_
      refine j_istore_n (pc := 31) C dX0_may_31 rfl (Nat.le_of_ble_eq_true rfl) rfl ?_
      refine j_iconst (pc := 32) (v := nI 1) C dX0_may_32 (by decide) ?_
      refine j_istore (pc := 33) C dX0_may_33 (Nat.le_of_ble_eq_true rfl) rfl ?_
      have L35 : ∀ (x2 : Int32) (n35 : Nat) (x3 : Int32) (x4 : Int32) (I : II), f_X0_may_L35 F sh x2 n35 x3 x4 I = some Z → J G p l e rm_X0_may s m args below meth c 5 (.returned (some (.int Z.1))) (sh, Z.2) (rm_X0_may).cells (rm_X0_may).slots (sh, I) 0 0 35 [some (.ref (wad G 0)), none, some (.int x2), some (.int x3), some (.int x4)] [] := by
        intro x2 n35
        induction n35 with
        | zero => intro x3 x4 I hk; rw [f_X0_may_L35] at hk; cases hk
        | succ n35 ih35 =>
          intro x3 x4 I hk
          rw [f_X0_may_L35] at hk
          generalize f_X0_may_L35 F sh x2 n35 = k35 at ih35 hk
          refine j_iload (pc := 35) C dX0_may_35 rfl ?_
          refine j_iconst (pc := 37) (v := nI 3) C dX0_may_37 (by decide) ?_
          refine j_icmp_gt (pc := 38) 88 C dX0_may_38 (by decide) (fun h7 => ?_) (fun h7 => ?_)
          · replace hk := it_t h7 hk
            refine j_iload_n (pc := 88) C dX0_may_88 rfl rfl ?_
            obtain rfl := Option.some.inj hk
            exact j_iret (pc := 89) C dX0_may_89 (Nat.le_of_ble_eq_true rfl) (Nat.le_of_ble_eq_true rfl)
          · replace hk := it_f h7 hk
            refine j_aload_n (pc := 41) C dX0_may_41 rfl rfl ?_
            refine x_getR (pc := 42) C fd_0_6 (fl1 C q378) (stN_o0 hS).r (stN_r0_6 hS) dX0_may_42 ?_
            refine j_sipush (pc := 45) (v := nI 4095) C dX0_may_45 (by decide) ?_
            replace hk := ob_some hk
            obtain ⟨I48, h8, hk⟩ := hk
            refine x_callV (pc := 48) C (ct_X5_begin hS h8) mv_X5_begin (stN_o11 hS).r rfl rfl q1449 dX0_may_48 rfl rfl (Nat.le_of_ble_eq_true rfl) rfl ?_
            refine j_aload_n (pc := 51) C dX0_may_51 rfl rfl ?_
            refine x_getR (pc := 52) C fd_0_6 (fl1 C q378) (stN_o0 hS).r (stN_r0_6 hS) dX0_may_52 ?_
            refine j_iload_n (pc := 55) C dX0_may_55 rfl rfl ?_
            refine j_iload (pc := 56) C dX0_may_56 rfl ?_
            replace hk := ob_some hk
            obtain ⟨I58, h9, hk⟩ := hk
            refine x_callV (pc := 58) C (ct_X5_keep hS h9) mv_X5_keep (stN_o11 hS).r rfl rfl q1506 dX0_may_58 rfl rfl (Nat.le_of_ble_eq_true rfl) rfl ?_
            refine j_iload_n (pc := 61) C dX0_may_61 rfl rfl ?_
            refine j_aload_n (pc := 62) C dX0_may_62 rfl rfl ?_
            refine x_getR (pc := 63) C fd_0_6 (fl1 C q378) (stN_o0 hS).r (stN_r0_6 hS) dX0_may_63 ?_
            replace hk := bd2_some hk
            obtain ⟨r66, I66, h10, hk⟩ := hk
            refine x_callV (pc := 66) C (ct_X5_finds hS h10) mv_X5_finds (stN_o11 hS).r rfl rfl q1453 dX0_may_66 rfl rfl (Nat.le_of_ble_eq_true rfl) rfl ?_
            refine j_if_eq (pc := 69) 79 C dX0_may_69 (by decide) (fun h11 => ?_) (fun h11 => ?_)
            · replace hk := it_t h11 hk
              refine j_iconst (pc := 79) (v := nI 0) C dX0_may_79 (by decide) ?_
              refine j_ior (pc := 80) C dX0_may_80 ?_
              refine j_istore_n (pc := 81) C dX0_may_81 rfl (Nat.le_of_ble_eq_true rfl) rfl ?_
              refine j_iinc (pc := 82) (nI 1) C dX0_may_82 rfl (by decide) (Nat.le_of_ble_eq_true rfl) rfl ?_
              refine j_goto (pc := 85) 35 C dX0_may_85 (by decide) ?_
              exact j_mask [true, false, true, true, true] (ih35 _ _ _ hk)
            · replace hk := it_f h11 hk
              refine j_iconst (pc := 72) (v := nI 1) C dX0_may_72 (by decide) ?_
              refine j_iload (pc := 73) C dX0_may_73 rfl ?_
              refine j_ishl (pc := 75) C dX0_may_75 ?_
              refine j_goto (pc := 76) 80 C dX0_may_76 (by decide) ?_
              refine j_ior (pc := 80) C dX0_may_80 ?_
              refine j_istore_n (pc := 81) C dX0_may_81 rfl (Nat.le_of_ble_eq_true rfl) rfl ?_
              refine j_iinc (pc := 82) (nI 1) C dX0_may_82 rfl (by decide) (Nat.le_of_ble_eq_true rfl) rfl ?_
              refine j_goto (pc := 85) 35 C dX0_may_85 (by decide) ?_
              exact j_mask [true, false, true, true, true] (ih35 _ _ _ hk)
      exact j_mask [true, false, true, true, true] (L35 _ _ _ _ _ hk)
  have Jn20 : ∀ (x1 : Int32) (x2 : Int32) (I : II), f_X0_may_J20 F sh x1 x2 I = some Z → J G p l e rm_X0_may s m args below meth c 5 (.returned (some (.int Z.1))) (sh, Z.2) (rm_X0_may).cells (rm_X0_may).slots (sh, I) 0 0 20 [some (.ref (wad G 0)), some (.int x1), some (.int x2), none, none] [.ref (wad G 0)] := by
    intro x1 x2 I hk
    unfold f_X0_may_J20 at hk
    refine j_iconst (pc := 20) (v := nI 0) C dX0_may_20 (by decide) ?_
    exact j_mask [true, true, true, false, false] (Jn21 _ _ _ _ hk)
  refine j_if_eq (pc := 6) 20 C dX0_may_6 (by decide) (fun h12 => ?_) (fun h12 => ?_)
  · replace hk := it_t h12 hk
    exact j_mask [true, true, true, false, false] (Jn20 _ _ _ hk)
  · replace hk := it_f h12 hk
    refine j_iload_n (pc := 9) C dX0_may_9 rfl rfl ?_
    replace hk := ob_some hk
    obtain ⟨r10, h13, hk⟩ := hk
    refine j_callS (pc := 10) C (ct_X0_isHall h13) ms_X0_isHall q410 dX0_may_10 rfl rfl (Nat.le_of_ble_eq_true rfl) rfl ?_
    refine j_if_eq (pc := 13) 20 C dX0_may_13 (by decide) (fun h14 => ?_) (fun h14 => ?_)
    · replace hk := it_t h14 hk
      exact j_mask [true, true, true, false, false] (Jn20 _ _ _ hk)
    · replace hk := it_f h14 hk
      refine j_iconst (pc := 16) (v := nI 1) C dX0_may_16 (by decide) ?_
      refine j_goto (pc := 17) 21 C dX0_may_17 (by decide) ?_
      exact j_mask [true, true, true, false, false] (Jn21 _ _ _ _ hk)
theorem mv_X5_counted_ok : callOK yX5_counted 1 := by decide +kernel
theorem mv_X5_counted : MV yX5_counted cX5_counted 5 (some .long) 1 := ⟨q1500, qs29, q102, q1501, mv_X5_counted_ok⟩
def f_X5_counted_L37 (F : Nat) (c_X5_counted : SH → Int32 → II → Option (Int64 × II)) (sh : SH) (x1 : Int32) : Nat → Int64 → Int32 → II → Option (Int64 × II)
  | 0, _, _, _ => none
  | n37 + 1, x2, x4, I => if (nI 3) < x4 then some (x2, I) else (f_X5_isLeft sh x1 x4 I).bind fun r48 => if r48 = 0 then (f_X5_counted_L37 F c_X5_counted sh x1 n37) (x2 + (0)) (x4 + (nI 1)) I else bd2 (f_X5_goesOn F sh x1 x4 I) fun r58 I58 => if r58 = 0 then (f_X5_counted_L37 F c_X5_counted sh x1 n37) (x2 + (0)) (x4 + (nI 1)) I58 else bd2 (c_X5_counted sh (x1 + (nI 1)) I58) fun r68 I68 => (f_X5_counted_L37 F c_X5_counted sh x1 n37) (x2 + r68) (x4 + (nI 1)) I68
def fb_X5_counted (F : Nat) (c_X5_counted : SH → Int32 → II → Option (Int64 × II)) (sh : SH) (x1 : Int32) (I : II) : Option (Int64 × II) := if x1 = (nI 12) then some ((1), I) else (f_X0_has (I 11 3) x1).bind fun r13 => if r13 = 0 then (f_X5_passes F sh x1 I).bind fun I21 => bd2 (c_X5_counted sh (x1 + (nI 1)) I21) fun r28 I28 => some (r28, I28) else f_X5_counted_L37 F c_X5_counted sh x1 F (0) (nI 1) I
set_option maxHeartbeats 4000000 in
theorem ctb_X5_counted {G : WG} {l : Launch} {sh : SH} (hS : stN sh) {Rf Rl : Nat} {F : Nat} {fc_X5_counted lc_X5_counted : Nat} {c_X5_counted : SH → Int32 → II → Option (Int64 × II)} (hc_X5_counted : ∀ {x1 : Int32} {I : II} {Z : (Int64 × II)}, c_X5_counted sh x1 I = some Z → CT G l yX5_counted (ws_ yX5_counted cX5_counted 5 (some .long)) (rmA fc_X5_counted lc_X5_counted 0) [.ref (wad G 11), .int x1] (sh, I) (.returned (some (.long Z.1))) (sh, Z.2)) (hr_X0_has : 0 + 1 ≤ Rf ∧ 8 + (2 + 11) + 0 ≤ Rl) (hr_X5_isLeft : 1 + 1 ≤ Rf ∧ 8 + (3 + 11) + 21 ≤ Rl) (hr_X5_goesOn : 1 + 1 ≤ Rf ∧ 8 + (6 + 11) + 21 ≤ Rl) (hr_X5_counted : fc_X5_counted + 1 ≤ Rf ∧ 8 + (5 + 11) + lc_X5_counted ≤ Rl) (hr_X5_passes : 0 + 1 ≤ Rf ∧ 8 + (3 + 11) + 0 ≤ Rl) {x1 : Int32} {I : II} {Z : (Int64 × II)} (hk : fb_X5_counted F c_X5_counted sh x1 I = some Z) : CT G l yX5_counted (ws_ yX5_counted cX5_counted 5 (some .long)) (rmA Rf Rl 0) [.ref (wad G 11), .int x1] (sh, I) (.returned (some (.long Z.1))) (sh, Z.2) := by
  refine CT.ofJ "NineDemands$Search" rfl (by decide) (Nat.le_of_ble_eq_true rfl) ?_
  intro p e s m args below meth c C
  unfold fb_X5_counted at hk
  refine j_lv (lv' := [some (.ref (wad G 11)), some (.int x1), none, none, none]) rfl ?_
  refine j_iload_n (pc := 0) C dX5_counted_0 rfl rfl ?_
  refine j_bipush (pc := 1) (v := nI 12) C dX5_counted_1 (by decide) ?_
  refine j_icmp_ne (pc := 3) 8 C dX5_counted_3 (by decide) (fun h1 => ?_) (fun h1 => ?_)
  · replace hk := it_f h1 hk
    refine j_aload_n (pc := 8) C dX5_counted_8 rfl rfl ?_
    refine x_getI (pc := 9) C fd_6_3 (fl1 C q326) (stN_o11 hS).r dX5_counted_9 ?_
    refine j_iload_n (pc := 12) C dX5_counted_12 rfl rfl ?_
    replace hk := ob_some hk
    obtain ⟨r13, h2, hk⟩ := hk
    refine x_callSN (pc := 13) C (ct_X0_has h2) ms_X0_has q1461 dX5_counted_13 rfl rfl (Nat.le_of_ble_eq_true rfl) (rmOK.i hr_X0_has.1 hr_X0_has.2 (Nat.zero_le _) (Nat.zero_le _)) ?_
    refine j_if_ne (pc := 16) 32 C dX5_counted_16 (by decide) (fun h3 => ?_) (fun h3 => ?_)
    · replace hk := it_f h3 hk
      refine j_lconst (pc := 32) (v := 0) C dX5_counted_32 (by decide) ?_
      refine j_lstore_n (pc := 33) C dX5_counted_33 rfl (Nat.le_of_ble_eq_true rfl) rfl ?_
      refine j_iconst (pc := 34) (v := nI 1) C dX5_counted_34 (by decide) ?_
      refine j_istore (pc := 35) C dX5_counted_35 (Nat.le_of_ble_eq_true rfl) rfl ?_
      have L37 : ∀ (x1 : Int32) (n37 : Nat) (x2 : Int64) (x4 : Int32) (I : II), f_X5_counted_L37 F c_X5_counted sh x1 n37 x2 x4 I = some Z → J G p l e (rmA Rf Rl 0) s m args below meth c 5 (.returned (some (.long Z.1))) (sh, Z.2) ((rmA Rf Rl 0)).cells ((rmA Rf Rl 0)).slots (sh, I) 0 0 37 [some (.ref (wad G 11)), some (.int x1), some (.long x2), none, some (.int x4)] [] := by
        intro x1 n37
        induction n37 with
        | zero => intro x2 x4 I hk; rw [f_X5_counted_L37] at hk; cases hk
        | succ n37 ih37 =>
          intro x2 x4 I hk
          rw [f_X5_counted_L37] at hk
          generalize f_X5_counted_L37 F c_X5_counted sh x1 n37 = k37 at ih37 hk
          refine j_iload (pc := 37) C dX5_counted_37 rfl ?_
          refine j_iconst (pc := 39) (v := nI 3) C dX5_counted_39 (by decide) ?_
          refine j_icmp_gt (pc := 40) 83 C dX5_counted_40 (by decide) (fun h4 => ?_) (fun h4 => ?_)
          · replace hk := it_t h4 hk
            refine j_lload_n (pc := 83) C dX5_counted_83 rfl rfl ?_
            obtain rfl := Option.some.inj hk
            exact j_lret (pc := 84) C dX5_counted_84 (Nat.zero_le _) (Nat.zero_le _)
          · replace hk := it_f h4 hk
            refine j_lload_n (pc := 43) C dX5_counted_43 rfl rfl ?_
            refine j_aload_n (pc := 44) C dX5_counted_44 rfl rfl ?_
            refine j_iload_n (pc := 45) C dX5_counted_45 rfl rfl ?_
            refine j_iload (pc := 46) C dX5_counted_46 rfl ?_
            replace hk := ob_some hk
            obtain ⟨r48, h5, hk⟩ := hk
            refine x_callV (pc := 48) C (ct_X5_isLeft hS h5) mv_X5_isLeft (stN_o11 hS).r rfl rfl q1466 dX5_counted_48 rfl rfl (Nat.le_of_ble_eq_true rfl) (rmOK.i hr_X5_isLeft.1 hr_X5_isLeft.2 (Nat.zero_le _) (Nat.zero_le _)) ?_
            refine j_if_eq (pc := 51) 74 C dX5_counted_51 (by decide) (fun h6 => ?_) (fun h6 => ?_)
            · replace hk := it_t h6 hk
              refine j_lconst (pc := 74) (v := 0) C dX5_counted_74 (by decide) ?_
              refine j_ladd (pc := 75) C dX5_counted_75 ?_
              refine j_lstore_n (pc := 76) C dX5_counted_76 rfl (Nat.le_of_ble_eq_true rfl) rfl ?_
              refine j_iinc (pc := 77) (nI 1) C dX5_counted_77 rfl (by decide) (Nat.le_of_ble_eq_true rfl) rfl ?_
              refine j_goto (pc := 80) 37 C dX5_counted_80 (by decide) ?_
              exact j_mask [true, true, true, false, true] (ih37 _ _ _ hk)
            · replace hk := it_f h6 hk
              refine j_aload_n (pc := 54) C dX5_counted_54 rfl rfl ?_
              refine j_iload_n (pc := 55) C dX5_counted_55 rfl rfl ?_
              refine j_iload (pc := 56) C dX5_counted_56 rfl ?_
              replace hk := bd2_some hk
              obtain ⟨r58, I58, h7, hk⟩ := hk
              refine x_callV (pc := 58) C (ct_X5_goesOn hS h7) mv_X5_goesOn (stN_o11 hS).r rfl rfl q1470 dX5_counted_58 rfl rfl (Nat.le_of_ble_eq_true rfl) (rmOK.i hr_X5_goesOn.1 hr_X5_goesOn.2 (Nat.zero_le _) (Nat.zero_le _)) ?_
              refine j_if_eq (pc := 61) 74 C dX5_counted_61 (by decide) (fun h8 => ?_) (fun h8 => ?_)
              · replace hk := it_t h8 hk
                refine j_lconst (pc := 74) (v := 0) C dX5_counted_74 (by decide) ?_
                refine j_ladd (pc := 75) C dX5_counted_75 ?_
                refine j_lstore_n (pc := 76) C dX5_counted_76 rfl (Nat.le_of_ble_eq_true rfl) rfl ?_
                refine j_iinc (pc := 77) (nI 1) C dX5_counted_77 rfl (by decide) (Nat.le_of_ble_eq_true rfl) rfl ?_
                refine j_goto (pc := 80) 37 C dX5_counted_80 (by decide) ?_
                exact j_mask [true, true, true, false, true] (ih37 _ _ _ hk)
              · replace hk := it_f h8 hk
                refine j_aload_n (pc := 64) C dX5_counted_64 rfl rfl ?_
                refine j_iload_n (pc := 65) C dX5_counted_65 rfl rfl ?_
                refine j_iconst (pc := 66) (v := nI 1) C dX5_counted_66 (by decide) ?_
                refine j_iadd (pc := 67) C dX5_counted_67 ?_
                replace hk := bd2_some hk
                obtain ⟨r68, I68, h9, hk⟩ := hk
                refine x_callV (pc := 68) C (hc_X5_counted h9) mv_X5_counted (stN_o11 hS).r rfl rfl q1498 dX5_counted_68 rfl rfl (Nat.le_of_ble_eq_true rfl) (rmOK.i hr_X5_counted.1 hr_X5_counted.2 (Nat.zero_le _) (Nat.zero_le _)) ?_
                refine j_goto (pc := 71) 75 C dX5_counted_71 (by decide) ?_
                refine j_ladd (pc := 75) C dX5_counted_75 ?_
                refine j_lstore_n (pc := 76) C dX5_counted_76 rfl (Nat.le_of_ble_eq_true rfl) rfl ?_
                refine j_iinc (pc := 77) (nI 1) C dX5_counted_77 rfl (by decide) (Nat.le_of_ble_eq_true rfl) rfl ?_
                refine j_goto (pc := 80) 37 C dX5_counted_80 (by decide) ?_
                exact j_mask [true, true, true, false, true] (ih37 _ _ _ hk)
      exact j_mask [true, true, true, false, true] (L37 _ _ _ _ _ hk)
    · replace hk := it_t h3 hk
      refine j_aload_n (pc := 19) C dX5_counted_19 rfl rfl ?_
      refine j_iload_n (pc := 20) C dX5_counted_20 rfl rfl ?_
      replace hk := ob_some hk
      obtain ⟨I21, h10, hk⟩ := hk
      refine x_callV (pc := 21) C (ct_X5_passes hS h10) mv_X5_passes (stN_o11 hS).r rfl rfl q1462 dX5_counted_21 rfl rfl (Nat.le_of_ble_eq_true rfl) (rmOK.i hr_X5_passes.1 hr_X5_passes.2 (Nat.zero_le _) (Nat.zero_le _)) ?_
      refine j_aload_n (pc := 24) C dX5_counted_24 rfl rfl ?_
      refine j_iload_n (pc := 25) C dX5_counted_25 rfl rfl ?_
      refine j_iconst (pc := 26) (v := nI 1) C dX5_counted_26 (by decide) ?_
      refine j_iadd (pc := 27) C dX5_counted_27 ?_
      replace hk := bd2_some hk
      obtain ⟨r28, I28, h11, hk⟩ := hk
      refine x_callV (pc := 28) C (hc_X5_counted h11) mv_X5_counted (stN_o11 hS).r rfl rfl q1498 dX5_counted_28 rfl rfl (Nat.le_of_ble_eq_true rfl) (rmOK.i hr_X5_counted.1 hr_X5_counted.2 (Nat.zero_le _) (Nat.zero_le _)) ?_
      obtain rfl := Option.some.inj hk
      exact j_lret (pc := 31) C dX5_counted_31 (Nat.zero_le _) (Nat.zero_le _)
  · replace hk := it_t h1 hk
    refine j_lconst (pc := 6) (v := 1) C dX5_counted_6 (by decide) ?_
    obtain rfl := Option.some.inj hk
    exact j_lret (pc := 7) C dX5_counted_7 (Nat.zero_le _) (Nat.zero_le _)
def f_X5_counted (F : Nat) : Nat → SH → Int32 → II → Option (Int64 × II)
  | 0 => fun _ _ _ => none
  | d + 1 => fb_X5_counted F (f_X5_counted F d)
theorem f_X5_counted_s (F : Nat) (d : Nat) : f_X5_counted F (d + 1) = fb_X5_counted F (f_X5_counted F d) := rfl
theorem f_X5_counted_0 (F : Nat) : f_X5_counted F 0 = fun _ _ _ => none := rfl
set_option maxHeartbeats 4000000 in
theorem ctg_X5_counted {G : WG} {l : Launch} {sh : SH} (hS : stN sh) (F : Nat) : ∀ d : Nat, (∀ (x1 : Int32) (I : II) (Z : (Int64 × II)), f_X5_counted F d sh x1 I = some Z → CT G l yX5_counted (ws_ yX5_counted cX5_counted 5 (some .long)) (rmA (d + 2) (24 * d + 100) 0) [.ref (wad G 11), .int x1] (sh, I) (.returned (some (.long Z.1))) (sh, Z.2)) := by
  intro d
  induction d with
  | zero =>
    (intros; rename_i hk; cases hk)
  | succ d ih =>
    have ih_X5_counted := ih
    · intro v0 v1 v2 hk
      exact ctb_X5_counted (F := F) hS (fun {a0 a1 a2} hk => ih_X5_counted a0 a1 a2 hk) ⟨by omega, by omega⟩ ⟨by omega, by omega⟩ ⟨by omega, by omega⟩ ⟨by omega, by omega⟩ ⟨by omega, by omega⟩ hk
theorem ct_X5_counted {G : WG} {l : Launch} {sh : SH} (hS : stN sh) {F : Nat} {d : Nat} {x1 : Int32} {I : II} {Z : (Int64 × II)} (hk : f_X5_counted F d sh x1 I = some Z) : CT G l yX5_counted (ws_ yX5_counted cX5_counted 5 (some .long)) (rmA (d + 2) (24 * d + 100) 0) [.ref (wad G 11), .int x1] (sh, I) (.returned (some (.long Z.1))) (sh, Z.2) := (ctg_X5_counted hS F d) _ _ _ hk
def f_X5_counts_L7 (F : Nat) (sh : SH) : Nat → Int64 → Int32 → Int32 → II → Option (Int64 × II)
  | 0, _, _, _, _ => none
  | n7 + 1, x1, x3, x4, I => if (nI 12) ≤ x4 then some (x1, I) else (f_X0_has x3 x4).bind fun r17 => if r17 = 0 then (f_X6_tied F sh x4 I).bind fun r29 => (f_X5_begin F sh r29 I).bind fun I42 => bd2 (f_X5_counted F 13 sh (nI 0) I42) fun r48 I48 => (f_X5_counts_L7 F sh n7) (x1 * r48) (x3 ||| r29) (x4 + (nI 1)) I48 else (f_X5_counts_L7 F sh n7) x1 x3 (x4 + (nI 1)) I
def f_X5_counts (F : Nat) (sh : SH) (I : II) : Option (Int64 × II) := f_X5_counts_L7 F sh F (1) (nI 0) (nI 0) I
abbrev rm_X5_counts : Room := { frames := 16, cells := 0, slots := 0, locals := 436 }
theorem mv_X5_counts_ok : callOK yX5_counts 0 := by decide +kernel
theorem mv_X5_counts : MV yX5_counts cX5_counts 6 (some .long) 0 := ⟨q1489, q1490, q102, q1491, mv_X5_counts_ok⟩
set_option maxHeartbeats 4000000 in
theorem ct_X5_counts {G : WG} {l : Launch} {sh : SH} (hS : stN sh) {I : II} {F : Nat}  {Z : (Int64 × II)} (hk : f_X5_counts F sh I = some Z) : CT G l yX5_counts (ws_ yX5_counts cX5_counts 6 (some .long)) rm_X5_counts [.ref (wad G 11)] (sh, I) (.returned (some (.long Z.1))) (sh, Z.2) := by
  refine CT.ofJ "NineDemands$Search" rfl (by decide) (Nat.le_of_ble_eq_true rfl) ?_
  intro p e s m args below meth c C
  unfold f_X5_counts at hk
  refine j_lv (lv' := [some (.ref (wad G 11)), none, none, none, none, none]) rfl ?_
  refine j_lconst (pc := 0) (v := 1) C dX5_counts_0 (by decide) ?_
  refine j_lstore_n (pc := 1) C dX5_counts_1 rfl (Nat.le_of_ble_eq_true rfl) rfl ?_
  refine j_iconst (pc := 2) (v := nI 0) C dX5_counts_2 (by decide) ?_
  refine j_istore_n (pc := 3) C dX5_counts_3 rfl (Nat.le_of_ble_eq_true rfl) rfl ?_
  refine j_iconst (pc := 4) (v := nI 0) C dX5_counts_4 (by decide) ?_
  refine j_istore (pc := 5) C dX5_counts_5 (Nat.le_of_ble_eq_true rfl) rfl ?_
  have L7 : ∀  (n7 : Nat) (x1 : Int64) (x3 : Int32) (x4 : Int32) (I : II), f_X5_counts_L7 F sh n7 x1 x3 x4 I = some Z → J G p l e rm_X5_counts s m args below meth c 6 (.returned (some (.long Z.1))) (sh, Z.2) (rm_X5_counts).cells (rm_X5_counts).slots (sh, I) 0 0 7 [some (.ref (wad G 11)), some (.long x1), none, some (.int x3), some (.int x4), none] [] := by
    intro  n7
    induction n7 with
    | zero => intro x1 x3 x4 I hk; rw [f_X5_counts_L7] at hk; cases hk
    | succ n7 ih7 =>
      intro x1 x3 x4 I hk
      rw [f_X5_counts_L7] at hk
      generalize f_X5_counts_L7 F sh n7 = k7 at ih7 hk
      refine j_iload (pc := 7) C dX5_counts_7 rfl ?_
      refine j_bipush (pc := 9) (v := nI 12) C dX5_counts_9 (by decide) ?_
      refine j_icmp_ge (pc := 11) 59 C dX5_counts_11 (by decide) (fun h1 => ?_) (fun h1 => ?_)
      · replace hk := it_t h1 hk
        refine j_lload_n (pc := 59) C dX5_counts_59 rfl rfl ?_
        obtain rfl := Option.some.inj hk
        exact j_lret (pc := 60) C dX5_counts_60 (Nat.le_of_ble_eq_true rfl) (Nat.le_of_ble_eq_true rfl)
      · replace hk := it_f h1 hk
        refine j_iload_n (pc := 14) C dX5_counts_14 rfl rfl ?_
        refine j_iload (pc := 15) C dX5_counts_15 rfl ?_
        replace hk := ob_some hk
        obtain ⟨r17, h2, hk⟩ := hk
        refine x_callSN (pc := 17) C (ct_X0_has h2) ms_X0_has q1461 dX5_counts_17 rfl rfl (Nat.le_of_ble_eq_true rfl) rfl ?_
        refine j_if_ne (pc := 20) 53 C dX5_counts_20 (by decide) (fun h3 => ?_) (fun h3 => ?_)
        · replace hk := it_f h3 hk
          refine j_iinc (pc := 53) (nI 1) C dX5_counts_53 rfl (by decide) (Nat.le_of_ble_eq_true rfl) rfl ?_
          refine j_goto (pc := 56) 7 C dX5_counts_56 (by decide) ?_
          exact j_mask [true, true, false, true, true, false] (ih7 _ _ _ _ hk)
        · replace hk := it_t h3 hk
          refine j_aload_n (pc := 23) C dX5_counts_23 rfl rfl ?_
          refine x_getR (pc := 24) C fd_6_0 (fl1 C q321) (stN_o11 hS).r (stN_r11_0 hS) dX5_counts_24 ?_
          refine j_iload (pc := 27) C dX5_counts_27 rfl ?_
          replace hk := ob_some hk
          obtain ⟨r29, h4, hk⟩ := hk
          refine x_callV (pc := 29) C (ct_X6_tied hS h4) mv_X6_tied (stN_o12 hS).r rfl rfl q1492 dX5_counts_29 rfl rfl (Nat.le_of_ble_eq_true rfl) rfl ?_
          refine j_istore (pc := 32) C dX5_counts_32 (Nat.le_of_ble_eq_true rfl) rfl ?_
          refine j_iload_n (pc := 34) C dX5_counts_34 rfl rfl ?_
          refine j_iload (pc := 35) C dX5_counts_35 rfl ?_
          refine j_ior (pc := 37) C dX5_counts_37 ?_
          refine j_istore_n (pc := 38) C dX5_counts_38 rfl (Nat.le_of_ble_eq_true rfl) rfl ?_
          refine j_aload_n (pc := 39) C dX5_counts_39 rfl rfl ?_
          refine j_iload (pc := 40) C dX5_counts_40 rfl ?_
          replace hk := ob_some hk
          obtain ⟨I42, h5, hk⟩ := hk
          refine x_callV (pc := 42) C (ct_X5_begin hS h5) mv_X5_begin (stN_o11 hS).r rfl rfl q1497 dX5_counts_42 rfl rfl (Nat.le_of_ble_eq_true rfl) rfl ?_
          refine j_lload_n (pc := 45) C dX5_counts_45 rfl rfl ?_
          refine j_aload_n (pc := 46) C dX5_counts_46 rfl rfl ?_
          refine j_iconst (pc := 47) (v := nI 0) C dX5_counts_47 (by decide) ?_
          replace hk := bd2_some hk
          obtain ⟨r48, I48, h6, hk⟩ := hk
          refine x_callV (pc := 48) C (ct_X5_counted hS h6) mv_X5_counted (stN_o11 hS).r rfl rfl q1498 dX5_counts_48 rfl rfl (Nat.le_of_ble_eq_true rfl) rfl ?_
          refine j_lmul (pc := 51) C dX5_counts_51 ?_
          refine j_lstore_n (pc := 52) C dX5_counts_52 rfl (Nat.le_of_ble_eq_true rfl) rfl ?_
          refine j_iinc (pc := 53) (nI 1) C dX5_counts_53 rfl (by decide) (Nat.le_of_ble_eq_true rfl) rfl ?_
          refine j_goto (pc := 56) 7 C dX5_counts_56 (by decide) ?_
          exact j_mask [true, true, false, true, true, false] (ih7 _ _ _ _ hk)
  exact j_mask [true, true, false, true, true, false] (L7  _ _ _ _ _ hk)
