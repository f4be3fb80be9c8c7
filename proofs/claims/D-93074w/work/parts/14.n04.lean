/-! the class: walks -/
set_option maxRecDepth 100000
def f_X0_put_J42 (sh : SH) (s0 : Nat) (I : II) : Option (Int32 × II) := bd2 (f_X0_finds sh s0 I) fun r47 I47 => some (r47, I47)
def f_X0_put (sh : SH) (x1 : Int32) (x2 : Int32) (x3 : Int32) (I : II) : Option (Int32 × II) := (f_X0_isSheet x1).bind fun r2 => bd2 (f_X0_need sh r2 (nI 1) I) fun u6 I6 => oex u6 (fun _w6 => bd2 (f_X0_sheetAt sh x1 I6) fun u11 I11 => oex u11 (fun a11 => (v_X24_size sh a11 I11).bind fun r21 => (f_X0_in x2 (nI 0) (r21 - (nI 1))).bind fun r26 => bd2 (f_X0_need sh r26 (nI 1) I11) fun u30 I30 => oex u30 (fun _w30 => (v_X24_put sh a11 x2 x3 I30).bind fun I37 => some ((nI 1), I37)) (fun w30 => ock sh w30 1 <| f_X0_put_J42 sh w30 I30)) (fun w11 => ock sh w11 1 <| f_X0_put_J42 sh w11 I11)) (fun w6 => ock sh w6 1 <| f_X0_put_J42 sh w6 I6)
abbrev rm_X0_put : Room := { frames := 3, cells := 0, slots := 0, locals := 64 }
theorem mv_X0_put_ok : callOK yX0_put 3 := by decide +kernel
theorem mw_X0_put : MW yX0_put cX0_put 5 (some .int) [(0, 41, 42, 8)] 3 := ⟨q1863, q1864, q91, q1865, mv_X0_put_ok⟩
set_option maxHeartbeats 4000000 in
theorem ct_X0_put {G : WG} {l : Launch} {sh : SH} (hS : stN sh) {I : II} {x1 : Int32} {x2 : Int32} {x3 : Int32} {Z : (Int32 × II)} (hk : f_X0_put sh x1 x2 x3 I = some Z) : CT G l yX0_put (wsW_ yX0_put cX0_put 5 (some .int) [(0, 41, 42, 8)]) rm_X0_put [.ref (wad G 0), .int x1, .int x2, .int x3] (sh, I) (.returned (some (.int Z.1))) (sh, Z.2) := by
  refine CT.ofJW "NineDemands" rfl (by decide) (Nat.le_of_ble_eq_true rfl) ?_
  intro p e s m args below meth c C
  unfold f_X0_put at hk
  refine j_lv (lv' := [some (.ref (wad G 0)), some (.int x1), some (.int x2), some (.int x3), none]) rfl ?_
  refine j_aload_n (pc := 0) C dX0_put_0 rfl rfl ?_
  refine j_iload_n (pc := 1) C dX0_put_1 rfl rfl ?_
  replace hk := ob_some hk
  obtain ⟨r2, h1, hk⟩ := hk
  refine j_callS (pc := 2) C (ct_X0_isSheet h1) ms_X0_isSheet q460 dX0_put_2 rfl rfl (Nat.le_of_ble_eq_true rfl) rfl ?_
  refine j_iconst (pc := 5) (v := nI 1) C dX0_put_5 (by decide) ?_
  have Jn42 : ∀ (s0 : Nat) (I : II), f_X0_put_J42 sh s0 I = some Z → J G p l e rm_X0_put s m args below meth c 5 (.returned (some (.int Z.1))) (sh, Z.2) (rm_X0_put).cells (rm_X0_put).slots (sh, I) 0 0 42 [some (.ref (wad G 0)), none, none, none, none] [.ref (wad G s0)] := by
    intro s0 I hk
    unfold f_X0_put_J42 at hk
    refine j_astore (pc := 42) C dX0_put_42 (Nat.le_of_ble_eq_true rfl) rfl ?_
    refine j_aload_n (pc := 44) C dX0_put_44 rfl rfl ?_
    refine j_aload (pc := 45) C dX0_put_45 rfl ?_
    replace hk := bd2_some hk
    obtain ⟨r47, I47, h2, hk⟩ := hk
    refine x_callV (pc := 47) C (ct_X0_finds hS h2) mv_X0_finds (stN_o0 hS).r rfl rfl q433 dX0_put_47 rfl rfl (Nat.le_of_ble_eq_true rfl) rfl ?_
    obtain rfl := Option.some.inj hk
    exact j_iret (pc := 50) C dX0_put_50 (Nat.le_of_ble_eq_true rfl) (Nat.le_of_ble_eq_true rfl)
  replace hk := bd2_some hk
  obtain ⟨u6, I6, h3, hk⟩ := hk
  cases u6 with
  | inr w6 =>
    replace hk := oex_r hk
    replace hk := ock_some hk
    obtain ⟨h5, hk⟩ := hk
    refine x_callVC [] [] (0, 41, 42, 8) (pc := 6) C (ct_X0_need hS h3) mv_X0_need (stN_o0 hS).r rfl rfl q416 dX0_put_6 rfl rfl (Nat.le_of_ble_eq_true rfl) rfl rfl h5 rfl (by decide) (by decide) q146 (fun z hz => by cases hz) ?_
    exact j_mask [true, false, false, false, false] (Jn42 _ _ hk)
  | inl _w6 =>
    replace hk := oex_l hk
    refine x_callV (pc := 6) C (ct_X0_need hS h3) mv_X0_need (stN_o0 hS).r rfl rfl q416 dX0_put_6 rfl rfl (Nat.le_of_ble_eq_true rfl) rfl ?_
    refine j_aload_n (pc := 9) C dX0_put_9 rfl rfl ?_
    refine j_iload_n (pc := 10) C dX0_put_10 rfl rfl ?_
    replace hk := bd2_some hk
    obtain ⟨u11, I11, h6, hk⟩ := hk
    cases u11 with
    | inr w11 =>
      replace hk := oex_r hk
      replace hk := ock_some hk
      obtain ⟨h8, hk⟩ := hk
      refine x_callVC [] [] (0, 41, 42, 8) (pc := 11) C (ct_X0_sheetAt hS h6) mv_X0_sheetAt (stN_o0 hS).r rfl rfl q463 dX0_put_11 rfl rfl (Nat.le_of_ble_eq_true rfl) rfl rfl h8 rfl (by decide) (by decide) q146 (fun z hz => by cases hz) ?_
      exact j_mask [true, false, false, false, false] (Jn42 _ _ hk)
    | inl a11 =>
      replace hk := oex_l hk
      refine x_callV (pc := 11) C (ct_X0_sheetAt hS h6) mv_X0_sheetAt (stN_o0 hS).r rfl rfl q463 dX0_put_11 rfl rfl (Nat.le_of_ble_eq_true rfl) rfl ?_
      refine j_astore (pc := 14) C dX0_put_14 (Nat.le_of_ble_eq_true rfl) rfl ?_
      refine j_aload_n (pc := 16) C dX0_put_16 rfl rfl ?_
      refine j_iload_n (pc := 17) C dX0_put_17 rfl rfl ?_
      refine j_iconst (pc := 18) (v := nI 0) C dX0_put_18 (by decide) ?_
      refine j_aload (pc := 19) C dX0_put_19 rfl ?_
      replace hk := ob_some hk
      obtain ⟨r21, h9, hk⟩ := hk
      refine x_callX (pc := 21) C (vc_X24_size hS h9) q468 dX0_put_21 rfl rfl (Nat.le_of_ble_eq_true rfl) (Nat.le_of_ble_eq_true rfl) (Nat.le_of_ble_eq_true rfl) (Nat.le_of_ble_eq_true rfl) (Nat.le_of_ble_eq_true rfl) ?_
      refine j_iconst (pc := 24) (v := nI 1) C dX0_put_24 (by decide) ?_
      refine j_isub (pc := 25) C dX0_put_25 ?_
      replace hk := ob_some hk
      obtain ⟨r26, h10, hk⟩ := hk
      refine j_callS (pc := 26) C (ct_X0_in h10) ms_X0_in q413 dX0_put_26 rfl rfl (Nat.le_of_ble_eq_true rfl) rfl ?_
      refine j_iconst (pc := 29) (v := nI 1) C dX0_put_29 (by decide) ?_
      replace hk := bd2_some hk
      obtain ⟨u30, I30, h11, hk⟩ := hk
      cases u30 with
      | inr w30 =>
        replace hk := oex_r hk
        replace hk := ock_some hk
        obtain ⟨h13, hk⟩ := hk
        refine x_callVC [] [] (0, 41, 42, 8) (pc := 30) C (ct_X0_need hS h11) mv_X0_need (stN_o0 hS).r rfl rfl q416 dX0_put_30 rfl rfl (Nat.le_of_ble_eq_true rfl) rfl rfl h13 rfl (by decide) (by decide) q146 (fun z hz => by cases hz) ?_
        exact j_mask [true, false, false, false, false] (Jn42 _ _ hk)
      | inl _w30 =>
        replace hk := oex_l hk
        refine x_callV (pc := 30) C (ct_X0_need hS h11) mv_X0_need (stN_o0 hS).r rfl rfl q416 dX0_put_30 rfl rfl (Nat.le_of_ble_eq_true rfl) rfl ?_
        refine j_aload (pc := 33) C dX0_put_33 rfl ?_
        refine j_iload_n (pc := 35) C dX0_put_35 rfl rfl ?_
        refine j_iload_n (pc := 36) C dX0_put_36 rfl rfl ?_
        replace hk := ob_some hk
        obtain ⟨I37, h14, hk⟩ := hk
        refine x_callX (pc := 37) C (vc_X24_put hS h14) q1866 dX0_put_37 rfl rfl (Nat.le_of_ble_eq_true rfl) (Nat.le_of_ble_eq_true rfl) (Nat.le_of_ble_eq_true rfl) (Nat.le_of_ble_eq_true rfl) (Nat.le_of_ble_eq_true rfl) ?_
        refine j_iconst (pc := 40) (v := nI 1) C dX0_put_40 (by decide) ?_
        obtain rfl := Option.some.inj hk
        exact j_iret (pc := 41) C dX0_put_41 (Nat.le_of_ble_eq_true rfl) (Nat.le_of_ble_eq_true rfl)
def f_X0_isWidth (x0 : Int32) : Option Int32 := if x0 = (nI 8) then some (nI 1) else if x0 = (nI 16) then some (nI 1) else if x0 = (nI 32) then some (nI 1) else some (nI 0)
abbrev rm_X0_isWidth : Room := { frames := 0, cells := 0, slots := 0, locals := 0 }
theorem ms_X0_isWidth : MS yX0_isWidth cX0_isWidth 1 (some .boolean) 1 := ⟨q1826, q91, q1827, by decide +kernel⟩
set_option maxHeartbeats 4000000 in
theorem ct_X0_isWidth {G : WG} {l : Launch} {sh : SH} {I : II} {x0 : Int32} {Z : Int32} (hk : f_X0_isWidth x0 = some Z) : CT G l yX0_isWidth (ws_ yX0_isWidth cX0_isWidth 1 (some .boolean)) rm_X0_isWidth [.int x0] (sh, I) (.returned (some (.int Z))) (sh, I) := by
  refine CT.ofJ "NineDemands" rfl (by decide) (Nat.le_of_ble_eq_true rfl) ?_
  intro p e s m args below meth c C
  unfold f_X0_isWidth at hk
  refine j_lv (lv' := [some (.int x0)]) rfl ?_
  refine j_iload_n (pc := 0) C dX0_isWidth_0 rfl rfl ?_
  refine j_bipush (pc := 1) (v := nI 8) C dX0_isWidth_1 (by decide) ?_
  refine j_icmp_eq (pc := 3) 18 C dX0_isWidth_3 (by decide) (fun h1 => ?_) (fun h1 => ?_)
  · replace hk := it_t h1 hk
    refine j_iconst (pc := 18) (v := nI 1) C dX0_isWidth_18 (by decide) ?_
    refine j_goto (pc := 19) 23 C dX0_isWidth_19 (by decide) ?_
    obtain rfl := Option.some.inj hk
    exact j_zret (pc := 23) C dX0_isWidth_23 (Nat.le_of_ble_eq_true rfl) (Nat.le_of_ble_eq_true rfl) (isB.nar (v := (nI 1)) (by unfold isB; decide))
  · replace hk := it_f h1 hk
    refine j_iload_n (pc := 6) C dX0_isWidth_6 rfl rfl ?_
    refine j_bipush (pc := 7) (v := nI 16) C dX0_isWidth_7 (by decide) ?_
    refine j_icmp_eq (pc := 9) 18 C dX0_isWidth_9 (by decide) (fun h2 => ?_) (fun h2 => ?_)
    · replace hk := it_t h2 hk
      refine j_iconst (pc := 18) (v := nI 1) C dX0_isWidth_18 (by decide) ?_
      refine j_goto (pc := 19) 23 C dX0_isWidth_19 (by decide) ?_
      obtain rfl := Option.some.inj hk
      exact j_zret (pc := 23) C dX0_isWidth_23 (Nat.le_of_ble_eq_true rfl) (Nat.le_of_ble_eq_true rfl) (isB.nar (v := (nI 1)) (by unfold isB; decide))
    · replace hk := it_f h2 hk
      refine j_iload_n (pc := 12) C dX0_isWidth_12 rfl rfl ?_
      refine j_bipush (pc := 13) (v := nI 32) C dX0_isWidth_13 (by decide) ?_
      refine j_icmp_ne (pc := 15) 22 C dX0_isWidth_15 (by decide) (fun h3 => ?_) (fun h3 => ?_)
      · replace hk := it_f h3 hk
        refine j_iconst (pc := 22) (v := nI 0) C dX0_isWidth_22 (by decide) ?_
        obtain rfl := Option.some.inj hk
        exact j_zret (pc := 23) C dX0_isWidth_23 (Nat.le_of_ble_eq_true rfl) (Nat.le_of_ble_eq_true rfl) (isB.nar (v := (nI 0)) (by unfold isB; decide))
      · replace hk := it_t h3 hk
        refine j_iconst (pc := 18) (v := nI 1) C dX0_isWidth_18 (by decide) ?_
        refine j_goto (pc := 19) 23 C dX0_isWidth_19 (by decide) ?_
        obtain rfl := Option.some.inj hk
        exact j_zret (pc := 23) C dX0_isWidth_23 (Nat.le_of_ble_eq_true rfl) (Nat.le_of_ble_eq_true rfl) (isB.nar (v := (nI 1)) (by unfold isB; decide))
def f_X24_init (sh : SH) (x0 : Nat) (I : II) : Option Unit := some ()
abbrev rm_X24_init : Room := { frames := 1, cells := 0, slots := 0, locals := 30 }
theorem mi_X24_init : MI yX24_init cX24_init 1 0 := ⟨q1834, q134, q1835, rfl, by decide +kernel⟩
set_option maxHeartbeats 4000000 in
theorem ct_X24_init {G : WG} {l : Launch} {sh : SH} {I : II} {x0 : Nat} {Z : Unit} (hk : f_X24_init sh x0 I = some Z) : CT G l yX24_init (ws_ yX24_init cX24_init 1 none) rm_X24_init [.ref (wad G x0)] (sh, I) (.returned none) (sh, I) := by
  refine CT.ofJ "NineDemands$Sheet" rfl (by decide) (Nat.le_of_ble_eq_true rfl) ?_
  intro p e s m args below meth c C
  unfold f_X24_init at hk
  refine j_lv (lv' := [some (.ref (wad G x0))]) rfl ?_
  refine j_aload_n (pc := 0) C dX24_init_0 rfl rfl ?_
  refine x_objInit (pc := 1) C q1836 q144 q145 dX24_init_1 (Nat.le_of_ble_eq_true rfl) (Nat.le_of_ble_eq_true rfl) ?_
  obtain rfl := Option.some.inj hk
  exact j_vret (pc := 4) C dX24_init_4 (Nat.le_of_ble_eq_true rfl) (Nat.le_of_ble_eq_true rfl)
def f_X27_init (sh : SH) (x0 : Nat) (x1 : Int32) (I : II) : Option (SH × II) := omn2 sh <| (f_X24_init sh x0 I).bind fun _ => onl x1 fun n6 => onw sh <| omn2 (newS sh 100 n6) <| ockw (newS sh 100 n6) x0 26 <| some (shR (newS sh 100 n6) x0 0 (some ((sh).1)), newI sh I)
abbrev rmf_X27_init : Nat := 2
abbrev rml_X27_init : Nat := 50
theorem mi_X27_init : MI yX27_init cX27_init 2 1 := ⟨q1855, q137, q1856, rfl, by decide +kernel⟩
set_option maxHeartbeats 4000000 in
theorem ct_X27_init {G : WG} {l : Launch} {sh : SH} {I : II} {x0 : Nat} {x1 : Int32} {Z : (SH × II)} (hk : f_X27_init sh x0 x1 I = some Z) : CT G l yX27_init (ws_ yX27_init cX27_init 2 none) (rmA rmf_X27_init rml_X27_init (Z.1.1 - sh.1)) [.ref (wad G x0), .int x1] (sh, I) (.returned none) Z := by
  refine CT.ofJ "NineDemands$Ints" rfl (by decide) (Nat.le_of_ble_eq_true rfl) ?_
  intro p e s m args below meth c C
  unfold f_X27_init at hk
  refine j_lv (lv' := [some (.ref (wad G x0)), some (.int x1)]) rfl ?_
  replace hk := omn2_some hk
  obtain ⟨hz0, hk⟩ := hk
  have hm0 : sh.1 ≤ sh.1 := Nat.le_refl _
  refine j_kn (k' := sh.1 - sh.1) (n' := 200 * (sh.1 - sh.1)) (Nat.sub_self _).symm (rb2 _) ?_
  refine j_aload_n (pc := 0) C dX27_init_0 rfl rfl ?_
  replace hk := ob_some hk
  obtain ⟨_u, h1, hk⟩ := hk
  refine x_callIN (pc := 1) C (ct_X24_init h1) mi_X24_init q1857 dX27_init_1 rfl rfl (Nat.le_of_ble_eq_true rfl) (rmOK.i (Nat.le_of_ble_eq_true rfl) (Nat.le_of_ble_eq_true rfl) (rz1 hm0 hz0) (rz2 hm0 hz0)) ?_
  refine j_aload_n (pc := 4) C dX27_init_4 rfl rfl ?_
  refine j_iload_n (pc := 5) C dX27_init_5 rfl rfl ?_
  replace hk := onl_ex hk
  obtain ⟨n6, en6, h2, hk⟩ := hk
  replace hk := onw_some hk
  obtain ⟨h3, hk⟩ := hk
  replace hk := omn2_some hk
  obtain ⟨h4, hk⟩ := hk
  have h4 : sh.1 + 1 ≤ Z.1.1 := h4
  refine x_newaI (pc := 6) (at' := .int) (t := 100) (q := n6) (i := x1) C (Or.inl ⟨rfl, rfl⟩) q247 h2.1 en6.symm (Nat.le_trans h2.2 (by decide)) h3 (ra1 hm0 h4) (ra2 hm0 h4 h2.2) dX27_init_6 ?_
  have h5 : sh.1 ≤ sh.1 + 1 := Nat.le_succ_of_le hm0
  refine j_wid (k' := (newS sh 100 n6).1 - sh.1) (n' := 200 * ((newS sh 100 n6).1 - sh.1)) (rw1 hm0) (rw2 hm0 h2.2) ?_
  replace hk := ockw_some hk
  obtain ⟨h6, hk⟩ := hk
  refine x_putNF (pc := 8) (o := (some ((sh).1))) C fd_26_0 q1858 h6 rfl dX27_init_8 ?_
  obtain rfl := Option.some.inj hk
  exact j_vret (pc := 11) C dX27_init_11 (Nat.le_refl _) (Nat.le_refl _)
def f_X26_init (sh : SH) (x0 : Nat) (x1 : Int32) (I : II) : Option (SH × II) := omn2 sh <| (f_X24_init sh x0 I).bind fun _ => onl x1 fun n6 => onw sh <| omn2 (newS sh 102 n6) <| ockw (newS sh 102 n6) x0 25 <| some (shR (newS sh 102 n6) x0 0 (some ((sh).1)), newI sh I)
abbrev rmf_X26_init : Nat := 2
abbrev rml_X26_init : Nat := 50
theorem mi_X26_init : MI yX26_init cX26_init 2 1 := ⟨q1844, q136, q1845, rfl, by decide +kernel⟩
set_option maxHeartbeats 4000000 in
theorem ct_X26_init {G : WG} {l : Launch} {sh : SH} {I : II} {x0 : Nat} {x1 : Int32} {Z : (SH × II)} (hk : f_X26_init sh x0 x1 I = some Z) : CT G l yX26_init (ws_ yX26_init cX26_init 2 none) (rmA rmf_X26_init rml_X26_init (Z.1.1 - sh.1)) [.ref (wad G x0), .int x1] (sh, I) (.returned none) Z := by
  refine CT.ofJ "NineDemands$Shorts" rfl (by decide) (Nat.le_of_ble_eq_true rfl) ?_
  intro p e s m args below meth c C
  unfold f_X26_init at hk
  refine j_lv (lv' := [some (.ref (wad G x0)), some (.int x1)]) rfl ?_
  replace hk := omn2_some hk
  obtain ⟨hz0, hk⟩ := hk
  have hm0 : sh.1 ≤ sh.1 := Nat.le_refl _
  refine j_kn (k' := sh.1 - sh.1) (n' := 200 * (sh.1 - sh.1)) (Nat.sub_self _).symm (rb2 _) ?_
  refine j_aload_n (pc := 0) C dX26_init_0 rfl rfl ?_
  replace hk := ob_some hk
  obtain ⟨_u, h1, hk⟩ := hk
  refine x_callIN (pc := 1) C (ct_X24_init h1) mi_X24_init q1846 dX26_init_1 rfl rfl (Nat.le_of_ble_eq_true rfl) (rmOK.i (Nat.le_of_ble_eq_true rfl) (Nat.le_of_ble_eq_true rfl) (rz1 hm0 hz0) (rz2 hm0 hz0)) ?_
  refine j_aload_n (pc := 4) C dX26_init_4 rfl rfl ?_
  refine j_iload_n (pc := 5) C dX26_init_5 rfl rfl ?_
  replace hk := onl_ex hk
  obtain ⟨n6, en6, h2, hk⟩ := hk
  replace hk := onw_some hk
  obtain ⟨h3, hk⟩ := hk
  replace hk := omn2_some hk
  obtain ⟨h4, hk⟩ := hk
  have h4 : sh.1 + 1 ≤ Z.1.1 := h4
  refine x_newaI (pc := 6) (at' := .short) (t := 102) (q := n6) (i := x1) C (Or.inr (Or.inr ⟨rfl, rfl⟩)) q1851 h2.1 en6.symm (Nat.le_trans h2.2 (by decide)) h3 (ra1 hm0 h4) (ra2 hm0 h4 h2.2) dX26_init_6 ?_
  have h5 : sh.1 ≤ sh.1 + 1 := Nat.le_succ_of_le hm0
  refine j_wid (k' := (newS sh 102 n6).1 - sh.1) (n' := 200 * ((newS sh 102 n6).1 - sh.1)) (rw1 hm0) (rw2 hm0 h2.2) ?_
  replace hk := ockw_some hk
  obtain ⟨h6, hk⟩ := hk
  refine x_putNF (pc := 8) (o := (some ((sh).1))) C fd_25_0 q1847 h6 rfl dX26_init_8 ?_
  obtain rfl := Option.some.inj hk
  exact j_vret (pc := 11) C dX26_init_11 (Nat.le_refl _) (Nat.le_refl _)
def f_X25_init (sh : SH) (x0 : Nat) (x1 : Int32) (I : II) : Option (SH × II) := omn2 sh <| (f_X24_init sh x0 I).bind fun _ => onl x1 fun n6 => onw sh <| omn2 (newS sh 101 n6) <| ockw (newS sh 101 n6) x0 24 <| some (shR (newS sh 101 n6) x0 0 (some ((sh).1)), newI sh I)
abbrev rmf_X25_init : Nat := 2
abbrev rml_X25_init : Nat := 50
theorem mi_X25_init : MI yX25_init cX25_init 2 1 := ⟨q1831, q135, q1832, rfl, by decide +kernel⟩
set_option maxHeartbeats 4000000 in
theorem ct_X25_init {G : WG} {l : Launch} {sh : SH} {I : II} {x0 : Nat} {x1 : Int32} {Z : (SH × II)} (hk : f_X25_init sh x0 x1 I = some Z) : CT G l yX25_init (ws_ yX25_init cX25_init 2 none) (rmA rmf_X25_init rml_X25_init (Z.1.1 - sh.1)) [.ref (wad G x0), .int x1] (sh, I) (.returned none) Z := by
  refine CT.ofJ "NineDemands$Bytes" rfl (by decide) (Nat.le_of_ble_eq_true rfl) ?_
  intro p e s m args below meth c C
  unfold f_X25_init at hk
  refine j_lv (lv' := [some (.ref (wad G x0)), some (.int x1)]) rfl ?_
  replace hk := omn2_some hk
  obtain ⟨hz0, hk⟩ := hk
  have hm0 : sh.1 ≤ sh.1 := Nat.le_refl _
  refine j_kn (k' := sh.1 - sh.1) (n' := 200 * (sh.1 - sh.1)) (Nat.sub_self _).symm (rb2 _) ?_
  refine j_aload_n (pc := 0) C dX25_init_0 rfl rfl ?_
  replace hk := ob_some hk
  obtain ⟨_u, h1, hk⟩ := hk
  refine x_callIN (pc := 1) C (ct_X24_init h1) mi_X24_init q1833 dX25_init_1 rfl rfl (Nat.le_of_ble_eq_true rfl) (rmOK.i (Nat.le_of_ble_eq_true rfl) (Nat.le_of_ble_eq_true rfl) (rz1 hm0 hz0) (rz2 hm0 hz0)) ?_
  refine j_aload_n (pc := 4) C dX25_init_4 rfl rfl ?_
  refine j_iload_n (pc := 5) C dX25_init_5 rfl rfl ?_
  replace hk := onl_ex hk
  obtain ⟨n6, en6, h2, hk⟩ := hk
  replace hk := onw_some hk
  obtain ⟨h3, hk⟩ := hk
  replace hk := omn2_some hk
  obtain ⟨h4, hk⟩ := hk
  have h4 : sh.1 + 1 ≤ Z.1.1 := h4
  refine x_newaI (pc := 6) (at' := .byte) (t := 101) (q := n6) (i := x1) C (Or.inr (Or.inl ⟨rfl, rfl⟩)) q273 h2.1 en6.symm (Nat.le_trans h2.2 (by decide)) h3 (ra1 hm0 h4) (ra2 hm0 h4 h2.2) dX25_init_6 ?_
  have h5 : sh.1 ≤ sh.1 + 1 := Nat.le_succ_of_le hm0
  refine j_wid (k' := (newS sh 101 n6).1 - sh.1) (n' := 200 * ((newS sh 101 n6).1 - sh.1)) (rw1 hm0) (rw2 hm0 h2.2) ?_
  replace hk := ockw_some hk
  obtain ⟨h6, hk⟩ := hk
  refine x_putNF (pc := 8) (o := (some ((sh).1))) C fd_24_0 q1837 h6 rfl dX25_init_8 ?_
  obtain rfl := Option.some.inj hk
  exact j_vret (pc := 11) C dX25_init_11 (Nat.le_refl _) (Nat.le_refl _)
def f_X0_sheet_J127 (s0 : Nat) (S : SH) (I : II) : Option (Int32 × SH × II) := ost S <| bd2 (f_X0_finds S s0 I) fun r132 I132 => some (r132, S, I132)
def f_X0_sheet_J122 (s0 : Nat) (s1 : Nat) (S : SH) (I : II) : Option (Int32 × SH × II) := ockw S s0 9 <| some ((nI 1), shR S s0 0 (some s1), I)
def f_X0_sheet_J70 (x1 : Int32) (x2 : Int32) (x3 : Int32) (s1 : Int32) (S : SH) (I : II) : Option (Int32 × SH × II) := ost S <| bd2 (f_X0_need S s1 (nI 1) I) fun u71 I71 => oex u71 (fun _w71 => oix x1 4 fun i79 => orf (S.2.2 22 i79) fun t79 => if x2 = (nI 8) then onw S <| omn3 (newS S 24 0) <| bd2 (f_X25_init (newS S 24 0) ((S).1) x3 (newI S I71)) fun S91 I91 => og (S.1 + 1 ≤ S91.1) <| omn3 S91 <| f_X0_sheet_J122 t79 ((S).1) S91 I91 else if x2 = (nI 16) then onw S <| omn3 (newS S 25 0) <| bd2 (f_X26_init (newS S 25 0) ((S).1) x3 (newI S I71)) fun S108 I108 => og (S.1 + 1 ≤ S108.1) <| omn3 S108 <| f_X0_sheet_J122 t79 ((S).1) S108 I108 else onw S <| omn3 (newS S 26 0) <| bd2 (f_X27_init (newS S 26 0) ((S).1) x3 (newI S I71)) fun S119 I119 => og (S.1 + 1 ≤ S119.1) <| omn3 S119 <| f_X0_sheet_J122 t79 ((S).1) S119 I119) (fun w71 => ock S w71 1 <| f_X0_sheet_J127 w71 S I71)
def f_X0_sheet_J54 (x1 : Int32) (x2 : Int32) (x3 : Int32) (s1 : Int32) (S : SH) (I : II) : Option (Int32 × SH × II) := ost S <| bd2 (f_X0_need S s1 (nI 3) I) fun u55 I55 => oex u55 (fun _w55 => if (nI 40) < x3 then f_X0_sheet_J70 x1 x2 x3 (nI 0) S I55 else f_X0_sheet_J70 x1 x2 x3 (nI 1) S I55) (fun w55 => ock S w55 1 <| f_X0_sheet_J127 w55 S I55)
def f_X0_sheet_J24 (x1 : Int32) (x2 : Int32) (x3 : Int32) (s1 : Int32) (S : SH) (I : II) : Option (Int32 × SH × II) := ost S <| bd2 (f_X0_need S s1 (nI 1) I) fun u25 I25 => oex u25 (fun _w25 => if x2 = 0 then oix x1 4 fun i37 => orf (S.2.2 22 i37) fun t37 => ockw S t37 9 <| some ((nI 1), shR S t37 0 none, I25) else if x3 < 0 then f_X0_sheet_J54 x1 x2 x3 (nI 0) S I25 else f_X0_sheet_J54 x1 x2 x3 (nI 1) S I25) (fun w25 => ock S w25 1 <| f_X0_sheet_J127 w25 S I25)
def f_X0_sheet_J23 (x1 : Int32) (x2 : Int32) (x3 : Int32) (S : SH) (I : II) : Option (Int32 × SH × II) := f_X0_sheet_J24 x1 x2 x3 (nI 0) S I
def f_X0_sheet_J19 (x1 : Int32) (x2 : Int32) (x3 : Int32) (S : SH) (I : II) : Option (Int32 × SH × II) := f_X0_sheet_J24 x1 x2 x3 (nI 1) S I
def f_X0_sheet (sh : SH) (x1 : Int32) (x2 : Int32) (x3 : Int32) (I : II) : Option (Int32 × SH × II) := omn3 sh <| (f_X0_isSheet x1).bind fun r2 => if r2 = 0 then f_X0_sheet_J23 x1 x2 x3 sh I else if x2 = 0 then f_X0_sheet_J19 x1 x2 x3 sh I else (f_X0_isWidth x2).bind fun r13 => if r13 = 0 then f_X0_sheet_J23 x1 x2 x3 sh I else f_X0_sheet_J19 x1 x2 x3 sh I
abbrev rmf_X0_sheet : Nat := 3
abbrev rml_X0_sheet : Nat := 71
theorem mv_X0_sheet_ok : callOK yX0_sheet 3 := by decide +kernel
theorem mw_X0_sheet : MW yX0_sheet cX0_sheet 5 (some .int) [(0, 43, 127, 8), (44, 126, 127, 8)] 3 := ⟨q1822, q1823, q91, q1824, mv_X0_sheet_ok⟩
set_option maxHeartbeats 4000000 in
theorem ct_X0_sheet {G : WG} {l : Launch} {sh : SH} {I : II} {x1 : Int32} {x2 : Int32} {x3 : Int32} {Z : (Int32 × SH × II)} (hk : f_X0_sheet sh x1 x2 x3 I = some Z) : CT G l yX0_sheet (wsW_ yX0_sheet cX0_sheet 5 (some .int) [(0, 43, 127, 8), (44, 126, 127, 8)]) (rmA rmf_X0_sheet rml_X0_sheet (Z.2.1.1 - sh.1)) [.ref (wad G 0), .int x1, .int x2, .int x3] (sh, I) (.returned (some (.int Z.1))) Z.2 := by
  refine CT.ofJW "NineDemands" rfl (by decide) (Nat.le_of_ble_eq_true rfl) ?_
  intro p e s m args below meth c C
  unfold f_X0_sheet at hk
  refine j_lv (lv' := [some (.ref (wad G 0)), some (.int x1), some (.int x2), some (.int x3), none]) rfl ?_
  replace hk := omn3_some hk
  obtain ⟨hz0, hk⟩ := hk
  have hm0 : sh.1 ≤ sh.1 := Nat.le_refl _
  refine j_kn (k' := sh.1 - sh.1) (n' := 200 * (sh.1 - sh.1)) (Nat.sub_self _).symm (rb2 _) ?_
  refine j_aload_n (pc := 0) C dX0_sheet_0 rfl rfl ?_
  refine j_iload_n (pc := 1) C dX0_sheet_1 rfl rfl ?_
  replace hk := ob_some hk
  obtain ⟨r2, h1, hk⟩ := hk
  refine j_callS (pc := 2) C (ct_X0_isSheet h1) ms_X0_isSheet q460 dX0_sheet_2 rfl rfl (Nat.le_of_ble_eq_true rfl) (rmOK.i (Nat.le_of_ble_eq_true rfl) (Nat.le_of_ble_eq_true rfl) (rz1 hm0 hz0) (rz2 hm0 hz0)) ?_
  have Jn24 : ∀ (x1 : Int32) (x2 : Int32) (x3 : Int32) (s1 : Int32) (S : SH) (I : II), sh.1 ≤ S.1 → S.1 ≤ Z.2.1.1 → f_X0_sheet_J24 x1 x2 x3 s1 S I = some Z → J G p l e (rmA rmf_X0_sheet rml_X0_sheet (Z.2.1.1 - sh.1)) s m args below meth c 5 (.returned (some (.int Z.1))) Z.2 ((rmA rmf_X0_sheet rml_X0_sheet (Z.2.1.1 - sh.1))).cells ((rmA rmf_X0_sheet rml_X0_sheet (Z.2.1.1 - sh.1))).slots (S, I) ((S).1 - sh.1) (200 * ((S).1 - sh.1)) 24 [some (.ref (wad G 0)), some (.int x1), some (.int x2), some (.int x3), none] [.int s1, .ref (wad G 0)] := by
    intro x1 x2 x3 s1 S I hm hz hk
    unfold f_X0_sheet_J24 at hk
    refine j_iconst (pc := 24) (v := nI 1) C dX0_sheet_24 (by decide) ?_
    have Jn127 : ∀ (s0 : Nat) (S : SH) (I : II), sh.1 ≤ S.1 → S.1 ≤ Z.2.1.1 → f_X0_sheet_J127 s0 S I = some Z → J G p l e (rmA rmf_X0_sheet rml_X0_sheet (Z.2.1.1 - sh.1)) s m args below meth c 5 (.returned (some (.int Z.1))) Z.2 ((rmA rmf_X0_sheet rml_X0_sheet (Z.2.1.1 - sh.1))).cells ((rmA rmf_X0_sheet rml_X0_sheet (Z.2.1.1 - sh.1))).slots (S, I) ((S).1 - sh.1) (200 * ((S).1 - sh.1)) 127 [some (.ref (wad G 0)), none, none, none, none] [.ref (wad G s0)] := by
      intro s0 S I hm hz hk
      unfold f_X0_sheet_J127 at hk
      refine j_astore (pc := 127) C dX0_sheet_127 (Nat.le_of_ble_eq_true rfl) rfl ?_
      refine j_aload_n (pc := 129) C dX0_sheet_129 rfl rfl ?_
      refine j_aload (pc := 130) C dX0_sheet_130 rfl ?_
      replace hk := ost_some hk
      obtain ⟨h2, hk⟩ := hk
      replace hk := bd2_some hk
      obtain ⟨r132, I132, h3, hk⟩ := hk
      refine x_callV (pc := 132) C (ct_X0_finds h2 h3) mv_X0_finds (stN_o0 h2).r rfl rfl q433 dX0_sheet_132 rfl rfl (Nat.le_of_ble_eq_true rfl) (rmOK.i (Nat.le_of_ble_eq_true rfl) (Nat.le_of_ble_eq_true rfl) (rz1 hm hz) (rz2 hm hz)) ?_
      obtain rfl := Option.some.inj hk
      exact j_iret (pc := 135) C dX0_sheet_135 (Nat.le_refl _) (Nat.le_refl _)
    replace hk := ost_some hk
    obtain ⟨h4, hk⟩ := hk
    replace hk := bd2_some hk
    obtain ⟨u25, I25, h5, hk⟩ := hk
    cases u25 with
    | inr w25 =>
      replace hk := oex_r hk
      replace hk := ock_some hk
      obtain ⟨h7, hk⟩ := hk
      refine x_callVC [] [(44, 126, 127, 8)] (0, 43, 127, 8) (pc := 25) C (ct_X0_need h4 h5) mv_X0_need (stN_o0 h4).r rfl rfl q416 dX0_sheet_25 rfl rfl (Nat.le_of_ble_eq_true rfl) (rmOK.i (Nat.le_of_ble_eq_true rfl) (Nat.le_of_ble_eq_true rfl) (rz1 hm hz) (rz2 hm hz)) rfl h7 rfl (by decide) (by decide) q146 (fun z hz => by cases hz) ?_
      exact j_mask [true, false, false, false, false] (Jn127 _ _ _ hm hz hk)
    | inl _w25 =>
      replace hk := oex_l hk
      refine x_callV (pc := 25) C (ct_X0_need h4 h5) mv_X0_need (stN_o0 h4).r rfl rfl q416 dX0_sheet_25 rfl rfl (Nat.le_of_ble_eq_true rfl) (rmOK.i (Nat.le_of_ble_eq_true rfl) (Nat.le_of_ble_eq_true rfl) (rz1 hm hz) (rz2 hm hz)) ?_
      refine j_iload_n (pc := 28) C dX0_sheet_28 rfl rfl ?_
      refine j_if_ne (pc := 29) 44 C dX0_sheet_29 (by decide) (fun h8 => ?_) (fun h8 => ?_)
      · replace hk := it_f h8 hk
        refine j_aload_n (pc := 44) C dX0_sheet_44 rfl rfl ?_
        refine j_iload_n (pc := 45) C dX0_sheet_45 rfl rfl ?_
        have Jn54 : ∀ (x1 : Int32) (x2 : Int32) (x3 : Int32) (s1 : Int32) (S : SH) (I : II), sh.1 ≤ S.1 → S.1 ≤ Z.2.1.1 → f_X0_sheet_J54 x1 x2 x3 s1 S I = some Z → J G p l e (rmA rmf_X0_sheet rml_X0_sheet (Z.2.1.1 - sh.1)) s m args below meth c 5 (.returned (some (.int Z.1))) Z.2 ((rmA rmf_X0_sheet rml_X0_sheet (Z.2.1.1 - sh.1))).cells ((rmA rmf_X0_sheet rml_X0_sheet (Z.2.1.1 - sh.1))).slots (S, I) ((S).1 - sh.1) (200 * ((S).1 - sh.1)) 54 [some (.ref (wad G 0)), some (.int x1), some (.int x2), some (.int x3), none] [.int s1, .ref (wad G 0)] := by
          intro x1 x2 x3 s1 S I hm hz hk
          unfold f_X0_sheet_J54 at hk
          refine j_iconst (pc := 54) (v := nI 3) C dX0_sheet_54 (by decide) ?_
          replace hk := ost_some hk
          obtain ⟨h9, hk⟩ := hk
          replace hk := bd2_some hk
          obtain ⟨u55, I55, h10, hk⟩ := hk
          cases u55 with
          | inr w55 =>
            replace hk := oex_r hk
            replace hk := ock_some hk
            obtain ⟨h12, hk⟩ := hk
            refine x_callVC [(0, 43, 127, 8)] [] (44, 126, 127, 8) (pc := 55) C (ct_X0_need h9 h10) mv_X0_need (stN_o0 h9).r rfl rfl q416 dX0_sheet_55 rfl rfl (Nat.le_of_ble_eq_true rfl) (rmOK.i (Nat.le_of_ble_eq_true rfl) (Nat.le_of_ble_eq_true rfl) (rz1 hm hz) (rz2 hm hz)) rfl h12 rfl (by decide) (by decide) q146 (fun z hz => by rw [List.mem_singleton.mp hz]; exact Or.inl (by decide)) ?_
            exact j_mask [true, false, false, false, false] (Jn127 _ _ _ hm hz hk)
          | inl _w55 =>
            replace hk := oex_l hk
            refine x_callV (pc := 55) C (ct_X0_need h9 h10) mv_X0_need (stN_o0 h9).r rfl rfl q416 dX0_sheet_55 rfl rfl (Nat.le_of_ble_eq_true rfl) (rmOK.i (Nat.le_of_ble_eq_true rfl) (Nat.le_of_ble_eq_true rfl) (rz1 hm hz) (rz2 hm hz)) ?_
            refine j_aload_n (pc := 58) C dX0_sheet_58 rfl rfl ?_
            refine j_iload_n (pc := 59) C dX0_sheet_59 rfl rfl ?_
            refine j_bipush (pc := 60) (v := nI 40) C dX0_sheet_60 (by decide) ?_
            have Jn70 : ∀ (x1 : Int32) (x2 : Int32) (x3 : Int32) (s1 : Int32) (S : SH) (I : II), sh.1 ≤ S.1 → S.1 ≤ Z.2.1.1 → f_X0_sheet_J70 x1 x2 x3 s1 S I = some Z → J G p l e (rmA rmf_X0_sheet rml_X0_sheet (Z.2.1.1 - sh.1)) s m args below meth c 5 (.returned (some (.int Z.1))) Z.2 ((rmA rmf_X0_sheet rml_X0_sheet (Z.2.1.1 - sh.1))).cells ((rmA rmf_X0_sheet rml_X0_sheet (Z.2.1.1 - sh.1))).slots (S, I) ((S).1 - sh.1) (200 * ((S).1 - sh.1)) 70 [some (.ref (wad G 0)), some (.int x1), some (.int x2), some (.int x3), none] [.int s1, .ref (wad G 0)] := by
              intro x1 x2 x3 s1 S I hm hz hk
              unfold f_X0_sheet_J70 at hk
              refine j_iconst (pc := 70) (v := nI 1) C dX0_sheet_70 (by decide) ?_
              replace hk := ost_some hk
              obtain ⟨h13, hk⟩ := hk
              replace hk := bd2_some hk
              obtain ⟨u71, I71, h14, hk⟩ := hk
              cases u71 with
              | inr w71 =>
                replace hk := oex_r hk
                replace hk := ock_some hk
                obtain ⟨h16, hk⟩ := hk
                refine x_callVC [(0, 43, 127, 8)] [] (44, 126, 127, 8) (pc := 71) C (ct_X0_need h13 h14) mv_X0_need (stN_o0 h13).r rfl rfl q416 dX0_sheet_71 rfl rfl (Nat.le_of_ble_eq_true rfl) (rmOK.i (Nat.le_of_ble_eq_true rfl) (Nat.le_of_ble_eq_true rfl) (rz1 hm hz) (rz2 hm hz)) rfl h16 rfl (by decide) (by decide) q146 (fun z hz => by rw [List.mem_singleton.mp hz]; exact Or.inl (by decide)) ?_
                exact j_mask [true, false, false, false, false] (Jn127 _ _ _ hm hz hk)
              | inl _w71 =>
                replace hk := oex_l hk
                refine x_callV (pc := 71) C (ct_X0_need h13 h14) mv_X0_need (stN_o0 h13).r rfl rfl q416 dX0_sheet_71 rfl rfl (Nat.le_of_ble_eq_true rfl) (rmOK.i (Nat.le_of_ble_eq_true rfl) (Nat.le_of_ble_eq_true rfl) (rz1 hm hz) (rz2 hm hz)) ?_
                refine j_aload_n (pc := 74) C dX0_sheet_74 rfl rfl ?_
                refine x_getR (pc := 75) C fd_0_10 (fl1 C q382) (stN_o0 h13).r (stN_r0_10 h13) dX0_sheet_75 ?_
                refine j_iload_n (pc := 78) C dX0_sheet_78 rfl rfl ?_
                replace hk := oix_ex hk
                obtain ⟨i79, e79, h17, hk⟩ := hk
                replace hk := orf_some hk
                obtain ⟨t79, et79, hk⟩ := hk
                refine x_aald (pc := 79) C (stN_a22 h13).r (by decide) h17 e79 dX0_sheet_79 ?_
                rw [et79]
                refine j_iload_n (pc := 80) C dX0_sheet_80 rfl rfl ?_
                refine j_bipush (pc := 81) (v := nI 8) C dX0_sheet_81 (by decide) ?_
                have Jn122 : ∀ (s0 : Nat) (s1 : Nat) (S : SH) (I : II), sh.1 ≤ S.1 → S.1 ≤ Z.2.1.1 → f_X0_sheet_J122 s0 s1 S I = some Z → J G p l e (rmA rmf_X0_sheet rml_X0_sheet (Z.2.1.1 - sh.1)) s m args below meth c 5 (.returned (some (.int Z.1))) Z.2 ((rmA rmf_X0_sheet rml_X0_sheet (Z.2.1.1 - sh.1))).cells ((rmA rmf_X0_sheet rml_X0_sheet (Z.2.1.1 - sh.1))).slots (S, I) ((S).1 - sh.1) (200 * ((S).1 - sh.1)) 122 [none, none, none, none, none] [.ref (wad G s1), .ref (wad G s0)] := by
                  intro s0 s1 S I hm hz hk
                  unfold f_X0_sheet_J122 at hk
                  replace hk := ockw_some hk
                  obtain ⟨h18, hk⟩ := hk
                  refine x_putN (pc := 122) (o := (some s1)) C fd_9_0 (fl3 C q368) h18 rfl dX0_sheet_122 ?_
                  refine j_iconst (pc := 125) (v := nI 1) C dX0_sheet_125 (by decide) ?_
                  obtain rfl := Option.some.inj hk
                  exact j_iret (pc := 126) C dX0_sheet_126 (Nat.le_refl _) (Nat.le_refl _)
                refine j_icmp_ne (pc := 83) 97 C dX0_sheet_83 (by decide) (fun h19 => ?_) (fun h19 => ?_)
                · replace hk := it_f h19 hk
                  refine j_iload_n (pc := 97) C dX0_sheet_97 rfl rfl ?_
                  refine j_bipush (pc := 98) (v := nI 16) C dX0_sheet_98 (by decide) ?_
                  refine j_icmp_ne (pc := 100) 114 C dX0_sheet_100 (by decide) (fun h20 => ?_) (fun h20 => ?_)
                  · replace hk := it_f h20 hk
                    replace hk := onw_some hk
                    obtain ⟨h21, hk⟩ := hk
                    replace hk := omn3_some hk
                    obtain ⟨h22, hk⟩ := hk
                    have h22 : S.1 + 1 ≤ Z.2.1.1 := h22
                    refine x_new (pc := 114) (c2 := 26) C rfl (born_26) q1852 q1853 q137 h21 (ra1 hm h22) (ra2 hm h22 (by decide)) dX0_sheet_114 ?_
                    have h23 : sh.1 ≤ S.1 + 1 := Nat.le_succ_of_le hm
                    refine j_wid (k' := (newS S 26 0).1 - sh.1) (n' := 200 * ((newS S 26 0).1 - sh.1)) (rw1 hm) (rw2 hm (by decide)) ?_
                    refine j_dup (pc := 117) C dX0_sheet_117 rfl ?_
                    refine j_iload_n (pc := 118) C dX0_sheet_118 rfl rfl ?_
                    replace hk := bd2_some hk
                    obtain ⟨S119, I119, h24, hk⟩ := hk
                    replace hk := og_some hk
                    obtain ⟨h25, hk⟩ := hk
                    replace hk := omn3_some hk
                    obtain ⟨h26, hk⟩ := hk
                    have h27 : sh.1 ≤ S119.1 := Nat.le_trans h23 h25
                    refine x_callI (pc := 119) C (ct_X27_init h24) mi_X27_init q1854 dX0_sheet_119 rfl rfl (Nat.le_of_ble_eq_true rfl) (rmOK.i (Nat.le_of_ble_eq_true rfl) (Nat.le_of_ble_eq_true rfl) (rm1 h23 h25 h26) (rm2 h23 h25 h26)) ?_
                    refine j_kn (k' := S119.1 - sh.1) (n' := 200 * (S119.1 - sh.1)) (rk1 h23 h25) (rk2 h23 h25) ?_
                    exact j_mask [false, false, false, false, false] (Jn122 _ _ _ _ h27 h26 hk)
                  · replace hk := it_t h20 hk
                    replace hk := onw_some hk
                    obtain ⟨h28, hk⟩ := hk
                    replace hk := omn3_some hk
                    obtain ⟨h29, hk⟩ := hk
                    have h29 : S.1 + 1 ≤ Z.2.1.1 := h29
                    refine x_new (pc := 103) (c2 := 25) C rfl (born_25) q1841 q1842 q136 h28 (ra1 hm h29) (ra2 hm h29 (by decide)) dX0_sheet_103 ?_
                    have h30 : sh.1 ≤ S.1 + 1 := Nat.le_succ_of_le hm
                    refine j_wid (k' := (newS S 25 0).1 - sh.1) (n' := 200 * ((newS S 25 0).1 - sh.1)) (rw1 hm) (rw2 hm (by decide)) ?_
                    refine j_dup (pc := 106) C dX0_sheet_106 rfl ?_
                    refine j_iload_n (pc := 107) C dX0_sheet_107 rfl rfl ?_
                    replace hk := bd2_some hk
                    obtain ⟨S108, I108, h31, hk⟩ := hk
                    replace hk := og_some hk
                    obtain ⟨h32, hk⟩ := hk
                    replace hk := omn3_some hk
                    obtain ⟨h33, hk⟩ := hk
                    have h34 : sh.1 ≤ S108.1 := Nat.le_trans h30 h32
                    refine x_callI (pc := 108) C (ct_X26_init h31) mi_X26_init q1843 dX0_sheet_108 rfl rfl (Nat.le_of_ble_eq_true rfl) (rmOK.i (Nat.le_of_ble_eq_true rfl) (Nat.le_of_ble_eq_true rfl) (rm1 h30 h32 h33) (rm2 h30 h32 h33)) ?_
                    refine j_kn (k' := S108.1 - sh.1) (n' := 200 * (S108.1 - sh.1)) (rk1 h30 h32) (rk2 h30 h32) ?_
                    refine j_goto (pc := 111) 122 C dX0_sheet_111 (by decide) ?_
                    exact j_mask [false, false, false, false, false] (Jn122 _ _ _ _ h34 h33 hk)
                · replace hk := it_t h19 hk
                  replace hk := onw_some hk
                  obtain ⟨h35, hk⟩ := hk
                  replace hk := omn3_some hk
                  obtain ⟨h36, hk⟩ := hk
                  have h36 : S.1 + 1 ≤ Z.2.1.1 := h36
                  refine x_new (pc := 86) (c2 := 24) C rfl (born_24) q1828 q1829 q135 h35 (ra1 hm h36) (ra2 hm h36 (by decide)) dX0_sheet_86 ?_
                  have h37 : sh.1 ≤ S.1 + 1 := Nat.le_succ_of_le hm
                  refine j_wid (k' := (newS S 24 0).1 - sh.1) (n' := 200 * ((newS S 24 0).1 - sh.1)) (rw1 hm) (rw2 hm (by decide)) ?_
                  refine j_dup (pc := 89) C dX0_sheet_89 rfl ?_
                  refine j_iload_n (pc := 90) C dX0_sheet_90 rfl rfl ?_
                  replace hk := bd2_some hk
                  obtain ⟨S91, I91, h38, hk⟩ := hk
                  replace hk := og_some hk
                  obtain ⟨h39, hk⟩ := hk
                  replace hk := omn3_some hk
                  obtain ⟨h40, hk⟩ := hk
                  have h41 : sh.1 ≤ S91.1 := Nat.le_trans h37 h39
                  refine x_callI (pc := 91) C (ct_X25_init h38) mi_X25_init q1830 dX0_sheet_91 rfl rfl (Nat.le_of_ble_eq_true rfl) (rmOK.i (Nat.le_of_ble_eq_true rfl) (Nat.le_of_ble_eq_true rfl) (rm1 h37 h39 h40) (rm2 h37 h39 h40)) ?_
                  refine j_kn (k' := S91.1 - sh.1) (n' := 200 * (S91.1 - sh.1)) (rk1 h37 h39) (rk2 h37 h39) ?_
                  refine j_goto (pc := 94) 122 C dX0_sheet_94 (by decide) ?_
                  exact j_mask [false, false, false, false, false] (Jn122 _ _ _ _ h41 h40 hk)
            refine j_icmp_gt (pc := 62) 69 C dX0_sheet_62 (by decide) (fun h42 => ?_) (fun h42 => ?_)
            · replace hk := it_t h42 hk
              refine j_iconst (pc := 69) (v := nI 0) C dX0_sheet_69 (by decide) ?_
              exact j_mask [true, true, true, true, false] (Jn70 _ _ _ _ _ _ hm hz hk)
            · replace hk := it_f h42 hk
              refine j_iconst (pc := 65) (v := nI 1) C dX0_sheet_65 (by decide) ?_
              refine j_goto (pc := 66) 70 C dX0_sheet_66 (by decide) ?_
              exact j_mask [true, true, true, true, false] (Jn70 _ _ _ _ _ _ hm hz hk)
        refine j_if_lt (pc := 46) 53 C dX0_sheet_46 (by decide) (fun h43 => ?_) (fun h43 => ?_)
        · replace hk := it_t h43 hk
          refine j_iconst (pc := 53) (v := nI 0) C dX0_sheet_53 (by decide) ?_
          exact j_mask [true, true, true, true, false] (Jn54 _ _ _ _ _ _ hm hz hk)
        · replace hk := it_f h43 hk
          refine j_iconst (pc := 49) (v := nI 1) C dX0_sheet_49 (by decide) ?_
          refine j_goto (pc := 50) 54 C dX0_sheet_50 (by decide) ?_
          exact j_mask [true, true, true, true, false] (Jn54 _ _ _ _ _ _ hm hz hk)
      · replace hk := it_t h8 hk
        refine j_aload_n (pc := 32) C dX0_sheet_32 rfl rfl ?_
        refine x_getR (pc := 33) C fd_0_10 (fl1 C q382) (stN_o0 h4).r (stN_r0_10 h4) dX0_sheet_33 ?_
        refine j_iload_n (pc := 36) C dX0_sheet_36 rfl rfl ?_
        replace hk := oix_ex hk
        obtain ⟨i37, e37, h44, hk⟩ := hk
        replace hk := orf_some hk
        obtain ⟨t37, et37, hk⟩ := hk
        refine x_aald (pc := 37) C (stN_a22 h4).r (by decide) h44 e37 dX0_sheet_37 ?_
        rw [et37]
        refine j_null (pc := 38) C dX0_sheet_38 ?_
        replace hk := ockw_some hk
        obtain ⟨h45, hk⟩ := hk
        refine x_putN (pc := 39) (o := none) C fd_9_0 (fl3 C q368) h45 rfl dX0_sheet_39 ?_
        refine j_iconst (pc := 42) (v := nI 1) C dX0_sheet_42 (by decide) ?_
        obtain rfl := Option.some.inj hk
        exact j_iret (pc := 43) C dX0_sheet_43 (Nat.le_refl _) (Nat.le_refl _)
  have Jn23 : ∀ (x1 : Int32) (x2 : Int32) (x3 : Int32) (S : SH) (I : II), sh.1 ≤ S.1 → S.1 ≤ Z.2.1.1 → f_X0_sheet_J23 x1 x2 x3 S I = some Z → J G p l e (rmA rmf_X0_sheet rml_X0_sheet (Z.2.1.1 - sh.1)) s m args below meth c 5 (.returned (some (.int Z.1))) Z.2 ((rmA rmf_X0_sheet rml_X0_sheet (Z.2.1.1 - sh.1))).cells ((rmA rmf_X0_sheet rml_X0_sheet (Z.2.1.1 - sh.1))).slots (S, I) ((S).1 - sh.1) (200 * ((S).1 - sh.1)) 23 [some (.ref (wad G 0)), some (.int x1), some (.int x2), some (.int x3), none] [.ref (wad G 0)] := by
    intro x1 x2 x3 S I hm hz hk
    unfold f_X0_sheet_J23 at hk
    refine j_iconst (pc := 23) (v := nI 0) C dX0_sheet_23 (by decide) ?_
    exact j_mask [true, true, true, true, false] (Jn24 _ _ _ _ _ _ hm hz hk)
  refine j_if_eq (pc := 5) 23 C dX0_sheet_5 (by decide) (fun h46 => ?_) (fun h46 => ?_)
  · replace hk := it_t h46 hk
    exact j_mask [true, true, true, true, false] (Jn23 _ _ _ _ _ hm0 hz0 hk)
  · replace hk := it_f h46 hk
    refine j_iload_n (pc := 8) C dX0_sheet_8 rfl rfl ?_
    have Jn19 : ∀ (x1 : Int32) (x2 : Int32) (x3 : Int32) (S : SH) (I : II), sh.1 ≤ S.1 → S.1 ≤ Z.2.1.1 → f_X0_sheet_J19 x1 x2 x3 S I = some Z → J G p l e (rmA rmf_X0_sheet rml_X0_sheet (Z.2.1.1 - sh.1)) s m args below meth c 5 (.returned (some (.int Z.1))) Z.2 ((rmA rmf_X0_sheet rml_X0_sheet (Z.2.1.1 - sh.1))).cells ((rmA rmf_X0_sheet rml_X0_sheet (Z.2.1.1 - sh.1))).slots (S, I) ((S).1 - sh.1) (200 * ((S).1 - sh.1)) 19 [some (.ref (wad G 0)), some (.int x1), some (.int x2), some (.int x3), none] [.ref (wad G 0)] := by
      intro x1 x2 x3 S I hm hz hk
      unfold f_X0_sheet_J19 at hk
      refine j_iconst (pc := 19) (v := nI 1) C dX0_sheet_19 (by decide) ?_
      refine j_goto (pc := 20) 24 C dX0_sheet_20 (by decide) ?_
      exact j_mask [true, true, true, true, false] (Jn24 _ _ _ _ _ _ hm hz hk)
    refine j_if_eq (pc := 9) 19 C dX0_sheet_9 (by decide) (fun h47 => ?_) (fun h47 => ?_)
    · replace hk := it_t h47 hk
      exact j_mask [true, true, true, true, false] (Jn19 _ _ _ _ _ hm0 hz0 hk)
    · replace hk := it_f h47 hk
      refine j_iload_n (pc := 12) C dX0_sheet_12 rfl rfl ?_
      replace hk := ob_some hk
      obtain ⟨r13, h48, hk⟩ := hk
      refine j_callS (pc := 13) C (ct_X0_isWidth h48) ms_X0_isWidth q1825 dX0_sheet_13 rfl rfl (Nat.le_of_ble_eq_true rfl) (rmOK.i (Nat.le_of_ble_eq_true rfl) (Nat.le_of_ble_eq_true rfl) (rz1 hm0 hz0) (rz2 hm0 hz0)) ?_
      refine j_if_eq (pc := 16) 23 C dX0_sheet_16 (by decide) (fun h49 => ?_) (fun h49 => ?_)
      · replace hk := it_t h49 hk
        exact j_mask [true, true, true, true, false] (Jn23 _ _ _ _ _ hm0 hz0 hk)
      · replace hk := it_f h49 hk
        exact j_mask [true, true, true, true, false] (Jn19 _ _ _ _ _ hm0 hz0 hk)
def f_X0_trace_J29 (sh : SH) (s0 : Nat) (I : II) : Option (Int32 × II) := bd2 (f_X0_finds sh s0 I) fun r32 I32 => some (r32, I32)
def f_X0_trace (sh : SH) (x1 : Int32) (I : II) : Option (Int32 × II) := (f_X0_in x1 (nI 0) ((I 7 1) - (nI 1))).bind fun r12 => bd2 (f_X0_need sh r12 (nI 2) I) fun u16 I16 => oex u16 (fun _w16 => oix x1 40 fun i27 => some ((I16 8 i27), I16)) (fun w16 => ock sh w16 1 <| f_X0_trace_J29 sh w16 I16)
abbrev rm_X0_trace : Room := { frames := 2, cells := 0, slots := 0, locals := 43 }
theorem mv_X0_trace_ok : callOK yX0_trace 1 := by decide +kernel
theorem mw_X0_trace : MW yX0_trace cX0_trace 3 (some .int) [(0, 28, 29, 8)] 1 := ⟨q1818, q1819, q91, q1820, mv_X0_trace_ok⟩
set_option maxHeartbeats 4000000 in
theorem ct_X0_trace {G : WG} {l : Launch} {sh : SH} (hS : stN sh) {I : II} {x1 : Int32} {Z : (Int32 × II)} (hk : f_X0_trace sh x1 I = some Z) : CT G l yX0_trace (wsW_ yX0_trace cX0_trace 3 (some .int) [(0, 28, 29, 8)]) rm_X0_trace [.ref (wad G 0), .int x1] (sh, I) (.returned (some (.int Z.1))) (sh, Z.2) := by
  refine CT.ofJW "NineDemands" rfl (by decide) (Nat.le_of_ble_eq_true rfl) ?_
  intro p e s m args below meth c C
  unfold f_X0_trace at hk
  refine j_lv (lv' := [some (.ref (wad G 0)), some (.int x1), none]) rfl ?_
  refine j_aload_n (pc := 0) C dX0_trace_0 rfl rfl ?_
  refine j_iload_n (pc := 1) C dX0_trace_1 rfl rfl ?_
  refine j_iconst (pc := 2) (v := nI 0) C dX0_trace_2 (by decide) ?_
  refine j_aload_n (pc := 3) C dX0_trace_3 rfl rfl ?_
  refine x_getR (pc := 4) C fd_0_4 (fl1 C q376) (stN_o0 hS).r (stN_r0_4 hS) dX0_trace_4 ?_
  refine x_getI (pc := 7) C fd_4_1 (fl3 C q283) (stN_o7 hS).r dX0_trace_7 ?_
  refine j_iconst (pc := 10) (v := nI 1) C dX0_trace_10 (by decide) ?_
  refine j_isub (pc := 11) C dX0_trace_11 ?_
  replace hk := ob_some hk
  obtain ⟨r12, h1, hk⟩ := hk
  refine j_callS (pc := 12) C (ct_X0_in h1) ms_X0_in q413 dX0_trace_12 rfl rfl (Nat.le_of_ble_eq_true rfl) rfl ?_
  refine j_iconst (pc := 15) (v := nI 2) C dX0_trace_15 (by decide) ?_
  have Jn29 : ∀ (s0 : Nat) (I : II), f_X0_trace_J29 sh s0 I = some Z → J G p l e rm_X0_trace s m args below meth c 3 (.returned (some (.int Z.1))) (sh, Z.2) (rm_X0_trace).cells (rm_X0_trace).slots (sh, I) 0 0 29 [some (.ref (wad G 0)), none, none] [.ref (wad G s0)] := by
    intro s0 I hk
    unfold f_X0_trace_J29 at hk
    refine j_astore_n (pc := 29) C dX0_trace_29 rfl (Nat.le_of_ble_eq_true rfl) rfl ?_
    refine j_aload_n (pc := 30) C dX0_trace_30 rfl rfl ?_
    refine j_aload_n (pc := 31) C dX0_trace_31 rfl rfl ?_
    replace hk := bd2_some hk
    obtain ⟨r32, I32, h2, hk⟩ := hk
    refine x_callV (pc := 32) C (ct_X0_finds hS h2) mv_X0_finds (stN_o0 hS).r rfl rfl q433 dX0_trace_32 rfl rfl (Nat.le_of_ble_eq_true rfl) rfl ?_
    obtain rfl := Option.some.inj hk
    exact j_iret (pc := 35) C dX0_trace_35 (Nat.le_of_ble_eq_true rfl) (Nat.le_of_ble_eq_true rfl)
  replace hk := bd2_some hk
  obtain ⟨u16, I16, h3, hk⟩ := hk
  cases u16 with
  | inr w16 =>
    replace hk := oex_r hk
    replace hk := ock_some hk
    obtain ⟨h5, hk⟩ := hk
    refine x_callVC [] [] (0, 28, 29, 8) (pc := 16) C (ct_X0_need hS h3) mv_X0_need (stN_o0 hS).r rfl rfl q416 dX0_trace_16 rfl rfl (Nat.le_of_ble_eq_true rfl) rfl rfl h5 rfl (by decide) (by decide) q146 (fun z hz => by cases hz) ?_
    exact j_mask [true, false, false] (Jn29 _ _ hk)
  | inl _w16 =>
    replace hk := oex_l hk
    refine x_callV (pc := 16) C (ct_X0_need hS h3) mv_X0_need (stN_o0 hS).r rfl rfl q416 dX0_trace_16 rfl rfl (Nat.le_of_ble_eq_true rfl) rfl ?_
    refine j_aload_n (pc := 19) C dX0_trace_19 rfl rfl ?_
    refine x_getR (pc := 20) C fd_0_4 (fl1 C q376) (stN_o0 hS).r (stN_r0_4 hS) dX0_trace_20 ?_
    refine x_getR (pc := 23) C fd_4_0 (fl3 C q281) (stN_o7 hS).r (stN_r7_0 hS) dX0_trace_23 ?_
    refine j_iload_n (pc := 26) C dX0_trace_26 rfl rfl ?_
    replace hk := oix_ex hk
    obtain ⟨i27, e27, h6, hk⟩ := hk
    refine j_iald (pc := 27) C (stN_a8 hS) h6 e27 dX0_trace_27 ?_
    obtain rfl := Option.some.inj hk
    exact j_iret (pc := 28) C dX0_trace_28 (Nat.le_of_ble_eq_true rfl) (Nat.le_of_ble_eq_true rfl)
def f_X0_isLaw (sh : SH) (x1 : Int32) (I : II) : Option Int32 := orf (sh.2.2 0 1) fun t3 => ock sh t3 2 <| orf (sh.2.2 t3 1) fun t6 => ock sh t6 3 <| (f_J5_size sh t6 I).bind fun r9 => (f_X0_in x1 (nI 0) (r9 - (nI 1))).bind fun r14 => og (r14 = 0 ∨ r14 = 1) <| some r14
abbrev rm_X0_isLaw : Room := { frames := 1, cells := 0, slots := 0, locals := 22 }
theorem mv_X0_isLaw_ok : callOK yX0_isLaw 1 := by decide +kernel
theorem mv_X0_isLaw : MV yX0_isLaw cX0_isLaw 2 (some .boolean) 1 := ⟨q1327, qs19, q91, q1328, mv_X0_isLaw_ok⟩
set_option maxHeartbeats 4000000 in
theorem ct_X0_isLaw {G : WG} {l : Launch} {sh : SH} (hS : stN sh) {I : II} {x1 : Int32} {Z : Int32} (hk : f_X0_isLaw sh x1 I = some Z) : CT G l yX0_isLaw (ws_ yX0_isLaw cX0_isLaw 2 (some .boolean)) rm_X0_isLaw [.ref (wad G 0), .int x1] (sh, I) (.returned (some (.int Z))) (sh, I) := by
  refine CT.ofJ "NineDemands" rfl (by decide) (Nat.le_of_ble_eq_true rfl) ?_
  intro p e s m args below meth c C
  unfold f_X0_isLaw at hk
  refine j_lv (lv' := [some (.ref (wad G 0)), some (.int x1)]) rfl ?_
  refine j_iload_n (pc := 0) C dX0_isLaw_0 rfl rfl ?_
  refine j_iconst (pc := 1) (v := nI 0) C dX0_isLaw_1 (by decide) ?_
  refine j_aload_n (pc := 2) C dX0_isLaw_2 rfl rfl ?_
  replace hk := orf_some hk
  obtain ⟨t3, et3, hk⟩ := hk
  refine x_getR (pc := 3) C fd_0_1 (fl1 C q373) (stN_o0 hS).r et3 dX0_isLaw_3 ?_
  replace hk := ock_some hk
  obtain ⟨h1, hk⟩ := hk
  replace hk := orf_some hk
  obtain ⟨t6, et6, hk⟩ := hk
  refine x_getR (pc := 6) C fd_2_1 (fl3 C q251) h1 et6 dX0_isLaw_6 ?_
  replace hk := ock_some hk
  obtain ⟨h2, hk⟩ := hk
  replace hk := ob_some hk
  obtain ⟨r9, h3, hk⟩ := hk
  refine x_callV (pc := 9) C (ct_J5_size h3) mv_J5_size h2 rfl rfl q514 dX0_isLaw_9 rfl rfl (Nat.le_of_ble_eq_true rfl) rfl ?_
  refine j_iconst (pc := 12) (v := nI 1) C dX0_isLaw_12 (by decide) ?_
  refine j_isub (pc := 13) C dX0_isLaw_13 ?_
  replace hk := ob_some hk
  obtain ⟨r14, h4, hk⟩ := hk
  refine j_callS (pc := 14) C (ct_X0_in h4) ms_X0_in q413 dX0_isLaw_14 rfl rfl (Nat.le_of_ble_eq_true rfl) rfl ?_
  replace hk := og_some hk
  obtain ⟨h5, hk⟩ := hk
  obtain rfl := Option.some.inj hk
  exact j_zret (pc := 17) C dX0_isLaw_17 (Nat.le_of_ble_eq_true rfl) (Nat.le_of_ble_eq_true rfl) (isB.nar h5)
def f_X3_begins (sh : SH) (x1 : Int32) (I : II) : Option II := if (nI 40) ≤ (I 7 1) then some I else oix (I 7 1) 40 fun i18 => some (up2 (up2 I 8 i18 x1) 7 1 (((up2 I 8 i18 x1) 7 1) + (nI 1)))
abbrev rm_X3_begins : Room := { frames := 0, cells := 0, slots := 0, locals := 0 }
theorem mv_X3_begins_ok : callOK yX3_begins 1 := by decide +kernel
theorem mv_X3_begins : MV yX3_begins cX3_begins 2 none 1 := ⟨q1669, q1670, q100, q1671, mv_X3_begins_ok⟩
set_option maxHeartbeats 4000000 in
theorem ct_X3_begins {G : WG} {l : Launch} {sh : SH} (hS : stN sh) {I : II} {x1 : Int32} {Z : II} (hk : f_X3_begins sh x1 I = some Z) : CT G l yX3_begins (ws_ yX3_begins cX3_begins 2 none) rm_X3_begins [.ref (wad G 7), .int x1] (sh, I) (.returned none) (sh, Z) := by
  refine CT.ofJ "NineDemands$Trace" rfl (by decide) (Nat.le_of_ble_eq_true rfl) ?_
  intro p e s m args below meth c C
  unfold f_X3_begins at hk
  refine j_lv (lv' := [some (.ref (wad G 7)), some (.int x1)]) rfl ?_
  refine j_aload_n (pc := 0) C dX3_begins_0 rfl rfl ?_
  refine x_getI (pc := 1) C fd_4_1 (fl1 C q282) (stN_o7 hS).r dX3_begins_1 ?_
  refine j_bipush (pc := 4) (v := nI 40) C dX3_begins_4 (by decide) ?_
  refine j_icmp_ge (pc := 6) 29 C dX3_begins_6 (by decide) (fun h1 => ?_) (fun h1 => ?_)
  · replace hk := it_t h1 hk
    obtain rfl := Option.some.inj hk
    exact j_vret (pc := 29) C dX3_begins_29 (Nat.le_of_ble_eq_true rfl) (Nat.le_of_ble_eq_true rfl)
  · replace hk := it_f h1 hk
    refine j_aload_n (pc := 9) C dX3_begins_9 rfl rfl ?_
    refine x_getR (pc := 10) C fd_4_0 (fl1 C q280) (stN_o7 hS).r (stN_r7_0 hS) dX3_begins_10 ?_
    refine j_aload_n (pc := 13) C dX3_begins_13 rfl rfl ?_
    refine x_getI (pc := 14) C fd_4_1 (fl1 C q282) (stN_o7 hS).r dX3_begins_14 ?_
    refine j_iload_n (pc := 17) C dX3_begins_17 rfl rfl ?_
    replace hk := oix_ex hk
    obtain ⟨i18, e18, h2, hk⟩ := hk
    refine j_iast (pc := 18) C (stN_a8 hS) h2 e18 dX3_begins_18 ?_
    refine j_aload_n (pc := 19) C dX3_begins_19 rfl rfl ?_
    refine j_dup (pc := 20) C dX3_begins_20 rfl ?_
    refine x_getI (pc := 21) C fd_4_1 (fl1 C q282) (stN_o7 hS).r dX3_begins_21 ?_
    refine j_iconst (pc := 24) (v := nI 1) C dX3_begins_24 (by decide) ?_
    refine j_iadd (pc := 25) C dX3_begins_25 ?_
    refine x_putI (pc := 26) C fd_4_1 (fl1 C q282) (stN_o7 hS) rfl rfl dX3_begins_26 ?_
    obtain rfl := Option.some.inj hk
    exact j_vret (pc := 29) C dX3_begins_29 (Nat.le_of_ble_eq_true rfl) (Nat.le_of_ble_eq_true rfl)
def f_X10_bids (sh : SH) (x0 : Nat) (x1 : Int32) (I : II) : Option (Int32 × II) := ockD sh x0 <| orf (sh.2.2 x0 0) fun t1 => og (t1 = 7) <| (f_X3_begins sh (nI 10) I).bind fun I6 => some ((x1 + (I6 x0 1)), I6)
abbrev rm_X10_bids : Room := { frames := 1, cells := 0, slots := 0, locals := 21 }
theorem mv_X10_bids_ok : callOK yX10_bids 1 := by decide +kernel
theorem mv_X10_bids : MV yX10_bids cX10_bids 2 (some .int) 1 := ⟨q1675, q2495, q108, q1676, mv_X10_bids_ok⟩
set_option maxHeartbeats 4000000 in
theorem ct_X10_bids {G : WG} {l : Launch} {sh : SH} (hS : stN sh) {I : II} {x0 : Nat} {x1 : Int32} {Z : (Int32 × II)} (hk : f_X10_bids sh x0 x1 I = some Z) : CT G l yX10_bids (ws_ yX10_bids cX10_bids 2 (some .int)) rm_X10_bids [.ref (wad G x0), .int x1] (sh, I) (.returned (some (.int Z.1))) (sh, Z.2) := by
  refine CT.ofJ "NineDemands$Demand" rfl (by decide) (Nat.le_of_ble_eq_true rfl) ?_
  intro p e s m args below meth c C
  unfold f_X10_bids at hk
  refine j_lv (lv' := [some (.ref (wad G x0)), some (.int x1)]) rfl ?_
  refine j_aload_n (pc := 0) C dX10_bids_0 rfl rfl ?_
  replace hk := ockD_some hk
  obtain ⟨ch1, ch1h, h1, hk⟩ := hk
  replace hk := orf_some hk
  obtain ⟨t1, et1, hk⟩ := hk
  refine x_getR (pc := 1) C (fdD_0 ch1h) (fl1 C q530) h1 et1 dX10_bids_1 ?_
  refine j_bipush (pc := 4) (v := nI 10) C dX10_bids_4 (by decide) ?_
  replace hk := og_some hk
  obtain ⟨h2, hk⟩ := hk
  subst h2
  replace hk := ob_some hk
  obtain ⟨I6, h3, hk⟩ := hk
  refine x_callV (pc := 6) C (ct_X3_begins hS h3) mv_X3_begins (stN_o7 hS).r rfl rfl q1677 dX10_bids_6 rfl rfl (Nat.le_of_ble_eq_true rfl) rfl ?_
  refine j_iload_n (pc := 9) C dX10_bids_9 rfl rfl ?_
  refine j_aload_n (pc := 10) C dX10_bids_10 rfl rfl ?_
  refine x_getI (pc := 11) C (fdD_1 ch1h) (fl1 C q541) h1 dX10_bids_11 ?_
  refine j_iadd (pc := 14) C dX10_bids_14 ?_
  obtain rfl := Option.some.inj hk
  exact j_iret (pc := 15) C dX10_bids_15 (Nat.le_of_ble_eq_true rfl) (Nat.le_of_ble_eq_true rfl)
def f_X12_bids (sh : SH) (x0 : Nat) (x1 : Int32) (I : II) : Option (Int32 × II) := ockD sh x0 <| orf (sh.2.2 x0 0) fun t1 => og (t1 = 7) <| (f_X3_begins sh (nI 30) I).bind fun I6 => bd2 (f_X10_bids sh x0 x1 I6) fun r11 I11 => some ((r11 - (nI 1)), I11)
abbrev rm_X12_bids : Room := { frames := 2, cells := 0, slots := 0, locals := 42 }
theorem mv_X12_bids_ok : callOK yX12_bids 1 := by decide +kernel
set_option maxHeartbeats 4000000 in
theorem ct_X12_bids {G : WG} {l : Launch} {sh : SH} (hS : stN sh) {I : II} {x0 : Nat} {x1 : Int32} {Z : (Int32 × II)} (hk : f_X12_bids sh x0 x1 I = some Z) : CT G l yX12_bids (ws_ yX12_bids cX12_bids 2 (some .int)) rm_X12_bids [.ref (wad G x0), .int x1] (sh, I) (.returned (some (.int Z.1))) (sh, Z.2) := by
  refine CT.ofJ "NineDemands$Alike" rfl (by decide) (Nat.le_of_ble_eq_true rfl) ?_
  intro p e s m args below meth c C
  unfold f_X12_bids at hk
  refine j_lv (lv' := [some (.ref (wad G x0)), some (.int x1)]) rfl ?_
  refine j_aload_n (pc := 0) C dX12_bids_0 rfl rfl ?_
  replace hk := ockD_some hk
  obtain ⟨ch1, ch1h, h1, hk⟩ := hk
  replace hk := orf_some hk
  obtain ⟨t1, et1, hk⟩ := hk
  refine x_getR (pc := 1) C (fdD_0 ch1h) (fl2 C q531 q532) h1 et1 dX12_bids_1 ?_
  refine j_bipush (pc := 4) (v := nI 30) C dX12_bids_4 (by decide) ?_
  replace hk := og_some hk
  obtain ⟨h2, hk⟩ := hk
  subst h2
  replace hk := ob_some hk
  obtain ⟨I6, h3, hk⟩ := hk
  refine x_callV (pc := 6) C (ct_X3_begins hS h3) mv_X3_begins (stN_o7 hS).r rfl rfl q1668 dX12_bids_6 rfl rfl (Nat.le_of_ble_eq_true rfl) rfl ?_
  refine j_aload_n (pc := 9) C dX12_bids_9 rfl rfl ?_
  refine j_iload_n (pc := 10) C dX12_bids_10 rfl rfl ?_
  replace hk := bd2_some hk
  obtain ⟨r11, I11, h4, hk⟩ := hk
  obtain ⟨cr11, hcr11⟩ := famclD ch1h
  refine x_callS2 (pc := 11) (x := ⟨"NineDemands$Moved", "bids", "(I)I"⟩) C (ct_X10_bids hS h4) h1 hcr11 ⟨rfl, rfl⟩ q1672 q1673 q603 q591 q1675 q108 q1676 (by decide) (mv_X10_bids_ok) dX12_bids_11 rfl rfl (Nat.le_of_ble_eq_true rfl) rfl ?_
  refine j_iconst (pc := 14) (v := nI 1) C dX12_bids_14 (by decide) ?_
  refine j_isub (pc := 15) C dX12_bids_15 ?_
  obtain rfl := Option.some.inj hk
  exact j_iret (pc := 16) C dX12_bids_16 (Nat.le_of_ble_eq_true rfl) (Nat.le_of_ble_eq_true rfl)
def f_X15_bids (sh : SH) (x0 : Nat) (x1 : Int32) (I : II) : Option (Int32 × II) := ockD sh x0 <| orf (sh.2.2 x0 0) fun t1 => og (t1 = 7) <| (f_X3_begins sh (nI 60) I).bind fun I6 => bd2 (f_X10_bids sh x0 x1 I6) fun r11 I11 => some ((r11 ^^^ (nI 5)), I11)
abbrev rm_X15_bids : Room := { frames := 2, cells := 0, slots := 0, locals := 42 }
theorem mv_X15_bids_ok : callOK yX15_bids 1 := by decide +kernel
theorem mv_X15_bids : MV yX15_bids cX15_bids 2 (some .int) 1 := ⟨q1691, q2501, q113, q1693, mv_X15_bids_ok⟩
set_option maxHeartbeats 4000000 in
theorem ct_X15_bids {G : WG} {l : Launch} {sh : SH} (hS : stN sh) {I : II} {x0 : Nat} {x1 : Int32} {Z : (Int32 × II)} (hk : f_X15_bids sh x0 x1 I = some Z) : CT G l yX15_bids (ws_ yX15_bids cX15_bids 2 (some .int)) rm_X15_bids [.ref (wad G x0), .int x1] (sh, I) (.returned (some (.int Z.1))) (sh, Z.2) := by
  refine CT.ofJ "NineDemands$Single" rfl (by decide) (Nat.le_of_ble_eq_true rfl) ?_
  intro p e s m args below meth c C
  unfold f_X15_bids at hk
  refine j_lv (lv' := [some (.ref (wad G x0)), some (.int x1)]) rfl ?_
  refine j_aload_n (pc := 0) C dX15_bids_0 rfl rfl ?_
  replace hk := ockD_some hk
  obtain ⟨ch1, ch1h, h1, hk⟩ := hk
  replace hk := orf_some hk
  obtain ⟨t1, et1, hk⟩ := hk
  refine x_getR (pc := 1) C (fdD_0 ch1h) (fl2 C q535 q536) h1 et1 dX15_bids_1 ?_
  refine j_bipush (pc := 4) (v := nI 60) C dX15_bids_4 (by decide) ?_
  replace hk := og_some hk
  obtain ⟨h2, hk⟩ := hk
  subst h2
  replace hk := ob_some hk
  obtain ⟨I6, h3, hk⟩ := hk
  refine x_callV (pc := 6) C (ct_X3_begins hS h3) mv_X3_begins (stN_o7 hS).r rfl rfl q1694 dX15_bids_6 rfl rfl (Nat.le_of_ble_eq_true rfl) rfl ?_
  refine j_aload_n (pc := 9) C dX15_bids_9 rfl rfl ?_
  refine j_iload_n (pc := 10) C dX15_bids_10 rfl rfl ?_
  replace hk := bd2_some hk
  obtain ⟨r11, I11, h4, hk⟩ := hk
  obtain ⟨cr11, hcr11⟩ := famclD ch1h
  refine x_callSU (pc := 11) C (ct_X10_bids hS h4) h1 hcr11 q1695 q2491 q639 q1675 q108 q1676 (by decide) (mv_X10_bids_ok) dX15_bids_11 rfl rfl (Nat.le_of_ble_eq_true rfl) rfl ?_
  refine j_iconst (pc := 14) (v := nI 5) C dX15_bids_14 (by decide) ?_
  refine j_ixor (pc := 15) C dX15_bids_15 ?_
  obtain rfl := Option.some.inj hk
  exact j_iret (pc := 16) C dX15_bids_16 (Nat.le_of_ble_eq_true rfl) (Nat.le_of_ble_eq_true rfl)
def v_KBids_bids (sh : SH) (x0 : Nat) (x1 : Int32) (I : II) : Option (Int32 × II) := og (x0 < sh.1 ∨ (exA ≤ x0 ∧ x0 < exA + exN)) <| if (sh.2.1 x0).1 = 11 then f_X10_bids sh x0 x1 I else if (sh.2.1 x0).1 = 12 then f_X10_bids sh x0 x1 I else if (sh.2.1 x0).1 = 13 then f_X12_bids sh x0 x1 I else if (sh.2.1 x0).1 = 14 then f_X10_bids sh x0 x1 I else if (sh.2.1 x0).1 = 15 then f_X10_bids sh x0 x1 I else if (sh.2.1 x0).1 = 16 then f_X15_bids sh x0 x1 I else none
set_option maxHeartbeats 4000000 in
theorem vc_KBids_bids {G : WG} {l : Launch} {sh : SH} (hS : stN sh) {I : II} {x0 : Nat} {x1 : Int32} {Z : (Int32 × II)} (hk : v_KBids_bids sh x0 x1 I = some Z) : VF G l ⟨"NineDemands$Bids", "bids", "(I)I"⟩ x0 [.int x1] (sh, I) (some (.int Z.1)) (sh, Z.2) 3 63 0 0 1 := by
  unfold v_KBids_bids at hk
  replace hk := og_some hk
  obtain ⟨hd9, hk⟩ := hk
  by_cases h0 : (sh.2.1 x0).1 = 11
  · replace hk := it_t h0 hk
    exact ⟨11, _, yX10_bids, _, _, _, _, ⟨hd9, h0⟩, rfl, ct_X10_bids hS hk, q1683, q1675, q108, q1676, q1661, q1660, q1681, q1684, q1682, by decide +kernel, Nat.le_of_ble_eq_true rfl, Nat.le_of_ble_eq_true rfl, rfl, rfl⟩
  replace hk := it_f h0 hk
  by_cases h1 : (sh.2.1 x0).1 = 12
  · replace hk := it_t h1 hk
    exact ⟨12, _, yX10_bids, _, _, _, _, ⟨hd9, h1⟩, rfl, ct_X10_bids hS hk, q1686, q1675, q108, q1676, q1661, q1660, q1681, q1687, q1685, by decide +kernel, Nat.le_of_ble_eq_true rfl, Nat.le_of_ble_eq_true rfl, rfl, rfl⟩
  replace hk := it_f h1 hk
  by_cases h2 : (sh.2.1 x0).1 = 13
  · replace hk := it_t h2 hk
    exact ⟨13, _, yX12_bids, _, _, _, _, ⟨hd9, h2⟩, rfl, ct_X12_bids hS hk, q1663, q1665, q110, q1667, q1661, q1660, q1666, q1664, q1662, by decide +kernel, Nat.le_of_ble_eq_true rfl, Nat.le_of_ble_eq_true rfl, rfl, rfl⟩
  replace hk := it_f h2 hk
  by_cases h3 : (sh.2.1 x0).1 = 14
  · replace hk := it_t h3 hk
    exact ⟨14, _, yX10_bids, _, _, _, _, ⟨hd9, h3⟩, rfl, ct_X10_bids hS hk, q1697, q1675, q108, q1676, q1661, q1660, q1681, q1698, q1696, by decide +kernel, Nat.le_of_ble_eq_true rfl, Nat.le_of_ble_eq_true rfl, rfl, rfl⟩
  replace hk := it_f h3 hk
  by_cases h4 : (sh.2.1 x0).1 = 15
  · replace hk := it_t h4 hk
    exact ⟨15, _, yX10_bids, _, _, _, _, ⟨hd9, h4⟩, rfl, ct_X10_bids hS hk, q1679, q1675, q108, q1676, q1661, q1660, q1681, q1680, q1678, by decide +kernel, Nat.le_of_ble_eq_true rfl, Nat.le_of_ble_eq_true rfl, rfl, rfl⟩
  replace hk := it_f h4 hk
  by_cases h5 : (sh.2.1 x0).1 = 16
  · replace hk := it_t h5 hk
    exact ⟨16, _, yX15_bids, _, _, _, _, ⟨hd9, h5⟩, rfl, ct_X15_bids hS hk, q1689, q1691, q113, q1693, q1661, q1660, q1692, q1690, q1688, by decide +kernel, Nat.le_of_ble_eq_true rfl, Nat.le_of_ble_eq_true rfl, rfl, rfl⟩
  replace hk := it_f h5 hk
  cases hk
def v_X10_bids (sh : SH) (x0 : Nat) (x1 : Int32) (I : II) : Option (Int32 × II) := og (x0 < sh.1 ∨ (exA ≤ x0 ∧ x0 < exA + exN)) <| if (sh.2.1 x0).1 = 11 then f_X10_bids sh x0 x1 I else if (sh.2.1 x0).1 = 12 then f_X10_bids sh x0 x1 I else if (sh.2.1 x0).1 = 13 then f_X12_bids sh x0 x1 I else if (sh.2.1 x0).1 = 14 then f_X10_bids sh x0 x1 I else if (sh.2.1 x0).1 = 15 then f_X10_bids sh x0 x1 I else if (sh.2.1 x0).1 = 16 then f_X15_bids sh x0 x1 I else none
set_option maxHeartbeats 4000000 in
theorem vc_X10_bids {G : WG} {l : Launch} {sh : SH} (hS : stN sh) {I : II} {x0 : Nat} {x1 : Int32} {Z : (Int32 × II)} (hk : v_X10_bids sh x0 x1 I = some Z) : VC G l ⟨"NineDemands$Demand", "bids", "(I)I"⟩ x0 [.int x1] (sh, I) (some (.int Z.1)) (sh, Z.2) 3 63 0 0 1 := by
  unfold v_X10_bids at hk
  replace hk := og_some hk
  obtain ⟨hd9, hk⟩ := hk
  by_cases h0 : (sh.2.1 x0).1 = 11
  · replace hk := it_t h0 hk
    exact ⟨11, _, yX10_bids, _, _, _, "NineDemands$Demand", _, ⟨hd9, h0⟩, rfl, ct_X10_bids hS hk, q2491, q2495, q1675, q108, q1676, Or.inl ⟨q1675, _, _, _, q1676⟩, by decide +kernel, Nat.le_of_ble_eq_true rfl, Nat.le_of_ble_eq_true rfl, rfl, rfl⟩
  replace hk := it_f h0 hk
  by_cases h1 : (sh.2.1 x0).1 = 12
  · replace hk := it_t h1 hk
    exact ⟨12, _, yX10_bids, _, _, _, "NineDemands$Demand", _, ⟨hd9, h1⟩, rfl, ct_X10_bids hS hk, q2491, q2496, q1675, q108, q1676, Or.inl ⟨q1675, _, _, _, q1676⟩, by decide +kernel, Nat.le_of_ble_eq_true rfl, Nat.le_of_ble_eq_true rfl, rfl, rfl⟩
  replace hk := it_f h1 hk
  by_cases h2 : (sh.2.1 x0).1 = 13
  · replace hk := it_t h2 hk
    exact ⟨13, _, yX12_bids, _, _, _, "NineDemands$Demand", _, ⟨hd9, h2⟩, rfl, ct_X12_bids hS hk, q2491, q2493, q1665, q110, q1667, Or.inl ⟨q1675, _, _, _, q1676⟩, by decide +kernel, Nat.le_of_ble_eq_true rfl, Nat.le_of_ble_eq_true rfl, rfl, rfl⟩
  replace hk := it_f h2 hk
  by_cases h3 : (sh.2.1 x0).1 = 14
  · replace hk := it_t h3 hk
    exact ⟨14, _, yX10_bids, _, _, _, "NineDemands$Demand", _, ⟨hd9, h3⟩, rfl, ct_X10_bids hS hk, q2491, q2498, q1675, q108, q1676, Or.inl ⟨q1675, _, _, _, q1676⟩, by decide +kernel, Nat.le_of_ble_eq_true rfl, Nat.le_of_ble_eq_true rfl, rfl, rfl⟩
  replace hk := it_f h3 hk
  by_cases h4 : (sh.2.1 x0).1 = 15
  · replace hk := it_t h4 hk
    exact ⟨15, _, yX10_bids, _, _, _, "NineDemands$Demand", _, ⟨hd9, h4⟩, rfl, ct_X10_bids hS hk, q2491, q2494, q1675, q108, q1676, Or.inl ⟨q1675, _, _, _, q1676⟩, by decide +kernel, Nat.le_of_ble_eq_true rfl, Nat.le_of_ble_eq_true rfl, rfl, rfl⟩
  replace hk := it_f h4 hk
  by_cases h5 : (sh.2.1 x0).1 = 16
  · replace hk := it_t h5 hk
    exact ⟨16, _, yX15_bids, _, _, _, "NineDemands$Demand", _, ⟨hd9, h5⟩, rfl, ct_X15_bids hS hk, q2491, q2497, q1691, q113, q1693, Or.inl ⟨q1675, _, _, _, q1676⟩, by decide +kernel, Nat.le_of_ble_eq_true rfl, Nat.le_of_ble_eq_true rfl, rfl, rfl⟩
  replace hk := it_f h5 hk
  cases hk
def f_X10_bars (sh : SH) (x0 : Nat) (x1 : Int32) (I : II) : Option (Int32 × II) := ockD sh x0 <| orf (sh.2.2 x0 0) fun t1 => og (t1 = 7) <| (f_X3_begins sh (nI 11) I).bind fun I6 => bd2 (v_X10_bids sh x0 x1 I6) fun r11 I11 => some ((r11 * (nI 2)), I11)
abbrev rm_X10_bars : Room := { frames := 3, cells := 0, slots := 0, locals := 63 }
theorem mv_X10_bars_ok : callOK yX10_bars 1 := by decide +kernel
theorem mv_X10_bars : MV yX10_bars cX10_bars 2 (some .int) 1 := ⟨q1711, q2504, q108, q1712, mv_X10_bars_ok⟩
set_option maxHeartbeats 4000000 in
theorem ct_X10_bars {G : WG} {l : Launch} {sh : SH} (hS : stN sh) {I : II} {x0 : Nat} {x1 : Int32} {Z : (Int32 × II)} (hk : f_X10_bars sh x0 x1 I = some Z) : CT G l yX10_bars (ws_ yX10_bars cX10_bars 2 (some .int)) rm_X10_bars [.ref (wad G x0), .int x1] (sh, I) (.returned (some (.int Z.1))) (sh, Z.2) := by
  refine CT.ofJ "NineDemands$Demand" rfl (by decide) (Nat.le_of_ble_eq_true rfl) ?_
  intro p e s m args below meth c C
  unfold f_X10_bars at hk
  refine j_lv (lv' := [some (.ref (wad G x0)), some (.int x1)]) rfl ?_
  refine j_aload_n (pc := 0) C dX10_bars_0 rfl rfl ?_
  replace hk := ockD_some hk
  obtain ⟨ch1, ch1h, h1, hk⟩ := hk
  replace hk := orf_some hk
  obtain ⟨t1, et1, hk⟩ := hk
  refine x_getR (pc := 1) C (fdD_0 ch1h) (fl1 C q530) h1 et1 dX10_bars_1 ?_
  refine j_bipush (pc := 4) (v := nI 11) C dX10_bars_4 (by decide) ?_
  replace hk := og_some hk
  obtain ⟨h2, hk⟩ := hk
  subst h2
  replace hk := ob_some hk
  obtain ⟨I6, h3, hk⟩ := hk
  refine x_callV (pc := 6) C (ct_X3_begins hS h3) mv_X3_begins (stN_o7 hS).r rfl rfl q1677 dX10_bars_6 rfl rfl (Nat.le_of_ble_eq_true rfl) rfl ?_
  refine j_aload_n (pc := 9) C dX10_bars_9 rfl rfl ?_
  refine j_iload_n (pc := 10) C dX10_bars_10 rfl rfl ?_
  replace hk := bd2_some hk
  obtain ⟨r11, I11, h4, hk⟩ := hk
  refine x_callX (pc := 11) C (vc_X10_bids hS h4) q1713 dX10_bars_11 rfl rfl (Nat.le_of_ble_eq_true rfl) (Nat.le_of_ble_eq_true rfl) (Nat.le_of_ble_eq_true rfl) (Nat.le_of_ble_eq_true rfl) (Nat.le_of_ble_eq_true rfl) ?_
  refine j_iconst (pc := 14) (v := nI 2) C dX10_bars_14 (by decide) ?_
  refine j_imul (pc := 15) C dX10_bars_15 ?_
  obtain rfl := Option.some.inj hk
  exact j_iret (pc := 16) C dX10_bars_16 (Nat.le_of_ble_eq_true rfl) (Nat.le_of_ble_eq_true rfl)
def f_X10_yields (sh : SH) (x0 : Nat) (x1 : Int32) (I : II) : Option (Int32 × II) := ockD sh x0 <| orf (sh.2.2 x0 0) fun t1 => og (t1 = 7) <| (f_X3_begins sh (nI 12) I).bind fun I6 => some ((x1 - (I6 x0 2)), I6)
abbrev rm_X10_yields : Room := { frames := 1, cells := 0, slots := 0, locals := 21 }
theorem mv_X10_yields_ok : callOK yX10_yields 1 := by decide +kernel
theorem mv_X10_yields : MV yX10_yields cX10_yields 2 (some .int) 1 := ⟨q1725, q2510, q108, q1726, mv_X10_yields_ok⟩
set_option maxHeartbeats 4000000 in
theorem ct_X10_yields {G : WG} {l : Launch} {sh : SH} (hS : stN sh) {I : II} {x0 : Nat} {x1 : Int32} {Z : (Int32 × II)} (hk : f_X10_yields sh x0 x1 I = some Z) : CT G l yX10_yields (ws_ yX10_yields cX10_yields 2 (some .int)) rm_X10_yields [.ref (wad G x0), .int x1] (sh, I) (.returned (some (.int Z.1))) (sh, Z.2) := by
  refine CT.ofJ "NineDemands$Demand" rfl (by decide) (Nat.le_of_ble_eq_true rfl) ?_
  intro p e s m args below meth c C
  unfold f_X10_yields at hk
  refine j_lv (lv' := [some (.ref (wad G x0)), some (.int x1)]) rfl ?_
  refine j_aload_n (pc := 0) C dX10_yields_0 rfl rfl ?_
  replace hk := ockD_some hk
  obtain ⟨ch1, ch1h, h1, hk⟩ := hk
  replace hk := orf_some hk
  obtain ⟨t1, et1, hk⟩ := hk
  refine x_getR (pc := 1) C (fdD_0 ch1h) (fl1 C q530) h1 et1 dX10_yields_1 ?_
  refine j_bipush (pc := 4) (v := nI 12) C dX10_yields_4 (by decide) ?_
  replace hk := og_some hk
  obtain ⟨h2, hk⟩ := hk
  subst h2
  replace hk := ob_some hk
  obtain ⟨I6, h3, hk⟩ := hk
  refine x_callV (pc := 6) C (ct_X3_begins hS h3) mv_X3_begins (stN_o7 hS).r rfl rfl q1677 dX10_yields_6 rfl rfl (Nat.le_of_ble_eq_true rfl) rfl ?_
  refine j_iload_n (pc := 9) C dX10_yields_9 rfl rfl ?_
  refine j_aload_n (pc := 10) C dX10_yields_10 rfl rfl ?_
  refine x_getI (pc := 11) C (fdD_2 ch1h) (fl1 C q553) h1 dX10_yields_11 ?_
  refine j_isub (pc := 14) C dX10_yields_14 ?_
  obtain rfl := Option.some.inj hk
  exact j_iret (pc := 15) C dX10_yields_15 (Nat.le_of_ble_eq_true rfl) (Nat.le_of_ble_eq_true rfl)
def f_X13_yields (sh : SH) (x0 : Nat) (x1 : Int32) (I : II) : Option (Int32 × II) := ockD sh x0 <| orf (sh.2.2 x0 0) fun t1 => og (t1 = 7) <| (f_X3_begins sh (nI 40) I).bind fun I6 => bd2 (f_X10_yields sh x0 x1 I6) fun r11 I11 => some ((-r11), I11)
abbrev rm_X13_yields : Room := { frames := 2, cells := 0, slots := 0, locals := 42 }
theorem mv_X13_yields_ok : callOK yX13_yields 1 := by decide +kernel
set_option maxHeartbeats 4000000 in
theorem ct_X13_yields {G : WG} {l : Launch} {sh : SH} (hS : stN sh) {I : II} {x0 : Nat} {x1 : Int32} {Z : (Int32 × II)} (hk : f_X13_yields sh x0 x1 I = some Z) : CT G l yX13_yields (ws_ yX13_yields cX13_yields 2 (some .int)) rm_X13_yields [.ref (wad G x0), .int x1] (sh, I) (.returned (some (.int Z.1))) (sh, Z.2) := by
  refine CT.ofJ "NineDemands$Turns" rfl (by decide) (Nat.le_of_ble_eq_true rfl) ?_
  intro p e s m args below meth c C
  unfold f_X13_yields at hk
  refine j_lv (lv' := [some (.ref (wad G x0)), some (.int x1)]) rfl ?_
  refine j_aload_n (pc := 0) C dX13_yields_0 rfl rfl ?_
  replace hk := ockD_some hk
  obtain ⟨ch1, ch1h, h1, hk⟩ := hk
  replace hk := orf_some hk
  obtain ⟨t1, et1, hk⟩ := hk
  refine x_getR (pc := 1) C (fdD_0 ch1h) (fl2 C q537 q538) h1 et1 dX13_yields_1 ?_
  refine j_bipush (pc := 4) (v := nI 40) C dX13_yields_4 (by decide) ?_
  replace hk := og_some hk
  obtain ⟨h2, hk⟩ := hk
  subst h2
  replace hk := ob_some hk
  obtain ⟨I6, h3, hk⟩ := hk
  refine x_callV (pc := 6) C (ct_X3_begins hS h3) mv_X3_begins (stN_o7 hS).r rfl rfl q1723 dX13_yields_6 rfl rfl (Nat.le_of_ble_eq_true rfl) rfl ?_
  refine j_aload_n (pc := 9) C dX13_yields_9 rfl rfl ?_
  refine j_iload_n (pc := 10) C dX13_yields_10 rfl rfl ?_
  replace hk := bd2_some hk
  obtain ⟨r11, I11, h4, hk⟩ := hk
  obtain ⟨cr11, hcr11⟩ := famclD ch1h
  refine x_callS2 (pc := 11) (x := ⟨"NineDemands$Moved", "yields", "(I)I"⟩) C (ct_X10_yields hS h4) h1 hcr11 ⟨rfl, rfl⟩ q1724 q1715 q615 q591 q1725 q108 q1726 (by decide) (mv_X10_yields_ok) dX13_yields_11 rfl rfl (Nat.le_of_ble_eq_true rfl) rfl ?_
  refine j_ineg (pc := 14) C dX13_yields_14 ?_
  obtain rfl := Option.some.inj hk
  exact j_iret (pc := 15) C dX13_yields_15 (Nat.le_of_ble_eq_true rfl) (Nat.le_of_ble_eq_true rfl)
def v_X11_yields (sh : SH) (x0 : Nat) (x1 : Int32) (I : II) : Option (Int32 × II) := og (x0 < sh.1 ∨ (exA ≤ x0 ∧ x0 < exA + exN)) <| if (sh.2.1 x0).1 = 12 then f_X10_yields sh x0 x1 I else if (sh.2.1 x0).1 = 13 then f_X10_yields sh x0 x1 I else if (sh.2.1 x0).1 = 14 then f_X13_yields sh x0 x1 I else if (sh.2.1 x0).1 = 15 then f_X10_yields sh x0 x1 I else none
set_option maxHeartbeats 4000000 in
theorem vc_X11_yields {G : WG} {l : Launch} {sh : SH} (hS : stN sh) {I : II} {x0 : Nat} {x1 : Int32} {Z : (Int32 × II)} (hk : v_X11_yields sh x0 x1 I = some Z) : VC G l ⟨"NineDemands$Moved", "yields", "(I)I"⟩ x0 [.int x1] (sh, I) (some (.int Z.1)) (sh, Z.2) 3 63 0 0 1 := by
  unfold v_X11_yields at hk
  replace hk := og_some hk
  obtain ⟨hd9, hk⟩ := hk
  by_cases h0 : (sh.2.1 x0).1 = 12
  · replace hk := it_t h0 hk
    exact ⟨12, _, yX10_yields, _, _, _, "NineDemands$Demand", _, ⟨hd9, h0⟩, rfl, ct_X10_yields hS hk, q1715, q1719, q1725, q108, q1726, Or.inl ⟨q1725, _, _, _, q1726⟩, by decide +kernel, Nat.le_of_ble_eq_true rfl, Nat.le_of_ble_eq_true rfl, rfl, rfl⟩
  replace hk := it_f h0 hk
  by_cases h1 : (sh.2.1 x0).1 = 13
  · replace hk := it_t h1 hk
    exact ⟨13, _, yX10_yields, _, _, _, "NineDemands$Demand", _, ⟨hd9, h1⟩, rfl, ct_X10_yields hS hk, q1715, q1717, q1725, q108, q1726, Or.inl ⟨q1725, _, _, _, q1726⟩, by decide +kernel, Nat.le_of_ble_eq_true rfl, Nat.le_of_ble_eq_true rfl, rfl, rfl⟩
  replace hk := it_f h1 hk
  by_cases h2 : (sh.2.1 x0).1 = 14
  · replace hk := it_t h2 hk
    exact ⟨14, _, yX13_yields, _, _, _, "NineDemands$Demand", _, ⟨hd9, h2⟩, rfl, ct_X13_yields hS hk, q1715, q1720, q1721, q111, q1722, Or.inl ⟨q1725, _, _, _, q1726⟩, by decide +kernel, Nat.le_of_ble_eq_true rfl, Nat.le_of_ble_eq_true rfl, rfl, rfl⟩
  replace hk := it_f h2 hk
  by_cases h3 : (sh.2.1 x0).1 = 15
  · replace hk := it_t h3 hk
    exact ⟨15, _, yX10_yields, _, _, _, "NineDemands$Demand", _, ⟨hd9, h3⟩, rfl, ct_X10_yields hS hk, q1715, q1718, q1725, q108, q1726, Or.inl ⟨q1725, _, _, _, q1726⟩, by decide +kernel, Nat.le_of_ble_eq_true rfl, Nat.le_of_ble_eq_true rfl, rfl, rfl⟩
  replace hk := it_f h3 hk
  cases hk
def f_X11_bars (sh : SH) (x0 : Nat) (x1 : Int32) (I : II) : Option (Int32 × II) := ockD sh x0 <| orf (sh.2.2 x0 0) fun t1 => og (t1 = 7) <| (f_X3_begins sh (nI 20) I).bind fun I6 => bd2 (f_X10_bars sh x0 x1 I6) fun r11 I11 => bd2 (v_X11_yields sh x0 x1 I11) fun r18 I18 => some ((r11 + r18), I18)
abbrev rm_X11_bars : Room := { frames := 4, cells := 0, slots := 0, locals := 84 }
theorem mv_X11_bars_ok : callOK yX11_bars 1 := by decide +kernel
set_option maxHeartbeats 4000000 in
theorem ct_X11_bars {G : WG} {l : Launch} {sh : SH} (hS : stN sh) {I : II} {x0 : Nat} {x1 : Int32} {Z : (Int32 × II)} (hk : f_X11_bars sh x0 x1 I = some Z) : CT G l yX11_bars (ws_ yX11_bars cX11_bars 3 (some .int)) rm_X11_bars [.ref (wad G x0), .int x1] (sh, I) (.returned (some (.int Z.1))) (sh, Z.2) := by
  refine CT.ofJ "NineDemands$Moved" rfl (by decide) (Nat.le_of_ble_eq_true rfl) ?_
  intro p e s m args below meth c C
  unfold f_X11_bars at hk
  refine j_lv (lv' := [some (.ref (wad G x0)), some (.int x1), none]) rfl ?_
  refine j_aload_n (pc := 0) C dX11_bars_0 rfl rfl ?_
  replace hk := ockD_some hk
  obtain ⟨ch1, ch1h, h1, hk⟩ := hk
  replace hk := orf_some hk
  obtain ⟨t1, et1, hk⟩ := hk
  refine x_getR (pc := 1) C (fdD_0 ch1h) (fl2 C q539 q540) h1 et1 dX11_bars_1 ?_
  refine j_bipush (pc := 4) (v := nI 20) C dX11_bars_4 (by decide) ?_
  replace hk := og_some hk
  obtain ⟨h2, hk⟩ := hk
  subst h2
  replace hk := ob_some hk
  obtain ⟨I6, h3, hk⟩ := hk
  refine x_callV (pc := 6) C (ct_X3_begins hS h3) mv_X3_begins (stN_o7 hS).r rfl rfl q1709 dX11_bars_6 rfl rfl (Nat.le_of_ble_eq_true rfl) rfl ?_
  refine j_aload_n (pc := 9) C dX11_bars_9 rfl rfl ?_
  refine j_iload_n (pc := 10) C dX11_bars_10 rfl rfl ?_
  replace hk := bd2_some hk
  obtain ⟨r11, I11, h4, hk⟩ := hk
  obtain ⟨cr11, hcr11⟩ := famclD ch1h
  refine x_callSU (pc := 11) C (ct_X10_bars hS h4) h1 hcr11 q1710 q2492 q591 q1711 q108 q1712 (by decide) (mv_X10_bars_ok) dX11_bars_11 rfl rfl (Nat.le_of_ble_eq_true rfl) rfl ?_
  refine j_istore_n (pc := 14) C dX11_bars_14 rfl (Nat.le_of_ble_eq_true rfl) rfl ?_
  refine j_iload_n (pc := 15) C dX11_bars_15 rfl rfl ?_
  refine j_aload_n (pc := 16) C dX11_bars_16 rfl rfl ?_
  refine j_iload_n (pc := 17) C dX11_bars_17 rfl rfl ?_
  replace hk := bd2_some hk
  obtain ⟨r18, I18, h5, hk⟩ := hk
  refine x_callX (pc := 18) C (vc_X11_yields hS h5) q1714 dX11_bars_18 rfl rfl (Nat.le_of_ble_eq_true rfl) (Nat.le_of_ble_eq_true rfl) (Nat.le_of_ble_eq_true rfl) (Nat.le_of_ble_eq_true rfl) (Nat.le_of_ble_eq_true rfl) ?_
  refine j_iadd (pc := 21) C dX11_bars_21 ?_
  obtain rfl := Option.some.inj hk
  exact j_iret (pc := 22) C dX11_bars_22 (Nat.le_of_ble_eq_true rfl) (Nat.le_of_ble_eq_true rfl)
def f_X14_bars (sh : SH) (x0 : Nat) (x1 : Int32) (I : II) : Option (Int32 × II) := ockD sh x0 <| orf (sh.2.2 x0 0) fun t1 => og (t1 = 7) <| (f_X3_begins sh (nI 51) I).bind fun I6 => bd2 (f_X11_bars sh x0 (x1 - (I6 x0 2)) I6) fun r16 I16 => some (r16, I16)
abbrev rm_X14_bars : Room := { frames := 5, cells := 0, slots := 0, locals := 106 }
theorem mv_X14_bars_ok : callOK yX14_bars 1 := by decide +kernel
set_option maxHeartbeats 4000000 in
theorem ct_X14_bars {G : WG} {l : Launch} {sh : SH} (hS : stN sh) {I : II} {x0 : Nat} {x1 : Int32} {Z : (Int32 × II)} (hk : f_X14_bars sh x0 x1 I = some Z) : CT G l yX14_bars (ws_ yX14_bars cX14_bars 2 (some .int)) rm_X14_bars [.ref (wad G x0), .int x1] (sh, I) (.returned (some (.int Z.1))) (sh, Z.2) := by
  refine CT.ofJ "NineDemands$Comes" rfl (by decide) (Nat.le_of_ble_eq_true rfl) ?_
  intro p e s m args below meth c C
  unfold f_X14_bars at hk
  refine j_lv (lv' := [some (.ref (wad G x0)), some (.int x1)]) rfl ?_
  refine j_aload_n (pc := 0) C dX14_bars_0 rfl rfl ?_
  replace hk := ockD_some hk
  obtain ⟨ch1, ch1h, h1, hk⟩ := hk
  replace hk := orf_some hk
  obtain ⟨t1, et1, hk⟩ := hk
  refine x_getR (pc := 1) C (fdD_0 ch1h) (fl2 C q533 q534) h1 et1 dX14_bars_1 ?_
  refine j_bipush (pc := 4) (v := nI 51) C dX14_bars_4 (by decide) ?_
  replace hk := og_some hk
  obtain ⟨h2, hk⟩ := hk
  subst h2
  replace hk := ob_some hk
  obtain ⟨I6, h3, hk⟩ := hk
  refine x_callV (pc := 6) C (ct_X3_begins hS h3) mv_X3_begins (stN_o7 hS).r rfl rfl q1733 dX14_bars_6 rfl rfl (Nat.le_of_ble_eq_true rfl) rfl ?_
  refine j_aload_n (pc := 9) C dX14_bars_9 rfl rfl ?_
  refine j_iload_n (pc := 10) C dX14_bars_10 rfl rfl ?_
  refine j_aload_n (pc := 11) C dX14_bars_11 rfl rfl ?_
  refine x_getI (pc := 12) C (fdD_2 ch1h) (fl2 C q556 q557) h1 dX14_bars_12 ?_
  refine j_isub (pc := 15) C dX14_bars_15 ?_
  replace hk := bd2_some hk
  obtain ⟨r16, I16, h4, hk⟩ := hk
  obtain ⟨cr16, hcr16⟩ := famclD ch1h
  refine x_callSU (pc := 16) C (ct_X11_bars hS h4) h1 hcr16 q1734 q2499 q627 q1706 q109 q1708 (by decide) (mv_X11_bars_ok) dX14_bars_16 rfl rfl (Nat.le_of_ble_eq_true rfl) rfl ?_
  obtain rfl := Option.some.inj hk
  exact j_iret (pc := 19) C dX14_bars_19 (Nat.le_of_ble_eq_true rfl) (Nat.le_of_ble_eq_true rfl)
def v_KBars_bars (sh : SH) (x0 : Nat) (x1 : Int32) (I : II) : Option (Int32 × II) := og (x0 < sh.1 ∨ (exA ≤ x0 ∧ x0 < exA + exN)) <| if (sh.2.1 x0).1 = 11 then f_X10_bars sh x0 x1 I else if (sh.2.1 x0).1 = 12 then f_X11_bars sh x0 x1 I else if (sh.2.1 x0).1 = 13 then f_X11_bars sh x0 x1 I else if (sh.2.1 x0).1 = 14 then f_X11_bars sh x0 x1 I else if (sh.2.1 x0).1 = 15 then f_X14_bars sh x0 x1 I else if (sh.2.1 x0).1 = 16 then f_X10_bars sh x0 x1 I else none
set_option maxHeartbeats 4000000 in
theorem vc_KBars_bars {G : WG} {l : Launch} {sh : SH} (hS : stN sh) {I : II} {x0 : Nat} {x1 : Int32} {Z : (Int32 × II)} (hk : v_KBars_bars sh x0 x1 I = some Z) : VF G l ⟨"NineDemands$Bars", "bars", "(I)I"⟩ x0 [.int x1] (sh, I) (some (.int Z.1)) (sh, Z.2) 6 127 0 0 1 := by
  unfold v_KBars_bars at hk
  replace hk := og_some hk
  obtain ⟨hd9, hk⟩ := hk
  by_cases h0 : (sh.2.1 x0).1 = 11
  · replace hk := it_t h0 hk
    exact ⟨11, _, yX10_bars, _, _, _, _, ⟨hd9, h0⟩, rfl, ct_X10_bars hS hk, q1736, q1711, q108, q1712, q1702, q1701, q1738, q1737, q1735, by decide +kernel, Nat.le_of_ble_eq_true rfl, Nat.le_of_ble_eq_true rfl, rfl, rfl⟩
  replace hk := it_f h0 hk
  by_cases h1 : (sh.2.1 x0).1 = 12
  · replace hk := it_t h1 hk
    exact ⟨12, _, yX11_bars, _, _, _, _, ⟨hd9, h1⟩, rfl, ct_X11_bars hS hk, q1740, q1706, q109, q1708, q1702, q1701, q1707, q1741, q1739, by decide +kernel, Nat.le_of_ble_eq_true rfl, Nat.le_of_ble_eq_true rfl, rfl, rfl⟩
  replace hk := it_f h1 hk
  by_cases h2 : (sh.2.1 x0).1 = 13
  · replace hk := it_t h2 hk
    exact ⟨13, _, yX11_bars, _, _, _, _, ⟨hd9, h2⟩, rfl, ct_X11_bars hS hk, q1704, q1706, q109, q1708, q1702, q1701, q1707, q1705, q1703, by decide +kernel, Nat.le_of_ble_eq_true rfl, Nat.le_of_ble_eq_true rfl, rfl, rfl⟩
  replace hk := it_f h2 hk
  by_cases h3 : (sh.2.1 x0).1 = 14
  · replace hk := it_t h3 hk
    exact ⟨14, _, yX11_bars, _, _, _, _, ⟨hd9, h3⟩, rfl, ct_X11_bars hS hk, q1746, q1706, q109, q1708, q1702, q1701, q1707, q1747, q1745, by decide +kernel, Nat.le_of_ble_eq_true rfl, Nat.le_of_ble_eq_true rfl, rfl, rfl⟩
  replace hk := it_f h3 hk
  by_cases h4 : (sh.2.1 x0).1 = 15
  · replace hk := it_t h4 hk
    exact ⟨15, _, yX14_bars, _, _, _, _, ⟨hd9, h4⟩, rfl, ct_X14_bars hS hk, q1728, q1730, q112, q1732, q1702, q1701, q1731, q1729, q1727, by decide +kernel, Nat.le_of_ble_eq_true rfl, Nat.le_of_ble_eq_true rfl, rfl, rfl⟩
  replace hk := it_f h4 hk
  by_cases h5 : (sh.2.1 x0).1 = 16
  · replace hk := it_t h5 hk
    exact ⟨16, _, yX10_bars, _, _, _, _, ⟨hd9, h5⟩, rfl, ct_X10_bars hS hk, q1743, q1711, q108, q1712, q1702, q1701, q1738, q1744, q1742, by decide +kernel, Nat.le_of_ble_eq_true rfl, Nat.le_of_ble_eq_true rfl, rfl, rfl⟩
  replace hk := it_f h5 hk
  cases hk
def f_X15_yields (sh : SH) (x0 : Nat) (x1 : Int32) (I : II) : Option (Int32 × II) := ockD sh x0 <| orf (sh.2.2 x0 0) fun t1 => og (t1 = 7) <| (f_X3_begins sh (nI 61) I).bind fun I6 => bd2 (f_X10_yields sh x0 x1 I6) fun r11 I11 => ock sh x0 16 <| bd2 (f_X15_bids sh x0 (nI 1) I11) fun r18 I18 => some ((r11 * r18), I18)
abbrev rm_X15_yields : Room := { frames := 3, cells := 0, slots := 0, locals := 63 }
theorem mv_X15_yields_ok : callOK yX15_yields 1 := by decide +kernel
set_option maxHeartbeats 4000000 in
theorem ct_X15_yields {G : WG} {l : Launch} {sh : SH} (hS : stN sh) {I : II} {x0 : Nat} {x1 : Int32} {Z : (Int32 × II)} (hk : f_X15_yields sh x0 x1 I = some Z) : CT G l yX15_yields (ws_ yX15_yields cX15_yields 3 (some .int)) rm_X15_yields [.ref (wad G x0), .int x1] (sh, I) (.returned (some (.int Z.1))) (sh, Z.2) := by
  refine CT.ofJ "NineDemands$Single" rfl (by decide) (Nat.le_of_ble_eq_true rfl) ?_
  intro p e s m args below meth c C
  unfold f_X15_yields at hk
  refine j_lv (lv' := [some (.ref (wad G x0)), some (.int x1), none]) rfl ?_
  refine j_aload_n (pc := 0) C dX15_yields_0 rfl rfl ?_
  replace hk := ockD_some hk
  obtain ⟨ch1, ch1h, h1, hk⟩ := hk
  replace hk := orf_some hk
  obtain ⟨t1, et1, hk⟩ := hk
  refine x_getR (pc := 1) C (fdD_0 ch1h) (fl2 C q535 q536) h1 et1 dX15_yields_1 ?_
  refine j_bipush (pc := 4) (v := nI 61) C dX15_yields_4 (by decide) ?_
  replace hk := og_some hk
  obtain ⟨h2, hk⟩ := hk
  subst h2
  replace hk := ob_some hk
  obtain ⟨I6, h3, hk⟩ := hk
  refine x_callV (pc := 6) C (ct_X3_begins hS h3) mv_X3_begins (stN_o7 hS).r rfl rfl q1694 dX15_yields_6 rfl rfl (Nat.le_of_ble_eq_true rfl) rfl ?_
  refine j_aload_n (pc := 9) C dX15_yields_9 rfl rfl ?_
  refine j_iload_n (pc := 10) C dX15_yields_10 rfl rfl ?_
  replace hk := bd2_some hk
  obtain ⟨r11, I11, h4, hk⟩ := hk
  obtain ⟨cr11, hcr11⟩ := famclD ch1h
  refine x_callSU (pc := 11) C (ct_X10_yields hS h4) h1 hcr11 q1771 q2500 q639 q1725 q108 q1726 (by decide) (mv_X10_yields_ok) dX15_yields_11 rfl rfl (Nat.le_of_ble_eq_true rfl) rfl ?_
  refine j_istore_n (pc := 14) C dX15_yields_14 rfl (Nat.le_of_ble_eq_true rfl) rfl ?_
  refine j_iload_n (pc := 15) C dX15_yields_15 rfl rfl ?_
  refine j_aload_n (pc := 16) C dX15_yields_16 rfl rfl ?_
  refine j_iconst (pc := 17) (v := nI 1) C dX15_yields_17 (by decide) ?_
  replace hk := ock_some hk
  obtain ⟨h5, hk⟩ := hk
  replace hk := bd2_some hk
  obtain ⟨r18, I18, h6, hk⟩ := hk
  refine x_callV (pc := 18) C (ct_X15_bids hS h6) mv_X15_bids h5 rfl rfl q1772 dX15_yields_18 rfl rfl (Nat.le_of_ble_eq_true rfl) rfl ?_
  refine j_imul (pc := 21) C dX15_yields_21 ?_
  obtain rfl := Option.some.inj hk
  exact j_iret (pc := 22) C dX15_yields_22 (Nat.le_of_ble_eq_true rfl) (Nat.le_of_ble_eq_true rfl)
def v_KYields_yields (sh : SH) (x0 : Nat) (x1 : Int32) (I : II) : Option (Int32 × II) := og (x0 < sh.1 ∨ (exA ≤ x0 ∧ x0 < exA + exN)) <| if (sh.2.1 x0).1 = 11 then f_X10_yields sh x0 x1 I else if (sh.2.1 x0).1 = 12 then f_X10_yields sh x0 x1 I else if (sh.2.1 x0).1 = 13 then f_X10_yields sh x0 x1 I else if (sh.2.1 x0).1 = 14 then f_X13_yields sh x0 x1 I else if (sh.2.1 x0).1 = 15 then f_X10_yields sh x0 x1 I else if (sh.2.1 x0).1 = 16 then f_X15_yields sh x0 x1 I else none
set_option maxHeartbeats 4000000 in
theorem vc_KYields_yields {G : WG} {l : Launch} {sh : SH} (hS : stN sh) {I : II} {x0 : Nat} {x1 : Int32} {Z : (Int32 × II)} (hk : v_KYields_yields sh x0 x1 I = some Z) : VF G l ⟨"NineDemands$Yields", "yields", "(I)I"⟩ x0 [.int x1] (sh, I) (some (.int Z.1)) (sh, Z.2) 4 85 0 0 1 := by
  unfold v_KYields_yields at hk
  replace hk := og_some hk
  obtain ⟨hd9, hk⟩ := hk
  by_cases h0 : (sh.2.1 x0).1 = 11
  · replace hk := it_t h0 hk
    exact ⟨11, _, yX10_yields, _, _, _, _, ⟨hd9, h0⟩, rfl, ct_X10_yields hS hk, q1760, q1725, q108, q1726, q1751, q1750, q1755, q1761, q1759, by decide +kernel, Nat.le_of_ble_eq_true rfl, Nat.le_of_ble_eq_true rfl, rfl, rfl⟩
  replace hk := it_f h0 hk
  by_cases h1 : (sh.2.1 x0).1 = 12
  · replace hk := it_t h1 hk
    exact ⟨12, _, yX10_yields, _, _, _, _, ⟨hd9, h1⟩, rfl, ct_X10_yields hS hk, q1763, q1725, q108, q1726, q1751, q1750, q1755, q1764, q1762, by decide +kernel, Nat.le_of_ble_eq_true rfl, Nat.le_of_ble_eq_true rfl, rfl, rfl⟩
  replace hk := it_f h1 hk
  by_cases h2 : (sh.2.1 x0).1 = 13
  · replace hk := it_t h2 hk
    exact ⟨13, _, yX10_yields, _, _, _, _, ⟨hd9, h2⟩, rfl, ct_X10_yields hS hk, q1753, q1725, q108, q1726, q1751, q1750, q1755, q1754, q1752, by decide +kernel, Nat.le_of_ble_eq_true rfl, Nat.le_of_ble_eq_true rfl, rfl, rfl⟩
  replace hk := it_f h2 hk
  by_cases h3 : (sh.2.1 x0).1 = 14
  · replace hk := it_t h3 hk
    exact ⟨14, _, yX13_yields, _, _, _, _, ⟨hd9, h3⟩, rfl, ct_X13_yields hS hk, q1774, q1721, q111, q1722, q1751, q1750, q1776, q1775, q1773, by decide +kernel, Nat.le_of_ble_eq_true rfl, Nat.le_of_ble_eq_true rfl, rfl, rfl⟩
  replace hk := it_f h3 hk
  by_cases h4 : (sh.2.1 x0).1 = 15
  · replace hk := it_t h4 hk
    exact ⟨15, _, yX10_yields, _, _, _, _, ⟨hd9, h4⟩, rfl, ct_X10_yields hS hk, q1757, q1725, q108, q1726, q1751, q1750, q1755, q1758, q1756, by decide +kernel, Nat.le_of_ble_eq_true rfl, Nat.le_of_ble_eq_true rfl, rfl, rfl⟩
  replace hk := it_f h4 hk
  by_cases h5 : (sh.2.1 x0).1 = 16
  · replace hk := it_t h5 hk
    exact ⟨16, _, yX15_yields, _, _, _, _, ⟨hd9, h5⟩, rfl, ct_X15_yields hS hk, q1766, q1768, q113, q1770, q1751, q1750, q1769, q1767, q1765, by decide +kernel, Nat.le_of_ble_eq_true rfl, Nat.le_of_ble_eq_true rfl, rfl, rfl⟩
  replace hk := it_f h5 hk
  cases hk
def v_X10_bars (sh : SH) (x0 : Nat) (x1 : Int32) (I : II) : Option (Int32 × II) := og (x0 < sh.1 ∨ (exA ≤ x0 ∧ x0 < exA + exN)) <| if (sh.2.1 x0).1 = 11 then f_X10_bars sh x0 x1 I else if (sh.2.1 x0).1 = 12 then f_X11_bars sh x0 x1 I else if (sh.2.1 x0).1 = 13 then f_X11_bars sh x0 x1 I else if (sh.2.1 x0).1 = 14 then f_X11_bars sh x0 x1 I else if (sh.2.1 x0).1 = 15 then f_X14_bars sh x0 x1 I else if (sh.2.1 x0).1 = 16 then f_X10_bars sh x0 x1 I else none
set_option maxHeartbeats 4000000 in
theorem vc_X10_bars {G : WG} {l : Launch} {sh : SH} (hS : stN sh) {I : II} {x0 : Nat} {x1 : Int32} {Z : (Int32 × II)} (hk : v_X10_bars sh x0 x1 I = some Z) : VC G l ⟨"NineDemands$Demand", "bars", "(I)I"⟩ x0 [.int x1] (sh, I) (some (.int Z.1)) (sh, Z.2) 6 127 0 0 1 := by
  unfold v_X10_bars at hk
  replace hk := og_some hk
  obtain ⟨hd9, hk⟩ := hk
  by_cases h0 : (sh.2.1 x0).1 = 11
  · replace hk := it_t h0 hk
    exact ⟨11, _, yX10_bars, _, _, _, "NineDemands$Demand", _, ⟨hd9, h0⟩, rfl, ct_X10_bars hS hk, q2492, q2504, q1711, q108, q1712, Or.inl ⟨q1711, _, _, _, q1712⟩, by decide +kernel, Nat.le_of_ble_eq_true rfl, Nat.le_of_ble_eq_true rfl, rfl, rfl⟩
  replace hk := it_f h0 hk
  by_cases h1 : (sh.2.1 x0).1 = 12
  · replace hk := it_t h1 hk
    exact ⟨12, _, yX11_bars, _, _, _, "NineDemands$Demand", _, ⟨hd9, h1⟩, rfl, ct_X11_bars hS hk, q2492, q2505, q1706, q109, q1708, Or.inl ⟨q1711, _, _, _, q1712⟩, by decide +kernel, Nat.le_of_ble_eq_true rfl, Nat.le_of_ble_eq_true rfl, rfl, rfl⟩
  replace hk := it_f h1 hk
  by_cases h2 : (sh.2.1 x0).1 = 13
  · replace hk := it_t h2 hk
    exact ⟨13, _, yX11_bars, _, _, _, "NineDemands$Demand", _, ⟨hd9, h2⟩, rfl, ct_X11_bars hS hk, q2492, q2502, q1706, q109, q1708, Or.inl ⟨q1711, _, _, _, q1712⟩, by decide +kernel, Nat.le_of_ble_eq_true rfl, Nat.le_of_ble_eq_true rfl, rfl, rfl⟩
  replace hk := it_f h2 hk
  by_cases h3 : (sh.2.1 x0).1 = 14
  · replace hk := it_t h3 hk
    exact ⟨14, _, yX11_bars, _, _, _, "NineDemands$Demand", _, ⟨hd9, h3⟩, rfl, ct_X11_bars hS hk, q2492, q2507, q1706, q109, q1708, Or.inl ⟨q1711, _, _, _, q1712⟩, by decide +kernel, Nat.le_of_ble_eq_true rfl, Nat.le_of_ble_eq_true rfl, rfl, rfl⟩
  replace hk := it_f h3 hk
  by_cases h4 : (sh.2.1 x0).1 = 15
  · replace hk := it_t h4 hk
    exact ⟨15, _, yX14_bars, _, _, _, "NineDemands$Demand", _, ⟨hd9, h4⟩, rfl, ct_X14_bars hS hk, q2492, q2503, q1730, q112, q1732, Or.inl ⟨q1711, _, _, _, q1712⟩, by decide +kernel, Nat.le_of_ble_eq_true rfl, Nat.le_of_ble_eq_true rfl, rfl, rfl⟩
  replace hk := it_f h4 hk
  by_cases h5 : (sh.2.1 x0).1 = 16
  · replace hk := it_t h5 hk
    exact ⟨16, _, yX10_bars, _, _, _, "NineDemands$Demand", _, ⟨hd9, h5⟩, rfl, ct_X10_bars hS hk, q2492, q2506, q1711, q108, q1712, Or.inl ⟨q1711, _, _, _, q1712⟩, by decide +kernel, Nat.le_of_ble_eq_true rfl, Nat.le_of_ble_eq_true rfl, rfl, rfl⟩
  replace hk := it_f h5 hk
  cases hk
def v_X10_yields (sh : SH) (x0 : Nat) (x1 : Int32) (I : II) : Option (Int32 × II) := og (x0 < sh.1 ∨ (exA ≤ x0 ∧ x0 < exA + exN)) <| if (sh.2.1 x0).1 = 11 then f_X10_yields sh x0 x1 I else if (sh.2.1 x0).1 = 12 then f_X10_yields sh x0 x1 I else if (sh.2.1 x0).1 = 13 then f_X10_yields sh x0 x1 I else if (sh.2.1 x0).1 = 14 then f_X13_yields sh x0 x1 I else if (sh.2.1 x0).1 = 15 then f_X10_yields sh x0 x1 I else if (sh.2.1 x0).1 = 16 then f_X15_yields sh x0 x1 I else none
set_option maxHeartbeats 4000000 in
theorem vc_X10_yields {G : WG} {l : Launch} {sh : SH} (hS : stN sh) {I : II} {x0 : Nat} {x1 : Int32} {Z : (Int32 × II)} (hk : v_X10_yields sh x0 x1 I = some Z) : VC G l ⟨"NineDemands$Demand", "yields", "(I)I"⟩ x0 [.int x1] (sh, I) (some (.int Z.1)) (sh, Z.2) 4 85 0 0 1 := by
  unfold v_X10_yields at hk
  replace hk := og_some hk
  obtain ⟨hd9, hk⟩ := hk
  by_cases h0 : (sh.2.1 x0).1 = 11
  · replace hk := it_t h0 hk
    exact ⟨11, _, yX10_yields, _, _, _, "NineDemands$Demand", _, ⟨hd9, h0⟩, rfl, ct_X10_yields hS hk, q2500, q2510, q1725, q108, q1726, Or.inl ⟨q1725, _, _, _, q1726⟩, by decide +kernel, Nat.le_of_ble_eq_true rfl, Nat.le_of_ble_eq_true rfl, rfl, rfl⟩
  replace hk := it_f h0 hk
  by_cases h1 : (sh.2.1 x0).1 = 12
  · replace hk := it_t h1 hk
    exact ⟨12, _, yX10_yields, _, _, _, "NineDemands$Demand", _, ⟨hd9, h1⟩, rfl, ct_X10_yields hS hk, q2500, q2511, q1725, q108, q1726, Or.inl ⟨q1725, _, _, _, q1726⟩, by decide +kernel, Nat.le_of_ble_eq_true rfl, Nat.le_of_ble_eq_true rfl, rfl, rfl⟩
  replace hk := it_f h1 hk
  by_cases h2 : (sh.2.1 x0).1 = 13
  · replace hk := it_t h2 hk
    exact ⟨13, _, yX10_yields, _, _, _, "NineDemands$Demand", _, ⟨hd9, h2⟩, rfl, ct_X10_yields hS hk, q2500, q2508, q1725, q108, q1726, Or.inl ⟨q1725, _, _, _, q1726⟩, by decide +kernel, Nat.le_of_ble_eq_true rfl, Nat.le_of_ble_eq_true rfl, rfl, rfl⟩
  replace hk := it_f h2 hk
  by_cases h3 : (sh.2.1 x0).1 = 14
  · replace hk := it_t h3 hk
    exact ⟨14, _, yX13_yields, _, _, _, "NineDemands$Demand", _, ⟨hd9, h3⟩, rfl, ct_X13_yields hS hk, q2500, q2513, q1721, q111, q1722, Or.inl ⟨q1725, _, _, _, q1726⟩, by decide +kernel, Nat.le_of_ble_eq_true rfl, Nat.le_of_ble_eq_true rfl, rfl, rfl⟩
  replace hk := it_f h3 hk
  by_cases h4 : (sh.2.1 x0).1 = 15
  · replace hk := it_t h4 hk
    exact ⟨15, _, yX10_yields, _, _, _, "NineDemands$Demand", _, ⟨hd9, h4⟩, rfl, ct_X10_yields hS hk, q2500, q2509, q1725, q108, q1726, Or.inl ⟨q1725, _, _, _, q1726⟩, by decide +kernel, Nat.le_of_ble_eq_true rfl, Nat.le_of_ble_eq_true rfl, rfl, rfl⟩
  replace hk := it_f h4 hk
  by_cases h5 : (sh.2.1 x0).1 = 16
  · replace hk := it_t h5 hk
    exact ⟨16, _, yX15_yields, _, _, _, "NineDemands$Demand", _, ⟨hd9, h5⟩, rfl, ct_X15_yields hS hk, q2500, q2512, q1768, q113, q1770, Or.inl ⟨q1725, _, _, _, q1726⟩, by decide +kernel, Nat.le_of_ble_eq_true rfl, Nat.le_of_ble_eq_true rfl, rfl, rfl⟩
  replace hk := it_f h5 hk
  cases hk
def f_X10_stands (sh : SH) (x0 : Nat) (x1 : Int32) (I : II) : Option (Int32 × II) := ockD sh x0 <| orf (sh.2.2 x0 0) fun t1 => og (t1 = 7) <| (f_X3_begins sh (nI 13) I).bind fun I6 => bd2 (v_X10_bars sh x0 x1 I6) fun r11 I11 => bd2 (v_X10_yields sh x0 x1 I11) fun r18 I18 => some ((r11 ^^^ r18), I18)
abbrev rm_X10_stands : Room := { frames := 6, cells := 0, slots := 0, locals := 127 }
theorem mv_X10_stands_ok : callOK yX10_stands 1 := by decide +kernel
set_option maxHeartbeats 4000000 in
theorem ct_X10_stands {G : WG} {l : Launch} {sh : SH} (hS : stN sh) {I : II} {x0 : Nat} {x1 : Int32} {Z : (Int32 × II)} (hk : f_X10_stands sh x0 x1 I = some Z) : CT G l yX10_stands (ws_ yX10_stands cX10_stands 3 (some .int)) rm_X10_stands [.ref (wad G x0), .int x1] (sh, I) (.returned (some (.int Z.1))) (sh, Z.2) := by
  refine CT.ofJ "NineDemands$Demand" rfl (by decide) (Nat.le_of_ble_eq_true rfl) ?_
  intro p e s m args below meth c C
  unfold f_X10_stands at hk
  refine j_lv (lv' := [some (.ref (wad G x0)), some (.int x1), none]) rfl ?_
  refine j_aload_n (pc := 0) C dX10_stands_0 rfl rfl ?_
  replace hk := ockD_some hk
  obtain ⟨ch1, ch1h, h1, hk⟩ := hk
  replace hk := orf_some hk
  obtain ⟨t1, et1, hk⟩ := hk
  refine x_getR (pc := 1) C (fdD_0 ch1h) (fl1 C q530) h1 et1 dX10_stands_1 ?_
  refine j_bipush (pc := 4) (v := nI 13) C dX10_stands_4 (by decide) ?_
  replace hk := og_some hk
  obtain ⟨h2, hk⟩ := hk
  subst h2
  replace hk := ob_some hk
  obtain ⟨I6, h3, hk⟩ := hk
  refine x_callV (pc := 6) C (ct_X3_begins hS h3) mv_X3_begins (stN_o7 hS).r rfl rfl q1677 dX10_stands_6 rfl rfl (Nat.le_of_ble_eq_true rfl) rfl ?_
  refine j_aload_n (pc := 9) C dX10_stands_9 rfl rfl ?_
  refine j_iload_n (pc := 10) C dX10_stands_10 rfl rfl ?_
  replace hk := bd2_some hk
  obtain ⟨r11, I11, h4, hk⟩ := hk
  refine x_callX (pc := 11) C (vc_X10_bars hS h4) q1792 dX10_stands_11 rfl rfl (Nat.le_of_ble_eq_true rfl) (Nat.le_of_ble_eq_true rfl) (Nat.le_of_ble_eq_true rfl) (Nat.le_of_ble_eq_true rfl) (Nat.le_of_ble_eq_true rfl) ?_
  refine j_istore_n (pc := 14) C dX10_stands_14 rfl (Nat.le_of_ble_eq_true rfl) rfl ?_
  refine j_iload_n (pc := 15) C dX10_stands_15 rfl rfl ?_
  refine j_aload_n (pc := 16) C dX10_stands_16 rfl rfl ?_
  refine j_iload_n (pc := 17) C dX10_stands_17 rfl rfl ?_
  replace hk := bd2_some hk
  obtain ⟨r18, I18, h5, hk⟩ := hk
  refine x_callX (pc := 18) C (vc_X10_yields hS h5) q1793 dX10_stands_18 rfl rfl (Nat.le_of_ble_eq_true rfl) (Nat.le_of_ble_eq_true rfl) (Nat.le_of_ble_eq_true rfl) (Nat.le_of_ble_eq_true rfl) (Nat.le_of_ble_eq_true rfl) ?_
  refine j_ixor (pc := 21) C dX10_stands_21 ?_
  obtain rfl := Option.some.inj hk
  exact j_iret (pc := 22) C dX10_stands_22 (Nat.le_of_ble_eq_true rfl) (Nat.le_of_ble_eq_true rfl)
