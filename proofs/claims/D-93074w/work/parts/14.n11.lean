/-! the class: walks -/
set_option maxRecDepth 100000
def f_X10_isSo (F : Nat) (sh : SH) (x0 : Nat) (x2 : Int32) (x3 : Int32) (x4 : Int32) (I : II) : Option (Int32 × II) := (v_X10_tell F sh x0 x2 x3 x4 I).bind fun I6 => ockD sh x0 <| orf (sh.2.2 x0 3) fun t10 => (v_X17_value 120 sh t10 I6).bind fun r14 => if r14 = 0 then some ((nI 0), I6) else some ((nI 1), I6)
abbrev rm_X10_isSo : Room := { frames := 121, cells := 0, slots := 0, locals := 2860 }
theorem mv_X10_isSo_ok : callOK yX10_isSo 4 := by decide +kernel
theorem mv_X10_isSo : MV yX10_isSo cX10_isSo 5 (some .boolean) 4 := ⟨q1192, q1193, q108, q1209, mv_X10_isSo_ok⟩
set_option maxHeartbeats 4000000 in
theorem ct_X10_isSo {G : WG} {l : Launch} {sh : SH} (hS : stN sh) {I : II} {F : Nat} {x0 : Nat} {x2 : Int32} {x3 : Int32} {x4 : Int32} {Z : (Int32 × II)} (hk : f_X10_isSo F sh x0 x2 x3 x4 I = some Z) : CT G l yX10_isSo (ws_ yX10_isSo cX10_isSo 5 (some .boolean)) rm_X10_isSo [.ref (wad G x0), .ref (wad G 9), .int x2, .int x3, .int x4] (sh, I) (.returned (some (.int Z.1))) (sh, Z.2) := by
  refine CT.ofJ "NineDemands$Demand" rfl (by decide) (Nat.le_of_ble_eq_true rfl) ?_
  intro p e s m args below meth c C
  unfold f_X10_isSo at hk
  refine j_lv (lv' := [some (.ref (wad G x0)), some (.ref (wad G 9)), some (.int x2), some (.int x3), some (.int x4)]) rfl ?_
  refine j_aload_n (pc := 0) C dX10_isSo_0 rfl rfl ?_
  refine j_aload_n (pc := 1) C dX10_isSo_1 rfl rfl ?_
  refine j_iload_n (pc := 2) C dX10_isSo_2 rfl rfl ?_
  refine j_iload_n (pc := 3) C dX10_isSo_3 rfl rfl ?_
  refine j_iload (pc := 4) C dX10_isSo_4 rfl ?_
  replace hk := ob_some hk
  obtain ⟨I6, h1, hk⟩ := hk
  refine x_callX (pc := 6) C (vc_X10_tell hS h1) q1210 dX10_isSo_6 rfl rfl (Nat.le_of_ble_eq_true rfl) (Nat.le_of_ble_eq_true rfl) (Nat.le_of_ble_eq_true rfl) (Nat.le_of_ble_eq_true rfl) (Nat.le_of_ble_eq_true rfl) ?_
  refine j_aload_n (pc := 9) C dX10_isSo_9 rfl rfl ?_
  replace hk := ockD_some hk
  obtain ⟨ch2, ch2h, h2, hk⟩ := hk
  replace hk := orf_some hk
  obtain ⟨t10, et10, hk⟩ := hk
  refine x_getR (pc := 10) C (fdD_3 ch2h) (fl1 C q566) h2 et10 dX10_isSo_10 ?_
  refine j_aload_n (pc := 13) C dX10_isSo_13 rfl rfl ?_
  replace hk := ob_some hk
  obtain ⟨r14, h3, hk⟩ := hk
  refine x_callX (pc := 14) C (vc_X17_value hS h3) q1237 dX10_isSo_14 rfl rfl (Nat.le_of_ble_eq_true rfl) (Nat.le_of_ble_eq_true rfl) (Nat.le_of_ble_eq_true rfl) (Nat.le_of_ble_eq_true rfl) (Nat.le_of_ble_eq_true rfl) ?_
  refine j_if_eq (pc := 17) 24 C dX10_isSo_17 (by decide) (fun h4 => ?_) (fun h4 => ?_)
  · replace hk := it_t h4 hk
    refine j_iconst (pc := 24) (v := nI 0) C dX10_isSo_24 (by decide) ?_
    obtain rfl := Option.some.inj hk
    exact j_zret (pc := 25) C dX10_isSo_25 (Nat.le_of_ble_eq_true rfl) (Nat.le_of_ble_eq_true rfl) (isB.nar (v := (nI 0)) (by unfold isB; decide))
  · replace hk := it_f h4 hk
    refine j_iconst (pc := 20) (v := nI 1) C dX10_isSo_20 (by decide) ?_
    refine j_goto (pc := 21) 25 C dX10_isSo_21 (by decide) ?_
    obtain rfl := Option.some.inj hk
    exact j_zret (pc := 25) C dX10_isSo_25 (Nat.le_of_ble_eq_true rfl) (Nat.le_of_ble_eq_true rfl) (isB.nar (v := (nI 1)) (by unfold isB; decide))
def f_X12_isSo (sh : SH) (x0 : Nat) (x2 : Int32) (x3 : Int32) (x4 : Int32) (I : II) : Option Int32 := if x4 = x3 then some (nI 1) else some (nI 0)
abbrev rm_X12_isSo : Room := { frames := 0, cells := 0, slots := 0, locals := 0 }
theorem mv_X12_isSo_ok : callOK yX12_isSo 4 := by decide +kernel
set_option maxHeartbeats 4000000 in
theorem ct_X12_isSo {G : WG} {l : Launch} {sh : SH} (hS : stN sh) {I : II} {x0 : Nat} {x2 : Int32} {x3 : Int32} {x4 : Int32} {Z : Int32} (hk : f_X12_isSo sh x0 x2 x3 x4 I = some Z) : CT G l yX12_isSo (ws_ yX12_isSo cX12_isSo 5 (some .boolean)) rm_X12_isSo [.ref (wad G x0), .ref (wad G 9), .int x2, .int x3, .int x4] (sh, I) (.returned (some (.int Z))) (sh, I) := by
  refine CT.ofJ "NineDemands$Alike" rfl (by decide) (Nat.le_of_ble_eq_true rfl) ?_
  intro p e s m args below meth c C
  unfold f_X12_isSo at hk
  refine j_lv (lv' := [some (.ref (wad G x0)), some (.ref (wad G 9)), some (.int x2), some (.int x3), some (.int x4)]) rfl ?_
  refine j_iload (pc := 0) C dX12_isSo_0 rfl ?_
  refine j_iload_n (pc := 2) C dX12_isSo_2 rfl rfl ?_
  refine j_icmp_ne (pc := 3) 10 C dX12_isSo_3 (by decide) (fun h1 => ?_) (fun h1 => ?_)
  · replace hk := it_f h1 hk
    refine j_iconst (pc := 10) (v := nI 0) C dX12_isSo_10 (by decide) ?_
    obtain rfl := Option.some.inj hk
    exact j_zret (pc := 11) C dX12_isSo_11 (Nat.le_of_ble_eq_true rfl) (Nat.le_of_ble_eq_true rfl) (isB.nar (v := (nI 0)) (by unfold isB; decide))
  · replace hk := it_t h1 hk
    refine j_iconst (pc := 6) (v := nI 1) C dX12_isSo_6 (by decide) ?_
    refine j_goto (pc := 7) 11 C dX12_isSo_7 (by decide) ?_
    obtain rfl := Option.some.inj hk
    exact j_zret (pc := 11) C dX12_isSo_11 (Nat.le_of_ble_eq_true rfl) (Nat.le_of_ble_eq_true rfl) (isB.nar (v := (nI 1)) (by unfold isB; decide))
def f_X13_isSo (sh : SH) (x0 : Nat) (x2 : Int32) (x3 : Int32) (x4 : Int32) (I : II) : Option Int32 := (f_X0_turnedChoice x3).bind fun r3 => if x4 = r3 then some (nI 1) else some (nI 0)
abbrev rm_X13_isSo : Room := { frames := 1, cells := 0, slots := 0, locals := 20 }
theorem mv_X13_isSo_ok : callOK yX13_isSo 4 := by decide +kernel
set_option maxHeartbeats 4000000 in
theorem ct_X13_isSo {G : WG} {l : Launch} {sh : SH} (hS : stN sh) {I : II} {x0 : Nat} {x2 : Int32} {x3 : Int32} {x4 : Int32} {Z : Int32} (hk : f_X13_isSo sh x0 x2 x3 x4 I = some Z) : CT G l yX13_isSo (ws_ yX13_isSo cX13_isSo 5 (some .boolean)) rm_X13_isSo [.ref (wad G x0), .ref (wad G 9), .int x2, .int x3, .int x4] (sh, I) (.returned (some (.int Z))) (sh, I) := by
  refine CT.ofJ "NineDemands$Turns" rfl (by decide) (Nat.le_of_ble_eq_true rfl) ?_
  intro p e s m args below meth c C
  unfold f_X13_isSo at hk
  refine j_lv (lv' := [some (.ref (wad G x0)), some (.ref (wad G 9)), some (.int x2), some (.int x3), some (.int x4)]) rfl ?_
  refine j_iload (pc := 0) C dX13_isSo_0 rfl ?_
  refine j_iload_n (pc := 2) C dX13_isSo_2 rfl rfl ?_
  replace hk := ob_some hk
  obtain ⟨r3, h1, hk⟩ := hk
  refine x_callSN (pc := 3) C (ct_X0_turnedChoice h1) ms_X0_turnedChoice q1206 dX13_isSo_3 rfl rfl (Nat.le_of_ble_eq_true rfl) rfl ?_
  refine j_icmp_ne (pc := 6) 13 C dX13_isSo_6 (by decide) (fun h2 => ?_) (fun h2 => ?_)
  · replace hk := it_f h2 hk
    refine j_iconst (pc := 13) (v := nI 0) C dX13_isSo_13 (by decide) ?_
    obtain rfl := Option.some.inj hk
    exact j_zret (pc := 14) C dX13_isSo_14 (Nat.le_of_ble_eq_true rfl) (Nat.le_of_ble_eq_true rfl) (isB.nar (v := (nI 0)) (by unfold isB; decide))
  · replace hk := it_t h2 hk
    refine j_iconst (pc := 9) (v := nI 1) C dX13_isSo_9 (by decide) ?_
    refine j_goto (pc := 10) 14 C dX13_isSo_10 (by decide) ?_
    obtain rfl := Option.some.inj hk
    exact j_zret (pc := 14) C dX13_isSo_14 (Nat.le_of_ble_eq_true rfl) (Nat.le_of_ble_eq_true rfl) (isB.nar (v := (nI 1)) (by unfold isB; decide))
def f_X15_isSo (sh : SH) (x0 : Nat) (x2 : Int32) (x3 : Int32) (x4 : Int32) (I : II) : Option Int32 := if x3 = (nI 3) then some (nI 0) else some (nI 1)
abbrev rm_X15_isSo : Room := { frames := 0, cells := 0, slots := 0, locals := 0 }
theorem mv_X15_isSo_ok : callOK yX15_isSo 4 := by decide +kernel
set_option maxHeartbeats 4000000 in
theorem ct_X15_isSo {G : WG} {l : Launch} {sh : SH} (hS : stN sh) {I : II} {x0 : Nat} {x2 : Int32} {x3 : Int32} {x4 : Int32} {Z : Int32} (hk : f_X15_isSo sh x0 x2 x3 x4 I = some Z) : CT G l yX15_isSo (ws_ yX15_isSo cX15_isSo 5 (some .boolean)) rm_X15_isSo [.ref (wad G x0), .ref (wad G 9), .int x2, .int x3, .int x4] (sh, I) (.returned (some (.int Z))) (sh, I) := by
  refine CT.ofJ "NineDemands$Single" rfl (by decide) (Nat.le_of_ble_eq_true rfl) ?_
  intro p e s m args below meth c C
  unfold f_X15_isSo at hk
  refine j_lv (lv' := [some (.ref (wad G x0)), some (.ref (wad G 9)), some (.int x2), some (.int x3), some (.int x4)]) rfl ?_
  refine j_iload_n (pc := 0) C dX15_isSo_0 rfl rfl ?_
  refine j_iconst (pc := 1) (v := nI 3) C dX15_isSo_1 (by decide) ?_
  refine j_icmp_eq (pc := 2) 9 C dX15_isSo_2 (by decide) (fun h1 => ?_) (fun h1 => ?_)
  · replace hk := it_t h1 hk
    refine j_iconst (pc := 9) (v := nI 0) C dX15_isSo_9 (by decide) ?_
    obtain rfl := Option.some.inj hk
    exact j_zret (pc := 10) C dX15_isSo_10 (Nat.le_of_ble_eq_true rfl) (Nat.le_of_ble_eq_true rfl) (isB.nar (v := (nI 0)) (by unfold isB; decide))
  · replace hk := it_f h1 hk
    refine j_iconst (pc := 5) (v := nI 1) C dX15_isSo_5 (by decide) ?_
    refine j_goto (pc := 6) 10 C dX15_isSo_6 (by decide) ?_
    obtain rfl := Option.some.inj hk
    exact j_zret (pc := 10) C dX15_isSo_10 (Nat.le_of_ble_eq_true rfl) (Nat.le_of_ble_eq_true rfl) (isB.nar (v := (nI 1)) (by unfold isB; decide))
def v_X10_isSo (F : Nat) (sh : SH) (x0 : Nat) (x2 : Int32) (x3 : Int32) (x4 : Int32) (I : II) : Option (Int32 × II) := og (x0 < sh.1 ∨ (exA ≤ x0 ∧ x0 < exA + exN)) <| if (sh.2.1 x0).1 = 11 then f_X10_isSo F sh x0 x2 x3 x4 I else if (sh.2.1 x0).1 = 12 then f_X10_isSo F sh x0 x2 x3 x4 I else if (sh.2.1 x0).1 = 13 then (f_X12_isSo sh x0 x2 x3 x4 I).map fun r => (r, I) else if (sh.2.1 x0).1 = 14 then (f_X13_isSo sh x0 x2 x3 x4 I).map fun r => (r, I) else if (sh.2.1 x0).1 = 15 then f_X10_isSo F sh x0 x2 x3 x4 I else if (sh.2.1 x0).1 = 16 then (f_X15_isSo sh x0 x2 x3 x4 I).map fun r => (r, I) else none
set_option maxHeartbeats 4000000 in
theorem vc_X10_isSo {G : WG} {l : Launch} {sh : SH} (hS : stN sh) {I : II} {F : Nat} {x0 : Nat} {x2 : Int32} {x3 : Int32} {x4 : Int32} {Z : (Int32 × II)} (hk : v_X10_isSo F sh x0 x2 x3 x4 I = some Z) : VC G l ⟨"NineDemands$Demand", "isSo", "(LNineDemands$Facts;III)Z"⟩ x0 [.ref (wad G 9), .int x2, .int x3, .int x4] (sh, I) (some (.int Z.1)) (sh, Z.2) 122 2884 0 0 4 := by
  unfold v_X10_isSo at hk
  replace hk := og_some hk
  obtain ⟨hd9, hk⟩ := hk
  by_cases h0 : (sh.2.1 x0).1 = 11
  · replace hk := it_t h0 hk
    exact ⟨11, _, yX10_isSo, _, _, _, "NineDemands$Demand", _, ⟨hd9, h0⟩, rfl, ct_X10_isSo hS hk, q1194, q1193, q1192, q108, q1209, Or.inl ⟨q1192, _, _, _, q1209⟩, by decide +kernel, Nat.le_of_ble_eq_true rfl, Nat.le_of_ble_eq_true rfl, rfl, rfl⟩
  replace hk := it_f h0 hk
  by_cases h1 : (sh.2.1 x0).1 = 12
  · replace hk := it_t h1 hk
    exact ⟨12, _, yX10_isSo, _, _, _, "NineDemands$Demand", _, ⟨hd9, h1⟩, rfl, ct_X10_isSo hS hk, q1194, q1199, q1192, q108, q1209, Or.inl ⟨q1192, _, _, _, q1209⟩, by decide +kernel, Nat.le_of_ble_eq_true rfl, Nat.le_of_ble_eq_true rfl, rfl, rfl⟩
  replace hk := it_f h1 hk
  by_cases h2 : (sh.2.1 x0).1 = 13
  · replace hk := it_t h2 hk
    replace hk := Option.map_eq_some_iff.mp hk
    obtain ⟨z9, hk, hz9⟩ := hk
    subst hz9
    exact ⟨13, _, yX12_isSo, _, _, _, "NineDemands$Demand", _, ⟨hd9, h2⟩, rfl, ct_X12_isSo hS hk, q1194, q1195, q1196, q110, q1197, Or.inl ⟨q1192, _, _, _, q1209⟩, by decide +kernel, Nat.le_of_ble_eq_true rfl, Nat.le_of_ble_eq_true rfl, rfl, rfl⟩
  replace hk := it_f h2 hk
  by_cases h3 : (sh.2.1 x0).1 = 14
  · replace hk := it_t h3 hk
    replace hk := Option.map_eq_some_iff.mp hk
    obtain ⟨z9, hk, hz9⟩ := hk
    subst hz9
    exact ⟨14, _, yX13_isSo, _, _, _, "NineDemands$Demand", _, ⟨hd9, h3⟩, rfl, ct_X13_isSo hS hk, q1194, q1203, q1204, q111, q1205, Or.inl ⟨q1192, _, _, _, q1209⟩, by decide +kernel, Nat.le_of_ble_eq_true rfl, Nat.le_of_ble_eq_true rfl, rfl, rfl⟩
  replace hk := it_f h3 hk
  by_cases h4 : (sh.2.1 x0).1 = 15
  · replace hk := it_t h4 hk
    exact ⟨15, _, yX10_isSo, _, _, _, "NineDemands$Demand", _, ⟨hd9, h4⟩, rfl, ct_X10_isSo hS hk, q1194, q1198, q1192, q108, q1209, Or.inl ⟨q1192, _, _, _, q1209⟩, by decide +kernel, Nat.le_of_ble_eq_true rfl, Nat.le_of_ble_eq_true rfl, rfl, rfl⟩
  replace hk := it_f h4 hk
  by_cases h5 : (sh.2.1 x0).1 = 16
  · replace hk := it_t h5 hk
    replace hk := Option.map_eq_some_iff.mp hk
    obtain ⟨z9, hk, hz9⟩ := hk
    subst hz9
    exact ⟨16, _, yX15_isSo, _, _, _, "NineDemands$Demand", _, ⟨hd9, h5⟩, rfl, ct_X15_isSo hS hk, q1194, q1200, q1201, q113, q1202, Or.inl ⟨q1192, _, _, _, q1209⟩, by decide +kernel, Nat.le_of_ble_eq_true rfl, Nat.le_of_ble_eq_true rfl, rfl, rfl⟩
  replace hk := it_f h5 hk
  cases hk
def f_X23_add (sh : SH) (x0 : Nat) (x1 : Int32) (x2 : Int32) (x3 : Int32) (I : II) : Option II := ock sh x0 23 <| orf (sh.2.2 x0 0) fun t1 => oarw sh t1 100 fun nh2 => oix (I x0 4) nh2 fun i9 => orf (sh.2.2 x0 1) fun t11 => oarw sh t11 100 fun nh4 => oix ((up2 I t1 i9 x1) x0 4) nh4 fun i19 => orf (sh.2.2 x0 2) fun t21 => oarw sh t21 100 fun nh6 => oix ((up2 (up2 I t1 i9 x1) t11 i19 x2) x0 4) nh6 fun i29 => ockw sh x0 23 <| some (up2 (up2 (up2 (up2 I t1 i9 x1) t11 i19 x2) t21 i29 x3) x0 4 (((up2 (up2 (up2 I t1 i9 x1) t11 i19 x2) t21 i29 x3) x0 4) + (nI 1)))
abbrev rm_X23_add : Room := { frames := 0, cells := 0, slots := 0, locals := 0 }
theorem mv_X23_add_ok : callOK yX23_add 3 := by decide +kernel
theorem mv_X23_add : MV yX23_add cX23_add 4 none 3 := ⟨q1169, q1170, q131, q1171, mv_X23_add_ok⟩
set_option maxHeartbeats 4000000 in
theorem ct_X23_add {G : WG} {l : Launch} {sh : SH} (hS : stN sh) {I : II} {x0 : Nat} {x1 : Int32} {x2 : Int32} {x3 : Int32} {Z : II} (hk : f_X23_add sh x0 x1 x2 x3 I = some Z) : CT G l yX23_add (ws_ yX23_add cX23_add 4 none) rm_X23_add [.ref (wad G x0), .int x1, .int x2, .int x3] (sh, I) (.returned none) (sh, Z) := by
  refine CT.ofJ "NineDemands$Cases" rfl (by decide) (Nat.le_of_ble_eq_true rfl) ?_
  intro p e s m args below meth c C
  unfold f_X23_add at hk
  refine j_lv (lv' := [some (.ref (wad G x0)), some (.int x1), some (.int x2), some (.int x3)]) rfl ?_
  refine j_aload_n (pc := 0) C dX23_add_0 rfl rfl ?_
  replace hk := ock_some hk
  obtain ⟨h1, hk⟩ := hk
  replace hk := orf_some hk
  obtain ⟨t1, et1, hk⟩ := hk
  refine x_getR (pc := 1) C fd_23_0 (fl1 C q1119) h1 et1 dX23_add_1 ?_
  refine j_aload_n (pc := 4) C dX23_add_4 rfl rfl ?_
  refine x_getI (pc := 5) C fd_23_4 (fl1 C q1137) h1 dX23_add_5 ?_
  refine j_iload_n (pc := 8) C dX23_add_8 rfl rfl ?_
  replace hk := oarw_some hk
  obtain ⟨nh2, h2, hk⟩ := hk
  replace hk := oix_ex hk
  obtain ⟨i9, e9, h3, hk⟩ := hk
  refine j_iast (pc := 9) C h2 h3 e9 dX23_add_9 ?_
  refine j_aload_n (pc := 10) C dX23_add_10 rfl rfl ?_
  replace hk := orf_some hk
  obtain ⟨t11, et11, hk⟩ := hk
  refine x_getR (pc := 11) C fd_23_1 (fl1 C q1126) h1 et11 dX23_add_11 ?_
  refine j_aload_n (pc := 14) C dX23_add_14 rfl rfl ?_
  refine x_getI (pc := 15) C fd_23_4 (fl1 C q1137) h1 dX23_add_15 ?_
  refine j_iload_n (pc := 18) C dX23_add_18 rfl rfl ?_
  replace hk := oarw_some hk
  obtain ⟨nh4, h4, hk⟩ := hk
  replace hk := oix_ex hk
  obtain ⟨i19, e19, h5, hk⟩ := hk
  refine j_iast (pc := 19) C h4 h5 e19 dX23_add_19 ?_
  refine j_aload_n (pc := 20) C dX23_add_20 rfl rfl ?_
  replace hk := orf_some hk
  obtain ⟨t21, et21, hk⟩ := hk
  refine x_getR (pc := 21) C fd_23_2 (fl1 C q1132) h1 et21 dX23_add_21 ?_
  refine j_aload_n (pc := 24) C dX23_add_24 rfl rfl ?_
  refine x_getI (pc := 25) C fd_23_4 (fl1 C q1137) h1 dX23_add_25 ?_
  refine j_iload_n (pc := 28) C dX23_add_28 rfl rfl ?_
  replace hk := oarw_some hk
  obtain ⟨nh6, h6, hk⟩ := hk
  replace hk := oix_ex hk
  obtain ⟨i29, e29, h7, hk⟩ := hk
  refine j_iast (pc := 29) C h6 h7 e29 dX23_add_29 ?_
  refine j_aload_n (pc := 30) C dX23_add_30 rfl rfl ?_
  refine j_dup (pc := 31) C dX23_add_31 rfl ?_
  refine x_getI (pc := 32) C fd_23_4 (fl1 C q1137) h1 dX23_add_32 ?_
  refine j_iconst (pc := 35) (v := nI 1) C dX23_add_35 (by decide) ?_
  refine j_iadd (pc := 36) C dX23_add_36 ?_
  replace hk := ockw_some hk
  obtain ⟨h8, hk⟩ := hk
  refine x_putI (pc := 37) C fd_23_4 (fl1 C q1137) h8 rfl rfl dX23_add_37 ?_
  obtain rfl := Option.some.inj hk
  exact j_vret (pc := 40) C dX23_add_40 (Nat.le_of_ble_eq_true rfl) (Nat.le_of_ble_eq_true rfl)
def f_X10_casesOf (sh : SH) (x0 : Nat) (x1 : Int32) (I : II) : Option II := ockD sh x0 <| orf (sh.2.2 x0 4) fun t1 => ock sh t1 23 <| (f_X23_add sh t1 x1 (-1) (-1) I).bind fun I7 => some I7
abbrev rm_X10_casesOf : Room := { frames := 1, cells := 0, slots := 0, locals := 23 }
theorem mv_X10_casesOf_ok : callOK yX10_casesOf 1 := by decide +kernel
theorem mv_X10_casesOf : MV yX10_casesOf cX10_casesOf 2 none 1 := ⟨q1155, q1156, q108, q1189, mv_X10_casesOf_ok⟩
set_option maxHeartbeats 4000000 in
theorem ct_X10_casesOf {G : WG} {l : Launch} {sh : SH} (hS : stN sh) {I : II} {x0 : Nat} {x1 : Int32} {Z : II} (hk : f_X10_casesOf sh x0 x1 I = some Z) : CT G l yX10_casesOf (ws_ yX10_casesOf cX10_casesOf 2 none) rm_X10_casesOf [.ref (wad G x0), .int x1] (sh, I) (.returned none) (sh, Z) := by
  refine CT.ofJ "NineDemands$Demand" rfl (by decide) (Nat.le_of_ble_eq_true rfl) ?_
  intro p e s m args below meth c C
  unfold f_X10_casesOf at hk
  refine j_lv (lv' := [some (.ref (wad G x0)), some (.int x1)]) rfl ?_
  refine j_aload_n (pc := 0) C dX10_casesOf_0 rfl rfl ?_
  replace hk := ockD_some hk
  obtain ⟨ch1, ch1h, h1, hk⟩ := hk
  replace hk := orf_some hk
  obtain ⟨t1, et1, hk⟩ := hk
  refine x_getR (pc := 1) C (fdD_4 ch1h) (fl1 C q579) h1 et1 dX10_casesOf_1 ?_
  refine j_iload_n (pc := 4) C dX10_casesOf_4 rfl rfl ?_
  refine j_iconst (pc := 5) (v := (-1)) C dX10_casesOf_5 (by decide) ?_
  refine j_iconst (pc := 6) (v := (-1)) C dX10_casesOf_6 (by decide) ?_
  replace hk := ock_some hk
  obtain ⟨h2, hk⟩ := hk
  replace hk := ob_some hk
  obtain ⟨I7, h3, hk⟩ := hk
  refine x_callV (pc := 7) C (ct_X23_add hS h3) mv_X23_add h2 rfl rfl q1190 dX10_casesOf_7 rfl rfl (Nat.le_of_ble_eq_true rfl) rfl ?_
  obtain rfl := Option.some.inj hk
  exact j_vret (pc := 10) C dX10_casesOf_10 (Nat.le_of_ble_eq_true rfl) (Nat.le_of_ble_eq_true rfl)
def f_X0_changed (x0 : Int32) (x1 : Int32) : Option Int32 := if (nI 4) ≤ x0 then some (((x0 - (nI 4)) ^^^ x1) + (nI 4)) else some (x0 ^^^ x1)
abbrev rm_X0_changed : Room := { frames := 0, cells := 0, slots := 0, locals := 0 }
theorem ms_X0_changed : MS yX0_changed cX0_changed 2 (some .int) 2 := ⟨q443, q91, q444, by decide +kernel⟩
set_option maxHeartbeats 4000000 in
theorem ct_X0_changed {G : WG} {l : Launch} {sh : SH} {I : II} {x0 : Int32} {x1 : Int32} {Z : Int32} (hk : f_X0_changed x0 x1 = some Z) : CT G l yX0_changed (ws_ yX0_changed cX0_changed 2 (some .int)) rm_X0_changed [.int x0, .int x1] (sh, I) (.returned (some (.int Z))) (sh, I) := by
  refine CT.ofJ "NineDemands" rfl (by decide) (Nat.le_of_ble_eq_true rfl) ?_
  intro p e s m args below meth c C
  unfold f_X0_changed at hk
  refine j_lv (lv' := [some (.int x0), some (.int x1)]) rfl ?_
  refine j_iload_n (pc := 0) C dX0_changed_0 rfl rfl ?_
  refine j_iconst (pc := 1) (v := nI 4) C dX0_changed_1 (by decide) ?_
  refine j_icmp_ge (pc := 2) 11 C dX0_changed_2 (by decide) (fun h1 => ?_) (fun h1 => ?_)
  · replace hk := it_t h1 hk
    refine j_iload_n (pc := 11) C dX0_changed_11 rfl rfl ?_
    refine j_iconst (pc := 12) (v := nI 4) C dX0_changed_12 (by decide) ?_
    refine j_isub (pc := 13) C dX0_changed_13 ?_
    refine j_iload_n (pc := 14) C dX0_changed_14 rfl rfl ?_
    refine j_ixor (pc := 15) C dX0_changed_15 ?_
    refine j_iconst (pc := 16) (v := nI 4) C dX0_changed_16 (by decide) ?_
    refine j_iadd (pc := 17) C dX0_changed_17 ?_
    obtain rfl := Option.some.inj hk
    exact j_iret (pc := 18) C dX0_changed_18 (Nat.le_of_ble_eq_true rfl) (Nat.le_of_ble_eq_true rfl)
  · replace hk := it_f h1 hk
    refine j_iload_n (pc := 5) C dX0_changed_5 rfl rfl ?_
    refine j_iload_n (pc := 6) C dX0_changed_6 rfl rfl ?_
    refine j_ixor (pc := 7) C dX0_changed_7 ?_
    refine j_goto (pc := 8) 18 C dX0_changed_8 (by decide) ?_
    obtain rfl := Option.some.inj hk
    exact j_iret (pc := 18) C dX0_changed_18 (Nat.le_of_ble_eq_true rfl) (Nat.le_of_ble_eq_true rfl)
def f_X11_casesOf_L2 (F : Nat) (sh : SH) (x0 : Nat) (x1 : Int32) : Nat → Int32 → II → Option II
  | 0, _, _ => none
  | n2 + 1, x2, I => (f_X0_peopleOf x1).bind fun r4 => if r4 ≤ x2 then some I else ockD sh x0 <| orf (sh.2.2 x0 4) fun t11 => (f_X0_changed x1 ((nI 1) <<< (x2 &&& 31))).bind fun r19 => ock sh t11 23 <| (f_X23_add sh t11 x1 r19 x2 I).bind fun I23 => (f_X11_casesOf_L2 F sh x0 x1 n2) (x2 + (nI 1)) I23
def f_X11_casesOf (F : Nat) (sh : SH) (x0 : Nat) (x1 : Int32) (I : II) : Option II := f_X11_casesOf_L2 F sh x0 x1 F (nI 0) I
abbrev rm_X11_casesOf : Room := { frames := 1, cells := 0, slots := 0, locals := 23 }
theorem mv_X11_casesOf_ok : callOK yX11_casesOf 1 := by decide +kernel
set_option maxHeartbeats 4000000 in
theorem ct_X11_casesOf {G : WG} {l : Launch} {sh : SH} (hS : stN sh) {I : II} {F : Nat} {x0 : Nat} {x1 : Int32} {Z : II} (hk : f_X11_casesOf F sh x0 x1 I = some Z) : CT G l yX11_casesOf (ws_ yX11_casesOf cX11_casesOf 3 none) rm_X11_casesOf [.ref (wad G x0), .int x1] (sh, I) (.returned none) (sh, Z) := by
  refine CT.ofJ "NineDemands$Moved" rfl (by decide) (Nat.le_of_ble_eq_true rfl) ?_
  intro p e s m args below meth c C
  unfold f_X11_casesOf at hk
  refine j_lv (lv' := [some (.ref (wad G x0)), some (.int x1), none]) rfl ?_
  refine j_iconst (pc := 0) (v := nI 0) C dX11_casesOf_0 (by decide) ?_
  refine j_istore_n (pc := 1) C dX11_casesOf_1 rfl (Nat.le_of_ble_eq_true rfl) rfl ?_
  have L2 : ∀ (x0 : Nat) (x1 : Int32) (n2 : Nat) (x2 : Int32) (I : II), f_X11_casesOf_L2 F sh x0 x1 n2 x2 I = some Z → J G p l e rm_X11_casesOf s m args below meth c 3 (.returned none) (sh, Z) (rm_X11_casesOf).cells (rm_X11_casesOf).slots (sh, I) 0 0 2 [some (.ref (wad G x0)), some (.int x1), some (.int x2)] [] := by
    intro x0 x1 n2
    induction n2 with
    | zero => intro x2 I hk; rw [f_X11_casesOf_L2] at hk; cases hk
    | succ n2 ih2 =>
      intro x2 I hk
      rw [f_X11_casesOf_L2] at hk
      generalize f_X11_casesOf_L2 F sh x0 x1 n2 = k2 at ih2 hk
      refine j_iload_n (pc := 2) C dX11_casesOf_2 rfl rfl ?_
      refine j_iload_n (pc := 3) C dX11_casesOf_3 rfl rfl ?_
      replace hk := ob_some hk
      obtain ⟨r4, h1, hk⟩ := hk
      refine x_callSN (pc := 4) C (ct_X0_peopleOf h1) ms_X0_peopleOf q1179 dX11_casesOf_4 rfl rfl (Nat.le_of_ble_eq_true rfl) rfl ?_
      refine j_icmp_ge (pc := 7) 32 C dX11_casesOf_7 (by decide) (fun h2 => ?_) (fun h2 => ?_)
      · replace hk := it_t h2 hk
        obtain rfl := Option.some.inj hk
        exact j_vret (pc := 32) C dX11_casesOf_32 (Nat.le_of_ble_eq_true rfl) (Nat.le_of_ble_eq_true rfl)
      · replace hk := it_f h2 hk
        refine j_aload_n (pc := 10) C dX11_casesOf_10 rfl rfl ?_
        replace hk := ockD_some hk
        obtain ⟨ch3, ch3h, h3, hk⟩ := hk
        replace hk := orf_some hk
        obtain ⟨t11, et11, hk⟩ := hk
        refine x_getR (pc := 11) C (fdD_4 ch3h) (fl2 C q577 q578) h3 et11 dX11_casesOf_11 ?_
        refine j_iload_n (pc := 14) C dX11_casesOf_14 rfl rfl ?_
        refine j_iload_n (pc := 15) C dX11_casesOf_15 rfl rfl ?_
        refine j_iconst (pc := 16) (v := nI 1) C dX11_casesOf_16 (by decide) ?_
        refine j_iload_n (pc := 17) C dX11_casesOf_17 rfl rfl ?_
        refine j_ishl (pc := 18) C dX11_casesOf_18 ?_
        replace hk := ob_some hk
        obtain ⟨r19, h4, hk⟩ := hk
        refine x_callSN (pc := 19) C (ct_X0_changed h4) ms_X0_changed q1180 dX11_casesOf_19 rfl rfl (Nat.le_of_ble_eq_true rfl) rfl ?_
        refine j_iload_n (pc := 22) C dX11_casesOf_22 rfl rfl ?_
        replace hk := ock_some hk
        obtain ⟨h5, hk⟩ := hk
        replace hk := ob_some hk
        obtain ⟨I23, h6, hk⟩ := hk
        refine x_callV (pc := 23) C (ct_X23_add hS h6) mv_X23_add h5 rfl rfl q1181 dX11_casesOf_23 rfl rfl (Nat.le_of_ble_eq_true rfl) rfl ?_
        refine j_iinc (pc := 26) (nI 1) C dX11_casesOf_26 rfl (by decide) (Nat.le_of_ble_eq_true rfl) rfl ?_
        refine j_goto (pc := 29) 2 C dX11_casesOf_29 (by decide) ?_
        exact j_mask [true, true, true] (ih2 _ _ hk)
  exact j_mask [true, true, true] (L2 _ _ _ _ _ hk)
def f_X12_pair (sh : SH) (x0 : Nat) (x1 : Int32) (x2 : Int32) (x3 : Int32) (I : II) : Option II := (f_X0_peopleOf x1).bind fun r2 => if r2 ≤ x3 then some I else (f_X0_wants x1 x2).bind fun r10 => (f_X0_wants x1 x3).bind fun r15 => if r10 = r15 then some I else ockD sh x0 <| orf (sh.2.2 x0 4) fun t22 => (f_X0_changed x1 (((nI 1) <<< (x2 &&& 31)) ||| ((nI 1) <<< (x3 &&& 31)))).bind fun r34 => ock sh t22 23 <| (f_X23_add sh t22 x1 r34 (-1) I).bind fun I38 => some I38
abbrev rm_X12_pair : Room := { frames := 2, cells := 0, slots := 0, locals := 41 }
theorem mv_X12_pair_ok : callOK yX12_pair 3 := by decide +kernel
theorem mv_X12_pair : MV yX12_pair cX12_pair 4 none 3 := ⟨q1163, qs15, q110, q1164, mv_X12_pair_ok⟩
set_option maxHeartbeats 4000000 in
theorem ct_X12_pair {G : WG} {l : Launch} {sh : SH} (hS : stN sh) {I : II} {x0 : Nat} {x1 : Int32} {x2 : Int32} {x3 : Int32} {Z : II} (hk : f_X12_pair sh x0 x1 x2 x3 I = some Z) : CT G l yX12_pair (ws_ yX12_pair cX12_pair 4 none) rm_X12_pair [.ref (wad G x0), .int x1, .int x2, .int x3] (sh, I) (.returned none) (sh, Z) := by
  refine CT.ofJ "NineDemands$Alike" rfl (by decide) (Nat.le_of_ble_eq_true rfl) ?_
  intro p e s m args below meth c C
  unfold f_X12_pair at hk
  refine j_lv (lv' := [some (.ref (wad G x0)), some (.int x1), some (.int x2), some (.int x3)]) rfl ?_
  refine j_iload_n (pc := 0) C dX12_pair_0 rfl rfl ?_
  refine j_iload_n (pc := 1) C dX12_pair_1 rfl rfl ?_
  replace hk := ob_some hk
  obtain ⟨r2, h1, hk⟩ := hk
  refine x_callSN (pc := 2) C (ct_X0_peopleOf h1) ms_X0_peopleOf q1165 dX12_pair_2 rfl rfl (Nat.le_of_ble_eq_true rfl) rfl ?_
  refine j_icmp_ge (pc := 5) 41 C dX12_pair_5 (by decide) (fun h2 => ?_) (fun h2 => ?_)
  · replace hk := it_t h2 hk
    obtain rfl := Option.some.inj hk
    exact j_vret (pc := 41) C dX12_pair_41 (Nat.le_of_ble_eq_true rfl) (Nat.le_of_ble_eq_true rfl)
  · replace hk := it_f h2 hk
    refine j_iload_n (pc := 8) C dX12_pair_8 rfl rfl ?_
    refine j_iload_n (pc := 9) C dX12_pair_9 rfl rfl ?_
    replace hk := ob_some hk
    obtain ⟨r10, h3, hk⟩ := hk
    refine x_callSN (pc := 10) C (ct_X0_wants h3) ms_X0_wants q1166 dX12_pair_10 rfl rfl (Nat.le_of_ble_eq_true rfl) rfl ?_
    refine j_iload_n (pc := 13) C dX12_pair_13 rfl rfl ?_
    refine j_iload_n (pc := 14) C dX12_pair_14 rfl rfl ?_
    replace hk := ob_some hk
    obtain ⟨r15, h4, hk⟩ := hk
    refine x_callSN (pc := 15) C (ct_X0_wants h4) ms_X0_wants q1166 dX12_pair_15 rfl rfl (Nat.le_of_ble_eq_true rfl) rfl ?_
    refine j_icmp_eq (pc := 18) 41 C dX12_pair_18 (by decide) (fun h5 => ?_) (fun h5 => ?_)
    · replace hk := it_t h5 hk
      obtain rfl := Option.some.inj hk
      exact j_vret (pc := 41) C dX12_pair_41 (Nat.le_of_ble_eq_true rfl) (Nat.le_of_ble_eq_true rfl)
    · replace hk := it_f h5 hk
      refine j_aload_n (pc := 21) C dX12_pair_21 rfl rfl ?_
      replace hk := ockD_some hk
      obtain ⟨ch6, ch6h, h6, hk⟩ := hk
      replace hk := orf_some hk
      obtain ⟨t22, et22, hk⟩ := hk
      refine x_getR (pc := 22) C (fdD_4 ch6h) (fl2 C q575 q576) h6 et22 dX12_pair_22 ?_
      refine j_iload_n (pc := 25) C dX12_pair_25 rfl rfl ?_
      refine j_iload_n (pc := 26) C dX12_pair_26 rfl rfl ?_
      refine j_iconst (pc := 27) (v := nI 1) C dX12_pair_27 (by decide) ?_
      refine j_iload_n (pc := 28) C dX12_pair_28 rfl rfl ?_
      refine j_ishl (pc := 29) C dX12_pair_29 ?_
      refine j_iconst (pc := 30) (v := nI 1) C dX12_pair_30 (by decide) ?_
      refine j_iload_n (pc := 31) C dX12_pair_31 rfl rfl ?_
      refine j_ishl (pc := 32) C dX12_pair_32 ?_
      refine j_ior (pc := 33) C dX12_pair_33 ?_
      replace hk := ob_some hk
      obtain ⟨r34, h7, hk⟩ := hk
      refine x_callSN (pc := 34) C (ct_X0_changed h7) ms_X0_changed q1167 dX12_pair_34 rfl rfl (Nat.le_of_ble_eq_true rfl) rfl ?_
      refine j_iconst (pc := 37) (v := (-1)) C dX12_pair_37 (by decide) ?_
      replace hk := ock_some hk
      obtain ⟨h8, hk⟩ := hk
      replace hk := ob_some hk
      obtain ⟨I38, h9, hk⟩ := hk
      refine x_callV (pc := 38) C (ct_X23_add hS h9) mv_X23_add h8 rfl rfl q1168 dX12_pair_38 rfl rfl (Nat.le_of_ble_eq_true rfl) rfl ?_
      obtain rfl := Option.some.inj hk
      exact j_vret (pc := 41) C dX12_pair_41 (Nat.le_of_ble_eq_true rfl) (Nat.le_of_ble_eq_true rfl)
def f_X12_casesOf (sh : SH) (x0 : Nat) (x1 : Int32) (I : II) : Option II := ock sh x0 13 <| (f_X12_pair sh x0 x1 (nI 0) (nI 1) I).bind fun I4 => (f_X12_pair sh x0 x1 (nI 0) (nI 2) I4).bind fun I11 => (f_X12_pair sh x0 x1 (nI 1) (nI 2) I11).bind fun I18 => some I18
abbrev rm_X12_casesOf : Room := { frames := 3, cells := 0, slots := 0, locals := 64 }
theorem mv_X12_casesOf_ok : callOK yX12_casesOf 1 := by decide +kernel
set_option maxHeartbeats 4000000 in
theorem ct_X12_casesOf {G : WG} {l : Launch} {sh : SH} (hS : stN sh) {I : II} {x0 : Nat} {x1 : Int32} {Z : II} (hk : f_X12_casesOf sh x0 x1 I = some Z) : CT G l yX12_casesOf (ws_ yX12_casesOf cX12_casesOf 2 none) rm_X12_casesOf [.ref (wad G x0), .int x1] (sh, I) (.returned none) (sh, Z) := by
  refine CT.ofJ "NineDemands$Alike" rfl (by decide) (Nat.le_of_ble_eq_true rfl) ?_
  intro p e s m args below meth c C
  unfold f_X12_casesOf at hk
  refine j_lv (lv' := [some (.ref (wad G x0)), some (.int x1)]) rfl ?_
  refine j_aload_n (pc := 0) C dX12_casesOf_0 rfl rfl ?_
  refine j_iload_n (pc := 1) C dX12_casesOf_1 rfl rfl ?_
  refine j_iconst (pc := 2) (v := nI 0) C dX12_casesOf_2 (by decide) ?_
  refine j_iconst (pc := 3) (v := nI 1) C dX12_casesOf_3 (by decide) ?_
  replace hk := ock_some hk
  obtain ⟨h1, hk⟩ := hk
  replace hk := ob_some hk
  obtain ⟨I4, h2, hk⟩ := hk
  refine x_callV (pc := 4) C (ct_X12_pair hS h2) mv_X12_pair h1 rfl rfl q1161 dX12_casesOf_4 rfl rfl (Nat.le_of_ble_eq_true rfl) rfl ?_
  refine j_aload_n (pc := 7) C dX12_casesOf_7 rfl rfl ?_
  refine j_iload_n (pc := 8) C dX12_casesOf_8 rfl rfl ?_
  refine j_iconst (pc := 9) (v := nI 0) C dX12_casesOf_9 (by decide) ?_
  refine j_iconst (pc := 10) (v := nI 2) C dX12_casesOf_10 (by decide) ?_
  replace hk := ob_some hk
  obtain ⟨I11, h3, hk⟩ := hk
  refine x_callV (pc := 11) C (ct_X12_pair hS h3) mv_X12_pair h1 rfl rfl q1161 dX12_casesOf_11 rfl rfl (Nat.le_of_ble_eq_true rfl) rfl ?_
  refine j_aload_n (pc := 14) C dX12_casesOf_14 rfl rfl ?_
  refine j_iload_n (pc := 15) C dX12_casesOf_15 rfl rfl ?_
  refine j_iconst (pc := 16) (v := nI 1) C dX12_casesOf_16 (by decide) ?_
  refine j_iconst (pc := 17) (v := nI 2) C dX12_casesOf_17 (by decide) ?_
  replace hk := ob_some hk
  obtain ⟨I18, h4, hk⟩ := hk
  refine x_callV (pc := 18) C (ct_X12_pair hS h4) mv_X12_pair h1 rfl rfl q1161 dX12_casesOf_18 rfl rfl (Nat.le_of_ble_eq_true rfl) rfl ?_
  obtain rfl := Option.some.inj hk
  exact j_vret (pc := 21) C dX12_casesOf_21 (Nat.le_of_ble_eq_true rfl) (Nat.le_of_ble_eq_true rfl)
def f_X13_casesOf (sh : SH) (x0 : Nat) (x1 : Int32) (I : II) : Option II := ockD sh x0 <| orf (sh.2.2 x0 4) fun t1 => (f_X0_peopleOf x1).bind fun r8 => (f_X0_changed x1 (((nI 1) <<< (r8 &&& 31)) - (nI 1))).bind fun r14 => ock sh t1 23 <| (f_X23_add sh t1 x1 r14 (-1) I).bind fun I18 => some I18
abbrev rm_X13_casesOf : Room := { frames := 1, cells := 0, slots := 0, locals := 23 }
theorem mv_X13_casesOf_ok : callOK yX13_casesOf 1 := by decide +kernel
set_option maxHeartbeats 4000000 in
theorem ct_X13_casesOf {G : WG} {l : Launch} {sh : SH} (hS : stN sh) {I : II} {x0 : Nat} {x1 : Int32} {Z : II} (hk : f_X13_casesOf sh x0 x1 I = some Z) : CT G l yX13_casesOf (ws_ yX13_casesOf cX13_casesOf 2 none) rm_X13_casesOf [.ref (wad G x0), .int x1] (sh, I) (.returned none) (sh, Z) := by
  refine CT.ofJ "NineDemands$Turns" rfl (by decide) (Nat.le_of_ble_eq_true rfl) ?_
  intro p e s m args below meth c C
  unfold f_X13_casesOf at hk
  refine j_lv (lv' := [some (.ref (wad G x0)), some (.int x1)]) rfl ?_
  refine j_aload_n (pc := 0) C dX13_casesOf_0 rfl rfl ?_
  replace hk := ockD_some hk
  obtain ⟨ch1, ch1h, h1, hk⟩ := hk
  replace hk := orf_some hk
  obtain ⟨t1, et1, hk⟩ := hk
  refine x_getR (pc := 1) C (fdD_4 ch1h) (fl2 C q571 q572) h1 et1 dX13_casesOf_1 ?_
  refine j_iload_n (pc := 4) C dX13_casesOf_4 rfl rfl ?_
  refine j_iload_n (pc := 5) C dX13_casesOf_5 rfl rfl ?_
  refine j_iconst (pc := 6) (v := nI 1) C dX13_casesOf_6 (by decide) ?_
  refine j_iload_n (pc := 7) C dX13_casesOf_7 rfl rfl ?_
  replace hk := ob_some hk
  obtain ⟨r8, h2, hk⟩ := hk
  refine x_callSN (pc := 8) C (ct_X0_peopleOf h2) ms_X0_peopleOf q1186 dX13_casesOf_8 rfl rfl (Nat.le_of_ble_eq_true rfl) rfl ?_
  refine j_ishl (pc := 11) C dX13_casesOf_11 ?_
  refine j_iconst (pc := 12) (v := nI 1) C dX13_casesOf_12 (by decide) ?_
  refine j_isub (pc := 13) C dX13_casesOf_13 ?_
  replace hk := ob_some hk
  obtain ⟨r14, h3, hk⟩ := hk
  refine x_callSN (pc := 14) C (ct_X0_changed h3) ms_X0_changed q1187 dX13_casesOf_14 rfl rfl (Nat.le_of_ble_eq_true rfl) rfl ?_
  refine j_iconst (pc := 17) (v := (-1)) C dX13_casesOf_17 (by decide) ?_
  replace hk := ock_some hk
  obtain ⟨h4, hk⟩ := hk
  replace hk := ob_some hk
  obtain ⟨I18, h5, hk⟩ := hk
  refine x_callV (pc := 18) C (ct_X23_add hS h5) mv_X23_add h4 rfl rfl q1188 dX13_casesOf_18 rfl rfl (Nat.le_of_ble_eq_true rfl) rfl ?_
  obtain rfl := Option.some.inj hk
  exact j_vret (pc := 21) C dX13_casesOf_21 (Nat.le_of_ble_eq_true rfl) (Nat.le_of_ble_eq_true rfl)
def f_X14_casesOf_L2 (F : Nat) (sh : SH) (x0 : Nat) (x1 : Int32) : Nat → Int32 → II → Option II
  | 0, _, _ => none
  | n2 + 1, x2, I => if (nI 2) ≤ x2 then some I else if (nI 4) ≤ x1 then some I else ockD sh x0 <| orf (sh.2.2 x0 4) fun t13 => ock sh t13 23 <| (f_X23_add sh t13 x1 (((nI 4) + x1) + ((nI 4) * x2)) (nI 2) I).bind fun I25 => (f_X14_casesOf_L2 F sh x0 x1 n2) (x2 + (nI 1)) I25
def f_X14_casesOf (F : Nat) (sh : SH) (x0 : Nat) (x1 : Int32) (I : II) : Option II := f_X14_casesOf_L2 F sh x0 x1 F (nI 0) I
abbrev rm_X14_casesOf : Room := { frames := 1, cells := 0, slots := 0, locals := 23 }
theorem mv_X14_casesOf_ok : callOK yX14_casesOf 1 := by decide +kernel
set_option maxHeartbeats 4000000 in
theorem ct_X14_casesOf {G : WG} {l : Launch} {sh : SH} (hS : stN sh) {I : II} {F : Nat} {x0 : Nat} {x1 : Int32} {Z : II} (hk : f_X14_casesOf F sh x0 x1 I = some Z) : CT G l yX14_casesOf (ws_ yX14_casesOf cX14_casesOf 3 none) rm_X14_casesOf [.ref (wad G x0), .int x1] (sh, I) (.returned none) (sh, Z) := by
  refine CT.ofJ "NineDemands$Comes" rfl (by decide) (Nat.le_of_ble_eq_true rfl) ?_
  intro p e s m args below meth c C
  unfold f_X14_casesOf at hk
  refine j_lv (lv' := [some (.ref (wad G x0)), some (.int x1), none]) rfl ?_
  refine j_iconst (pc := 0) (v := nI 0) C dX14_casesOf_0 (by decide) ?_
  refine j_istore_n (pc := 1) C dX14_casesOf_1 rfl (Nat.le_of_ble_eq_true rfl) rfl ?_
  have L2 : ∀ (x0 : Nat) (x1 : Int32) (n2 : Nat) (x2 : Int32) (I : II), f_X14_casesOf_L2 F sh x0 x1 n2 x2 I = some Z → J G p l e rm_X14_casesOf s m args below meth c 3 (.returned none) (sh, Z) (rm_X14_casesOf).cells (rm_X14_casesOf).slots (sh, I) 0 0 2 [some (.ref (wad G x0)), some (.int x1), some (.int x2)] [] := by
    intro x0 x1 n2
    induction n2 with
    | zero => intro x2 I hk; rw [f_X14_casesOf_L2] at hk; cases hk
    | succ n2 ih2 =>
      intro x2 I hk
      rw [f_X14_casesOf_L2] at hk
      generalize f_X14_casesOf_L2 F sh x0 x1 n2 = k2 at ih2 hk
      refine j_iload_n (pc := 2) C dX14_casesOf_2 rfl rfl ?_
      refine j_iconst (pc := 3) (v := nI 2) C dX14_casesOf_3 (by decide) ?_
      refine j_icmp_ge (pc := 4) 34 C dX14_casesOf_4 (by decide) (fun h1 => ?_) (fun h1 => ?_)
      · replace hk := it_t h1 hk
        obtain rfl := Option.some.inj hk
        exact j_vret (pc := 34) C dX14_casesOf_34 (Nat.le_of_ble_eq_true rfl) (Nat.le_of_ble_eq_true rfl)
      · replace hk := it_f h1 hk
        refine j_iload_n (pc := 7) C dX14_casesOf_7 rfl rfl ?_
        refine j_iconst (pc := 8) (v := nI 4) C dX14_casesOf_8 (by decide) ?_
        refine j_icmp_ge (pc := 9) 34 C dX14_casesOf_9 (by decide) (fun h2 => ?_) (fun h2 => ?_)
        · replace hk := it_t h2 hk
          obtain rfl := Option.some.inj hk
          exact j_vret (pc := 34) C dX14_casesOf_34 (Nat.le_of_ble_eq_true rfl) (Nat.le_of_ble_eq_true rfl)
        · replace hk := it_f h2 hk
          refine j_aload_n (pc := 12) C dX14_casesOf_12 rfl rfl ?_
          replace hk := ockD_some hk
          obtain ⟨ch3, ch3h, h3, hk⟩ := hk
          replace hk := orf_some hk
          obtain ⟨t13, et13, hk⟩ := hk
          refine x_getR (pc := 13) C (fdD_4 ch3h) (fl2 C q573 q574) h3 et13 dX14_casesOf_13 ?_
          refine j_iload_n (pc := 16) C dX14_casesOf_16 rfl rfl ?_
          refine j_iconst (pc := 17) (v := nI 4) C dX14_casesOf_17 (by decide) ?_
          refine j_iload_n (pc := 18) C dX14_casesOf_18 rfl rfl ?_
          refine j_iadd (pc := 19) C dX14_casesOf_19 ?_
          refine j_iconst (pc := 20) (v := nI 4) C dX14_casesOf_20 (by decide) ?_
          refine j_iload_n (pc := 21) C dX14_casesOf_21 rfl rfl ?_
          refine j_imul (pc := 22) C dX14_casesOf_22 ?_
          refine j_iadd (pc := 23) C dX14_casesOf_23 ?_
          refine j_iconst (pc := 24) (v := nI 2) C dX14_casesOf_24 (by decide) ?_
          replace hk := ock_some hk
          obtain ⟨h4, hk⟩ := hk
          replace hk := ob_some hk
          obtain ⟨I25, h5, hk⟩ := hk
          refine x_callV (pc := 25) C (ct_X23_add hS h5) mv_X23_add h4 rfl rfl q1175 dX14_casesOf_25 rfl rfl (Nat.le_of_ble_eq_true rfl) rfl ?_
          refine j_iinc (pc := 28) (nI 1) C dX14_casesOf_28 rfl (by decide) (Nat.le_of_ble_eq_true rfl) rfl ?_
          refine j_goto (pc := 31) 2 C dX14_casesOf_31 (by decide) ?_
          exact j_mask [true, true, true] (ih2 _ _ hk)
  exact j_mask [true, true, true] (L2 _ _ _ _ _ hk)
def v_X10_casesOf (F : Nat) (sh : SH) (x0 : Nat) (x1 : Int32) (I : II) : Option II := og (x0 < sh.1 ∨ (exA ≤ x0 ∧ x0 < exA + exN)) <| if (sh.2.1 x0).1 = 11 then f_X10_casesOf sh x0 x1 I else if (sh.2.1 x0).1 = 12 then f_X11_casesOf F sh x0 x1 I else if (sh.2.1 x0).1 = 13 then f_X12_casesOf sh x0 x1 I else if (sh.2.1 x0).1 = 14 then f_X13_casesOf sh x0 x1 I else if (sh.2.1 x0).1 = 15 then f_X14_casesOf F sh x0 x1 I else if (sh.2.1 x0).1 = 16 then f_X10_casesOf sh x0 x1 I else none
set_option maxHeartbeats 4000000 in
theorem vc_X10_casesOf {G : WG} {l : Launch} {sh : SH} (hS : stN sh) {I : II} {F : Nat} {x0 : Nat} {x1 : Int32} {Z : II} (hk : v_X10_casesOf F sh x0 x1 I = some Z) : VC G l ⟨"NineDemands$Demand", "casesOf", "(I)V"⟩ x0 [.int x1] (sh, I) none (sh, Z) 4 85 0 0 1 := by
  unfold v_X10_casesOf at hk
  replace hk := og_some hk
  obtain ⟨hd9, hk⟩ := hk
  by_cases h0 : (sh.2.1 x0).1 = 11
  · replace hk := it_t h0 hk
    exact ⟨11, _, yX10_casesOf, _, _, _, "NineDemands$Demand", _, ⟨hd9, h0⟩, rfl, ct_X10_casesOf hS hk, q1157, q1156, q1155, q108, q1189, Or.inl ⟨q1155, _, _, _, q1189⟩, by decide +kernel, Nat.le_of_ble_eq_true rfl, Nat.le_of_ble_eq_true rfl, rfl, rfl⟩
  replace hk := it_f h0 hk
  by_cases h1 : (sh.2.1 x0).1 = 12
  · replace hk := it_t h1 hk
    exact ⟨12, _, yX11_casesOf, _, _, _, "NineDemands$Demand", _, ⟨hd9, h1⟩, rfl, ct_X11_casesOf hS hk, q1157, q1176, q1177, q109, q1178, Or.inl ⟨q1155, _, _, _, q1189⟩, by decide +kernel, Nat.le_of_ble_eq_true rfl, Nat.le_of_ble_eq_true rfl, rfl, rfl⟩
  replace hk := it_f h1 hk
  by_cases h2 : (sh.2.1 x0).1 = 13
  · replace hk := it_t h2 hk
    exact ⟨13, _, yX12_casesOf, _, _, _, "NineDemands$Demand", _, ⟨hd9, h2⟩, rfl, ct_X12_casesOf hS hk, q1157, q1158, q1159, q110, q1160, Or.inl ⟨q1155, _, _, _, q1189⟩, by decide +kernel, Nat.le_of_ble_eq_true rfl, Nat.le_of_ble_eq_true rfl, rfl, rfl⟩
  replace hk := it_f h2 hk
  by_cases h3 : (sh.2.1 x0).1 = 14
  · replace hk := it_t h3 hk
    exact ⟨14, _, yX13_casesOf, _, _, _, "NineDemands$Demand", _, ⟨hd9, h3⟩, rfl, ct_X13_casesOf hS hk, q1157, q1183, q1184, q111, q1185, Or.inl ⟨q1155, _, _, _, q1189⟩, by decide +kernel, Nat.le_of_ble_eq_true rfl, Nat.le_of_ble_eq_true rfl, rfl, rfl⟩
  replace hk := it_f h3 hk
  by_cases h4 : (sh.2.1 x0).1 = 15
  · replace hk := it_t h4 hk
    exact ⟨15, _, yX14_casesOf, _, _, _, "NineDemands$Demand", _, ⟨hd9, h4⟩, rfl, ct_X14_casesOf hS hk, q1157, q1172, q1173, q112, q1174, Or.inl ⟨q1155, _, _, _, q1189⟩, by decide +kernel, Nat.le_of_ble_eq_true rfl, Nat.le_of_ble_eq_true rfl, rfl, rfl⟩
  replace hk := it_f h4 hk
  by_cases h5 : (sh.2.1 x0).1 = 16
  · replace hk := it_t h5 hk
    exact ⟨16, _, yX10_casesOf, _, _, _, "NineDemands$Demand", _, ⟨hd9, h5⟩, rfl, ct_X10_casesOf hS hk, q1157, q1182, q1155, q108, q1189, Or.inl ⟨q1155, _, _, _, q1189⟩, by decide +kernel, Nat.le_of_ble_eq_true rfl, Nat.le_of_ble_eq_true rfl, rfl, rfl⟩
  replace hk := it_f h5 hk
  cases hk
def f_X10_lay_L57 (F : Nat) (k32 : Int32 → SH → II → Option (SH × II)) (k48 : Int32 → Int32 → SH → II → Option (SH × II)) (x0 : Nat) (x2 : Int32) (x4 : Int32) : Nat → Int32 → Int32 → SH → II → Option (SH × II)
  | 0, _, _, _, _ => none
  | n57 + 1, x3, x5, S, I => if (nI 3) < x5 then k48 x3 (x4 + (nI 1)) S I else ost S <| bd2 (v_X10_isSo F S x0 x2 x4 x5 I) fun r71 I71 => if r71 = 0 then (f_X10_lay_L57 F k32 k48 x0 x2 x4 n57) (x3 ||| (nI 0)) (x5 + (nI 1)) S I71 else (f_X0_bitOf x4 x5).bind fun r81 => (f_X10_lay_L57 F k32 k48 x0 x2 x4 n57) (x3 ||| r81) (x5 + (nI 1)) S I71
def f_X10_lay_L48 (F : Nat) (k32 : Int32 → SH → II → Option (SH × II)) (x0 : Nat) (x2 : Int32) : Nat → Int32 → Int32 → SH → II → Option (SH × II)
  | 0, _, _, _, _ => none
  | n48 + 1, x3, x4, S, I => if (nI 3) < x4 then ockD S x0 <| orf (S.2.2 x0 4) fun t103 => ock S t103 23 <| orf (S.2.2 t103 3) fun t106 => oarw S t106 100 fun nh16 => oix x2 nh16 fun i111 => k32 (x2 + (nI 1)) S (up2 I t106 i111 x3) else f_X10_lay_L57 F k32 (f_X10_lay_L48 F k32 x0 x2 n48) x0 x2 x4 F x3 (nI 1) S I
def f_X10_lay_L32 (F : Nat) (x0 : Nat) : Nat → Int32 → SH → II → Option (SH × II)
  | 0, _, _, _ => none
  | n32 + 1, x2, S, I => ockD S x0 <| orf (S.2.2 x0 4) fun t34 => ock S t34 23 <| if (I t34 4) ≤ x2 then some (S, I) else f_X10_lay_L48 F (f_X10_lay_L32 F x0 n32) x0 x2 F (nI 0) (nI 1) S I
def f_X10_lay_L13 (F : Nat) (x0 : Nat) : Nat → Int32 → SH → II → Option (SH × II)
  | 0, _, _, _ => none
  | n13 + 1, x2, S, I => if (nI 12) ≤ x2 then f_X10_lay_L32 F x0 F (nI 0) S I else ost S <| (v_X10_casesOf F S x0 x2 I).bind fun I21 => (f_X10_lay_L13 F x0 n13) (x2 + (nI 1)) S I21
def f_X10_lay (F : Nat) (sh : SH) (x0 : Nat) (I : II) : Option (SH × II) := omn2 sh <| onw sh <| omn2 (newS sh 23 0) <| bd2 (f_X23_init (newS sh 23 0) ((sh).1) (newI sh I)) fun S5 I5 => og (sh.1 + 1 ≤ S5.1) <| omn2 S5 <| ockwD S5 x0 <| f_X10_lay_L13 F x0 F (nI 0) (shR S5 x0 4 (some ((sh).1))) I5
abbrev rmf_X10_lay : Nat := 122
abbrev rml_X10_lay : Nat := 2884
theorem mv_X10_lay_ok : callOK yX10_lay 1 := by decide +kernel
theorem mv_X10_lay : MV yX10_lay cX10_lay 6 none 1 := ⟨q1104, q1105, q108, q1112, mv_X10_lay_ok⟩
set_option maxHeartbeats 4000000 in
theorem ct_X10_lay {G : WG} {l : Launch} {sh : SH} {I : II} {F : Nat} {x0 : Nat} {Z : (SH × II)} (hk : f_X10_lay F sh x0 I = some Z) : CT G l yX10_lay (ws_ yX10_lay cX10_lay 6 none) (rmA rmf_X10_lay rml_X10_lay (Z.1.1 - sh.1)) [.ref (wad G x0), .ref (wad G 9)] (sh, I) (.returned none) Z := by
  refine CT.ofJ "NineDemands$Demand" rfl (by decide) (Nat.le_of_ble_eq_true rfl) ?_
  intro p e s m args below meth c C
  unfold f_X10_lay at hk
  refine j_lv (lv' := [some (.ref (wad G x0)), some (.ref (wad G 9)), none, none, none, none]) rfl ?_
  replace hk := omn2_some hk
  obtain ⟨hz0, hk⟩ := hk
  have hm0 : sh.1 ≤ sh.1 := Nat.le_refl _
  refine j_kn (k' := sh.1 - sh.1) (n' := 200 * (sh.1 - sh.1)) (Nat.sub_self _).symm (rb2 _) ?_
  refine j_aload_n (pc := 0) C dX10_lay_0 rfl rfl ?_
  replace hk := onw_some hk
  obtain ⟨h1, hk⟩ := hk
  replace hk := omn2_some hk
  obtain ⟨h2, hk⟩ := hk
  have h2 : sh.1 + 1 ≤ Z.1.1 := h2
  refine x_new (pc := 1) (c2 := 23) C rfl (born_23) q1113 q1114 q131 h1 (ra1 hm0 h2) (ra2 hm0 h2 (by decide)) dX10_lay_1 ?_
  have h3 : sh.1 ≤ sh.1 + 1 := Nat.le_succ_of_le hm0
  refine j_wid (k' := (newS sh 23 0).1 - sh.1) (n' := 200 * ((newS sh 23 0).1 - sh.1)) (rw1 hm0) (rw2 hm0 (by decide)) ?_
  refine j_dup (pc := 4) C dX10_lay_4 rfl ?_
  replace hk := bd2_some hk
  obtain ⟨S5, I5, h4, hk⟩ := hk
  replace hk := og_some hk
  obtain ⟨h5, hk⟩ := hk
  replace hk := omn2_some hk
  obtain ⟨h6, hk⟩ := hk
  have h7 : sh.1 ≤ S5.1 := Nat.le_trans h3 h5
  refine x_callIN (pc := 5) C (ct_X23_init h4) mi_X23_init q1115 dX10_lay_5 rfl rfl (Nat.le_of_ble_eq_true rfl) (rmOK.i (Nat.le_of_ble_eq_true rfl) (Nat.le_of_ble_eq_true rfl) (rm1 h3 h5 h6) (rm2 h3 h5 h6)) ?_
  refine j_kn (k' := S5.1 - sh.1) (n' := 200 * (S5.1 - sh.1)) (rk1 h3 h5) (rk2 h3 h5) ?_
  replace hk := ockwD_some hk
  obtain ⟨ch8, ch8h, h8, hk⟩ := hk
  refine x_putN (pc := 8) (o := (some ((sh).1))) C (fdD_4 ch8h) (fl1 C q579) h8 rfl dX10_lay_8 ?_
  refine j_iconst (pc := 11) (v := nI 0) C dX10_lay_11 (by decide) ?_
  refine j_istore_n (pc := 12) C dX10_lay_12 rfl (Nat.le_of_ble_eq_true rfl) rfl ?_
  have L13 : ∀ (x0 : Nat) (n13 : Nat) (x2 : Int32) (S : SH) (I : II), sh.1 ≤ S.1 → S.1 ≤ Z.1.1 → f_X10_lay_L13 F x0 n13 x2 S I = some Z → J G p l e (rmA rmf_X10_lay rml_X10_lay (Z.1.1 - sh.1)) s m args below meth c 6 (.returned none) Z ((rmA rmf_X10_lay rml_X10_lay (Z.1.1 - sh.1))).cells ((rmA rmf_X10_lay rml_X10_lay (Z.1.1 - sh.1))).slots (S, I) ((S).1 - sh.1) (200 * ((S).1 - sh.1)) 13 [some (.ref (wad G x0)), some (.ref (wad G 9)), some (.int x2), none, none, none] [] := by
    intro x0 n13
    induction n13 with
    | zero => intro x2 S I hm hz hk; rw [f_X10_lay_L13] at hk; cases hk
    | succ n13 ih13 =>
      intro x2 S I hm hz hk
      rw [f_X10_lay_L13] at hk
      generalize f_X10_lay_L13 F x0 n13 = k13 at ih13 hk
      refine j_iload_n (pc := 13) C dX10_lay_13 rfl rfl ?_
      refine j_bipush (pc := 14) (v := nI 12) C dX10_lay_14 (by decide) ?_
      refine j_icmp_ge (pc := 16) 30 C dX10_lay_16 (by decide) (fun h9 => ?_) (fun h9 => ?_)
      · replace hk := it_t h9 hk
        refine j_iconst (pc := 30) (v := nI 0) C dX10_lay_30 (by decide) ?_
        refine j_istore_n (pc := 31) C dX10_lay_31 rfl (Nat.le_of_ble_eq_true rfl) rfl ?_
        have L32 : ∀ (x0 : Nat) (n32 : Nat) (x2 : Int32) (S : SH) (I : II), sh.1 ≤ S.1 → S.1 ≤ Z.1.1 → f_X10_lay_L32 F x0 n32 x2 S I = some Z → J G p l e (rmA rmf_X10_lay rml_X10_lay (Z.1.1 - sh.1)) s m args below meth c 6 (.returned none) Z ((rmA rmf_X10_lay rml_X10_lay (Z.1.1 - sh.1))).cells ((rmA rmf_X10_lay rml_X10_lay (Z.1.1 - sh.1))).slots (S, I) ((S).1 - sh.1) (200 * ((S).1 - sh.1)) 32 [some (.ref (wad G x0)), some (.ref (wad G 9)), some (.int x2), none, none, none] [] := by
          intro x0 n32
          induction n32 with
          | zero => intro x2 S I hm hz hk; rw [f_X10_lay_L32] at hk; cases hk
          | succ n32 ih32 =>
            intro x2 S I hm hz hk
            rw [f_X10_lay_L32] at hk
            generalize f_X10_lay_L32 F x0 n32 = k32 at ih32 hk
            refine j_iload_n (pc := 32) C dX10_lay_32 rfl rfl ?_
            refine j_aload_n (pc := 33) C dX10_lay_33 rfl rfl ?_
            replace hk := ockD_some hk
            obtain ⟨ch10, ch10h, h10, hk⟩ := hk
            replace hk := orf_some hk
            obtain ⟨t34, et34, hk⟩ := hk
            refine x_getR (pc := 34) C (fdD_4 ch10h) (fl1 C q579) h10 et34 dX10_lay_34 ?_
            replace hk := ock_some hk
            obtain ⟨h11, hk⟩ := hk
            refine x_getI (pc := 37) C fd_23_4 (fl3 C q1141) h11 dX10_lay_37 ?_
            refine j_icmp_ge (pc := 40) 118 C dX10_lay_40 (by decide) (fun h12 => ?_) (fun h12 => ?_)
            · replace hk := it_t h12 hk
              obtain rfl := Option.some.inj hk
              exact j_vret (pc := 118) C dX10_lay_118 (Nat.le_refl _) (Nat.le_refl _)
            · replace hk := it_f h12 hk
              refine j_iconst (pc := 43) (v := nI 0) C dX10_lay_43 (by decide) ?_
              refine j_istore_n (pc := 44) C dX10_lay_44 rfl (Nat.le_of_ble_eq_true rfl) rfl ?_
              refine j_iconst (pc := 45) (v := nI 1) C dX10_lay_45 (by decide) ?_
              refine j_istore (pc := 46) C dX10_lay_46 (Nat.le_of_ble_eq_true rfl) rfl ?_
              have L48 : ∀ (x2 : Int32) (n48 : Nat) (x3 : Int32) (x4 : Int32) (S : SH) (I : II), sh.1 ≤ S.1 → S.1 ≤ Z.1.1 → f_X10_lay_L48 F k32 x0 x2 n48 x3 x4 S I = some Z → J G p l e (rmA rmf_X10_lay rml_X10_lay (Z.1.1 - sh.1)) s m args below meth c 6 (.returned none) Z ((rmA rmf_X10_lay rml_X10_lay (Z.1.1 - sh.1))).cells ((rmA rmf_X10_lay rml_X10_lay (Z.1.1 - sh.1))).slots (S, I) ((S).1 - sh.1) (200 * ((S).1 - sh.1)) 48 [some (.ref (wad G x0)), some (.ref (wad G 9)), some (.int x2), some (.int x3), some (.int x4), none] [] := by
                intro x2 n48
                induction n48 with
                | zero => intro x3 x4 S I hm hz hk; rw [f_X10_lay_L48] at hk; cases hk
                | succ n48 ih48 =>
                  intro x3 x4 S I hm hz hk
                  rw [f_X10_lay_L48] at hk
                  generalize f_X10_lay_L48 F k32 x0 x2 n48 = k48 at ih48 hk
                  refine j_iload (pc := 48) C dX10_lay_48 rfl ?_
                  refine j_iconst (pc := 50) (v := nI 3) C dX10_lay_50 (by decide) ?_
                  refine j_icmp_gt (pc := 51) 102 C dX10_lay_51 (by decide) (fun h13 => ?_) (fun h13 => ?_)
                  · replace hk := it_t h13 hk
                    refine j_aload_n (pc := 102) C dX10_lay_102 rfl rfl ?_
                    replace hk := ockD_some hk
                    obtain ⟨ch14, ch14h, h14, hk⟩ := hk
                    replace hk := orf_some hk
                    obtain ⟨t103, et103, hk⟩ := hk
                    refine x_getR (pc := 103) C (fdD_4 ch14h) (fl1 C q579) h14 et103 dX10_lay_103 ?_
                    replace hk := ock_some hk
                    obtain ⟨h15, hk⟩ := hk
                    replace hk := orf_some hk
                    obtain ⟨t106, et106, hk⟩ := hk
                    refine x_getR (pc := 106) C fd_23_3 (fl3 C q1136) h15 et106 dX10_lay_106 ?_
                    refine j_iload_n (pc := 109) C dX10_lay_109 rfl rfl ?_
                    refine j_iload_n (pc := 110) C dX10_lay_110 rfl rfl ?_
                    replace hk := oarw_some hk
                    obtain ⟨nh16, h16, hk⟩ := hk
                    replace hk := oix_ex hk
                    obtain ⟨i111, e111, h17, hk⟩ := hk
                    refine j_iast (pc := 111) C h16 h17 e111 dX10_lay_111 ?_
                    refine j_iinc (pc := 112) (nI 1) C dX10_lay_112 rfl (by decide) (Nat.le_of_ble_eq_true rfl) rfl ?_
                    refine j_goto (pc := 115) 32 C dX10_lay_115 (by decide) ?_
                    exact j_mask [true, true, true, false, false, false] (ih32 _ _ _ hm hz hk)
                  · replace hk := it_f h13 hk
                    refine j_iconst (pc := 54) (v := nI 1) C dX10_lay_54 (by decide) ?_
                    refine j_istore (pc := 55) C dX10_lay_55 (Nat.le_of_ble_eq_true rfl) rfl ?_
                    have L57 : ∀ (x4 : Int32) (n57 : Nat) (x3 : Int32) (x5 : Int32) (S : SH) (I : II), sh.1 ≤ S.1 → S.1 ≤ Z.1.1 → f_X10_lay_L57 F k32 k48 x0 x2 x4 n57 x3 x5 S I = some Z → J G p l e (rmA rmf_X10_lay rml_X10_lay (Z.1.1 - sh.1)) s m args below meth c 6 (.returned none) Z ((rmA rmf_X10_lay rml_X10_lay (Z.1.1 - sh.1))).cells ((rmA rmf_X10_lay rml_X10_lay (Z.1.1 - sh.1))).slots (S, I) ((S).1 - sh.1) (200 * ((S).1 - sh.1)) 57 [some (.ref (wad G x0)), some (.ref (wad G 9)), some (.int x2), some (.int x3), some (.int x4), some (.int x5)] [] := by
                      intro x4 n57
                      induction n57 with
                      | zero => intro x3 x5 S I hm hz hk; rw [f_X10_lay_L57] at hk; cases hk
                      | succ n57 ih57 =>
                        intro x3 x5 S I hm hz hk
                        rw [f_X10_lay_L57] at hk
                        generalize f_X10_lay_L57 F k32 k48 x0 x2 x4 n57 = k57 at ih57 hk
                        refine j_iload (pc := 57) C dX10_lay_57 rfl ?_
                        refine j_iconst (pc := 59) (v := nI 3) C dX10_lay_59 (by decide) ?_
                        refine j_icmp_gt (pc := 60) 96 C dX10_lay_60 (by decide) (fun h18 => ?_) (fun h18 => ?_)
                        · replace hk := it_t h18 hk
                          refine j_iinc (pc := 96) (nI 1) C dX10_lay_96 rfl (by decide) (Nat.le_of_ble_eq_true rfl) rfl ?_
                          refine j_goto (pc := 99) 48 C dX10_lay_99 (by decide) ?_
                          exact j_mask [true, true, true, true, true, false] (ih48 _ _ _ _ hm hz hk)
                        · replace hk := it_f h18 hk
                          refine j_iload_n (pc := 63) C dX10_lay_63 rfl rfl ?_
                          refine j_aload_n (pc := 64) C dX10_lay_64 rfl rfl ?_
                          refine j_aload_n (pc := 65) C dX10_lay_65 rfl rfl ?_
                          refine j_iload_n (pc := 66) C dX10_lay_66 rfl rfl ?_
                          refine j_iload (pc := 67) C dX10_lay_67 rfl ?_
                          refine j_iload (pc := 69) C dX10_lay_69 rfl ?_
                          replace hk := ost_some hk
                          obtain ⟨h19, hk⟩ := hk
                          replace hk := bd2_some hk
                          obtain ⟨r71, I71, h20, hk⟩ := hk
                          refine x_callX (pc := 71) C (vc_X10_isSo h19 h20) q1191 dX10_lay_71 rfl rfl (Nat.le_of_ble_eq_true rfl) (Nat.le_of_ble_eq_true rfl) (Nat.le_of_ble_eq_true rfl) (rz1 hm hz) (rz2 hm hz) ?_
                          refine j_if_eq (pc := 74) 87 C dX10_lay_74 (by decide) (fun h21 => ?_) (fun h21 => ?_)
                          · replace hk := it_t h21 hk
                            refine j_iconst (pc := 87) (v := nI 0) C dX10_lay_87 (by decide) ?_
                            refine j_ior (pc := 88) C dX10_lay_88 ?_
                            refine j_istore_n (pc := 89) C dX10_lay_89 rfl (Nat.le_of_ble_eq_true rfl) rfl ?_
                            refine j_iinc (pc := 90) (nI 1) C dX10_lay_90 rfl (by decide) (Nat.le_of_ble_eq_true rfl) rfl ?_
                            refine j_goto (pc := 93) 57 C dX10_lay_93 (by decide) ?_
                            exact j_mask [true, true, true, true, true, true] (ih57 _ _ _ _ hm hz hk)
                          · replace hk := it_f h21 hk
                            refine j_iload (pc := 77) C dX10_lay_77 rfl ?_
                            refine j_iload (pc := 79) C dX10_lay_79 rfl ?_
                            replace hk := ob_some hk
                            obtain ⟨r81, h22, hk⟩ := hk
                            refine x_callSN (pc := 81) C (ct_X0_bitOf h22) ms_X0_bitOf q1257 dX10_lay_81 rfl rfl (Nat.le_of_ble_eq_true rfl) (rmOK.i (Nat.le_of_ble_eq_true rfl) (Nat.le_of_ble_eq_true rfl) (rz1 hm hz) (rz2 hm hz)) ?_
                            refine j_goto (pc := 84) 88 C dX10_lay_84 (by decide) ?_
                            refine j_ior (pc := 88) C dX10_lay_88 ?_
                            refine j_istore_n (pc := 89) C dX10_lay_89 rfl (Nat.le_of_ble_eq_true rfl) rfl ?_
                            refine j_iinc (pc := 90) (nI 1) C dX10_lay_90 rfl (by decide) (Nat.le_of_ble_eq_true rfl) rfl ?_
                            refine j_goto (pc := 93) 57 C dX10_lay_93 (by decide) ?_
                            exact j_mask [true, true, true, true, true, true] (ih57 _ _ _ _ hm hz hk)
                    exact j_mask [true, true, true, true, true, true] (L57 _ _ _ _ _ _ hm hz hk)
              exact j_mask [true, true, true, true, true, false] (L48 _ _ _ _ _ _ hm hz hk)
        exact j_mask [true, true, true, false, false, false] (L32 _ _ _ _ _ hm hz hk)
      · replace hk := it_f h9 hk
        refine j_aload_n (pc := 19) C dX10_lay_19 rfl rfl ?_
        refine j_iload_n (pc := 20) C dX10_lay_20 rfl rfl ?_
        replace hk := ost_some hk
        obtain ⟨h23, hk⟩ := hk
        replace hk := ob_some hk
        obtain ⟨I21, h24, hk⟩ := hk
        refine x_callX (pc := 21) C (vc_X10_casesOf h23 h24) q1154 dX10_lay_21 rfl rfl (Nat.le_of_ble_eq_true rfl) (Nat.le_of_ble_eq_true rfl) (Nat.le_of_ble_eq_true rfl) (rz1 hm hz) (rz2 hm hz) ?_
        refine j_iinc (pc := 24) (nI 1) C dX10_lay_24 rfl (by decide) (Nat.le_of_ble_eq_true rfl) rfl ?_
        refine j_goto (pc := 27) 13 C dX10_lay_27 (by decide) ?_
        exact j_mask [true, true, true, false, false, false] (ih13 _ _ _ hm hz hk)
  exact j_mask [true, true, true, false, false, false] (L13 _ _ _ _ _ h7 h6 hk)
def v_X10_lay (F : Nat) (sh : SH) (x0 : Nat) (I : II) : Option (SH × II) := og (x0 < sh.1 ∨ (exA ≤ x0 ∧ x0 < exA + exN)) <| if (sh.2.1 x0).1 = 11 then f_X10_lay F sh x0 I else if (sh.2.1 x0).1 = 12 then f_X10_lay F sh x0 I else if (sh.2.1 x0).1 = 13 then f_X10_lay F sh x0 I else if (sh.2.1 x0).1 = 14 then f_X10_lay F sh x0 I else if (sh.2.1 x0).1 = 15 then f_X10_lay F sh x0 I else if (sh.2.1 x0).1 = 16 then f_X10_lay F sh x0 I else none
set_option maxHeartbeats 4000000 in
theorem vc_X10_lay {G : WG} {l : Launch} {sh : SH} {I : II} {F : Nat} {x0 : Nat} {Z : (SH × II)} (hk : v_X10_lay F sh x0 I = some Z) : VC G l ⟨"NineDemands$Demand", "lay", "(LNineDemands$Facts;)V"⟩ x0 [.ref (wad G 9)] (sh, I) none Z 123 2909 (Z.1.1 - sh.1) (200 * (Z.1.1 - sh.1)) 1 := by
  unfold v_X10_lay at hk
  replace hk := og_some hk
  obtain ⟨hd9, hk⟩ := hk
  by_cases h0 : (sh.2.1 x0).1 = 11
  · replace hk := it_t h0 hk
    exact ⟨11, _, yX10_lay, _, _, _, "NineDemands$Demand", _, ⟨hd9, h0⟩, rfl, ct_X10_lay hk, q1106, q1105, q1104, q108, q1112, Or.inl ⟨q1104, _, _, _, q1112⟩, by decide +kernel, Nat.le_of_ble_eq_true rfl, Nat.le_of_ble_eq_true rfl, rfl, rfl⟩
  replace hk := it_f h0 hk
  by_cases h1 : (sh.2.1 x0).1 = 12
  · replace hk := it_t h1 hk
    exact ⟨12, _, yX10_lay, _, _, _, "NineDemands$Demand", _, ⟨hd9, h1⟩, rfl, ct_X10_lay hk, q1106, q1109, q1104, q108, q1112, Or.inl ⟨q1104, _, _, _, q1112⟩, by decide +kernel, Nat.le_of_ble_eq_true rfl, Nat.le_of_ble_eq_true rfl, rfl, rfl⟩
  replace hk := it_f h1 hk
  by_cases h2 : (sh.2.1 x0).1 = 13
  · replace hk := it_t h2 hk
    exact ⟨13, _, yX10_lay, _, _, _, "NineDemands$Demand", _, ⟨hd9, h2⟩, rfl, ct_X10_lay hk, q1106, q1107, q1104, q108, q1112, Or.inl ⟨q1104, _, _, _, q1112⟩, by decide +kernel, Nat.le_of_ble_eq_true rfl, Nat.le_of_ble_eq_true rfl, rfl, rfl⟩
  replace hk := it_f h2 hk
  by_cases h3 : (sh.2.1 x0).1 = 14
  · replace hk := it_t h3 hk
    exact ⟨14, _, yX10_lay, _, _, _, "NineDemands$Demand", _, ⟨hd9, h3⟩, rfl, ct_X10_lay hk, q1106, q1111, q1104, q108, q1112, Or.inl ⟨q1104, _, _, _, q1112⟩, by decide +kernel, Nat.le_of_ble_eq_true rfl, Nat.le_of_ble_eq_true rfl, rfl, rfl⟩
  replace hk := it_f h3 hk
  by_cases h4 : (sh.2.1 x0).1 = 15
  · replace hk := it_t h4 hk
    exact ⟨15, _, yX10_lay, _, _, _, "NineDemands$Demand", _, ⟨hd9, h4⟩, rfl, ct_X10_lay hk, q1106, q1108, q1104, q108, q1112, Or.inl ⟨q1104, _, _, _, q1112⟩, by decide +kernel, Nat.le_of_ble_eq_true rfl, Nat.le_of_ble_eq_true rfl, rfl, rfl⟩
  replace hk := it_f h4 hk
  by_cases h5 : (sh.2.1 x0).1 = 16
  · replace hk := it_t h5 hk
    exact ⟨16, _, yX10_lay, _, _, _, "NineDemands$Demand", _, ⟨hd9, h5⟩, rfl, ct_X10_lay hk, q1106, q1110, q1104, q108, q1112, Or.inl ⟨q1104, _, _, _, q1112⟩, by decide +kernel, Nat.le_of_ble_eq_true rfl, Nat.le_of_ble_eq_true rfl, rfl, rfl⟩
  replace hk := it_f h5 hk
  cases hk
def f_X10_names (sh : SH) (x0 : Nat) (I : II) : Option Nat := some (exA + 0)
abbrev rm_X10_names : Room := { frames := 0, cells := 0, slots := 0, locals := 0 }
theorem mv_X10_names_ok : callOK yX10_names 0 := by decide +kernel
theorem mv_X10_names : MV yX10_names cX10_names 1 (some (.object "java/lang/String")) 0 := ⟨q675, q676, q108, q911, mv_X10_names_ok⟩
set_option maxHeartbeats 4000000 in
theorem ct_X10_names {G : WG} {l : Launch} {sh : SH} (hS : stN sh) {I : II} {x0 : Nat} {Z : Nat} (hk : f_X10_names sh x0 I = some Z) : CT G l yX10_names (ws_ yX10_names cX10_names 1 (some (.object "java/lang/String"))) rm_X10_names [.ref (wad G x0)] (sh, I) (.returned (some (.ref (wad G Z)))) (sh, I) := by
  refine CT.ofJ "NineDemands$Demand" rfl (by decide) (Nat.le_of_ble_eq_true rfl) ?_
  intro p e s m args below meth c C
  unfold f_X10_names at hk
  refine j_lv (lv' := [some (.ref (wad G x0))]) rfl ?_
  refine x_ldcS (pc := 0) 0 C rfl dX10_names_0 ?_
  obtain rfl := Option.some.inj hk
  exact x_aret (pc := 2) C dX10_names_2 (Nat.le_of_ble_eq_true rfl) (Nat.le_of_ble_eq_true rfl) rfl
def f_J7_init (sh : SH) (x0 : Nat) (x1 : Int32) (I : II) : Option (SH × II) := omn2 sh <| if (nI 1) = 0 then none else onl x1 fun n12 => onw sh <| omn2 (newS sh 101 n12) <| ockw (newS sh 101 n12) x0 27 <| ockw (shR (newS sh 101 n12) x0 0 (some ((sh).1))) x0 27 <| some (shR (newS sh 101 n12) x0 0 (some ((sh).1)), up2 (newI sh I) x0 1 (nI 0))
abbrev rmf_J7_init : Nat := 1
abbrev rml_J7_init : Nat := 30
theorem mi_J7_init : MI yJ7_init cJ7_init 2 1 := ⟨q687, q115, q688, rfl, by decide +kernel⟩
set_option maxHeartbeats 4000000 in
theorem ct_J7_init {G : WG} {l : Launch} {sh : SH} {I : II} {x0 : Nat} {x1 : Int32} {Z : (SH × II)} (hk : f_J7_init sh x0 x1 I = some Z) : CT G l yJ7_init (ws_ yJ7_init cJ7_init 2 none) (rmA rmf_J7_init rml_J7_init (Z.1.1 - sh.1)) [.ref (wad G x0), .int x1] (sh, I) (.returned none) Z := by
  refine CT.ofJ "java/lang/AbstractStringBuilder" rfl (by decide) (Nat.le_of_ble_eq_true rfl) ?_
  intro p e s m args below meth c C
  unfold f_J7_init at hk
  refine j_lv (lv' := [some (.ref (wad G x0)), some (.int x1)]) rfl ?_
  replace hk := omn2_some hk
  obtain ⟨hz0, hk⟩ := hk
  have hm0 : sh.1 ≤ sh.1 := Nat.le_refl _
  refine j_kn (k' := sh.1 - sh.1) (n' := 200 * (sh.1 - sh.1)) (Nat.sub_self _).symm (rb2 _) ?_
  refine j_aload_n (pc := 0) C dJ7_init_0 rfl rfl ?_
  refine x_objInit (pc := 1) C q689 q144 q145 dJ7_init_1 (Nat.le_of_ble_eq_true rfl) (Nat.le_of_ble_eq_true rfl) ?_
  refine x_getsC (pc := 4) C q690 dJ7_init_4 ?_
  refine j_if_eq (pc := 7) 25 C dJ7_init_7 (by decide) (fun h1 => ?_) (fun h1 => ?_)
  · replace hk := it_t h1 hk
    refine j_aload_n (pc := 25) C dJ7_init_25 rfl rfl ?_
    refine j_iload_n (pc := 26) C dJ7_init_26 rfl rfl ?_
    cases hk
  · replace hk := it_f h1 hk
    refine j_aload_n (pc := 10) C dJ7_init_10 rfl rfl ?_
    refine j_iload_n (pc := 11) C dJ7_init_11 rfl rfl ?_
    replace hk := onl_ex hk
    obtain ⟨n12, en12, h2, hk⟩ := hk
    replace hk := onw_some hk
    obtain ⟨h3, hk⟩ := hk
    replace hk := omn2_some hk
    obtain ⟨h4, hk⟩ := hk
    have h4 : sh.1 + 1 ≤ Z.1.1 := h4
    refine x_newaI (pc := 12) (at' := .byte) (t := 101) (q := n12) (i := x1) C (Or.inr (Or.inl ⟨rfl, rfl⟩)) q273 h2.1 en12.symm (Nat.le_trans h2.2 (by decide)) h3 (ra1 hm0 h4) (ra2 hm0 h4 h2.2) dJ7_init_12 ?_
    have h5 : sh.1 ≤ sh.1 + 1 := Nat.le_succ_of_le hm0
    refine j_wid (k' := (newS sh 101 n12).1 - sh.1) (n' := 200 * ((newS sh 101 n12).1 - sh.1)) (rw1 hm0) (rw2 hm0 h2.2) ?_
    replace hk := ockw_some hk
    obtain ⟨h6, hk⟩ := hk
    refine x_putN (pc := 14) (o := (some ((sh).1))) C fd_27_0 (fl1 C q699) h6 rfl dJ7_init_14 ?_
    refine j_aload_n (pc := 17) C dJ7_init_17 rfl rfl ?_
    refine j_iconst (pc := 18) (v := nI 0) C dJ7_init_18 (by decide) ?_
    replace hk := ockw_some hk
    obtain ⟨h7, hk⟩ := hk
    refine x_putI (pc := 19) C fd_27_1 (fl1 C q700) h7 rfl rfl dJ7_init_19 ?_
    refine j_goto (pc := 22) 38 C dJ7_init_22 (by decide) ?_
    obtain rfl := Option.some.inj hk
    exact j_vret (pc := 38) C dJ7_init_38 (Nat.le_refl _) (Nat.le_refl _)
def f_J8_init (sh : SH) (x0 : Nat) (I : II) : Option (SH × II) := omn2 sh <| bd2 (f_J7_init sh x0 (nI 16) I) fun S3 I3 => og (sh.1 ≤ S3.1) <| omn2 S3 <| some (S3, I3)
abbrev rmf_J8_init : Nat := 2
abbrev rml_J8_init : Nat := 51
theorem mi_J8_init : MI yJ8_init cJ8_init 1 0 := ⟨q684, q116, q685, rfl, by decide +kernel⟩
set_option maxHeartbeats 4000000 in
theorem ct_J8_init {G : WG} {l : Launch} {sh : SH} {I : II} {x0 : Nat} {Z : (SH × II)} (hk : f_J8_init sh x0 I = some Z) : CT G l yJ8_init (ws_ yJ8_init cJ8_init 1 none) (rmA rmf_J8_init rml_J8_init (Z.1.1 - sh.1)) [.ref (wad G x0)] (sh, I) (.returned none) Z := by
  refine CT.ofJ "java/lang/StringBuilder" rfl (by decide) (Nat.le_of_ble_eq_true rfl) ?_
  intro p e s m args below meth c C
  unfold f_J8_init at hk
  refine j_lv (lv' := [some (.ref (wad G x0))]) rfl ?_
  replace hk := omn2_some hk
  obtain ⟨hz0, hk⟩ := hk
  have hm0 : sh.1 ≤ sh.1 := Nat.le_refl _
  refine j_kn (k' := sh.1 - sh.1) (n' := 200 * (sh.1 - sh.1)) (Nat.sub_self _).symm (rb2 _) ?_
  refine j_aload_n (pc := 0) C dJ8_init_0 rfl rfl ?_
  refine j_bipush (pc := 1) (v := nI 16) C dJ8_init_1 (by decide) ?_
  replace hk := bd2_some hk
  obtain ⟨S3, I3, h1, hk⟩ := hk
  replace hk := og_some hk
  obtain ⟨h2, hk⟩ := hk
  replace hk := omn2_some hk
  obtain ⟨h3, hk⟩ := hk
  have h4 : sh.1 ≤ S3.1 := Nat.le_trans hm0 h2
  refine x_callI (pc := 3) C (ct_J7_init h1) mi_J7_init q686 dJ8_init_3 rfl rfl (Nat.le_of_ble_eq_true rfl) (rmOK.i (Nat.le_of_ble_eq_true rfl) (Nat.le_of_ble_eq_true rfl) (rm1 hm0 h2 h3) (rm2 hm0 h2 h3)) ?_
  refine j_kn (k' := S3.1 - sh.1) (n' := 200 * (S3.1 - sh.1)) (rk1 hm0 h2) (rk2 hm0 h2) ?_
  obtain rfl := Option.some.inj hk
  exact j_vret (pc := 6) C dJ8_init_6 (Nat.le_refl _) (Nat.le_refl _)
def f_J9_coder (sh : SH) (x0 : Nat) (I : II) : Option Int32 := if (nI 1) = 0 then some (nI 1) else ockS sh x0 <| og (Int8.toInt32 (Int32.toInt8 (I x0 1)) = (I x0 1)) <| some (I x0 1)
abbrev rm_J9_coder : Room := { frames := 0, cells := 0, slots := 0, locals := 0 }
theorem mv_J9_coder_ok : callOK yJ9_coder 0 := by decide +kernel
theorem mv_J9_coder : MV yJ9_coder cJ9_coder 1 (some .byte) 0 := ⟨q801, q802, q117, q803, mv_J9_coder_ok⟩
set_option maxHeartbeats 4000000 in
theorem ct_J9_coder {G : WG} {l : Launch} {sh : SH} {I : II} {x0 : Nat} {Z : Int32} (hk : f_J9_coder sh x0 I = some Z) : CT G l yJ9_coder (ws_ yJ9_coder cJ9_coder 1 (some .byte)) rm_J9_coder [.ref (wad G x0)] (sh, I) (.returned (some (.int Z))) (sh, I) := by
  refine CT.ofJ "java/lang/String" rfl (by decide) (Nat.le_of_ble_eq_true rfl) ?_
  intro p e s m args below meth c C
  unfold f_J9_coder at hk
  refine j_lv (lv' := [some (.ref (wad G x0))]) rfl ?_
  refine x_getsC (pc := 0) C q804 dJ9_coder_0 ?_
  refine j_if_eq (pc := 3) 13 C dJ9_coder_3 (by decide) (fun h1 => ?_) (fun h1 => ?_)
  · replace hk := it_t h1 hk
    refine j_iconst (pc := 13) (v := nI 1) C dJ9_coder_13 (by decide) ?_
    obtain rfl := Option.some.inj hk
    exact x_bret (pc := 14) C dJ9_coder_14 (Nat.le_of_ble_eq_true rfl) (Nat.le_of_ble_eq_true rfl) rfl
  · replace hk := it_f h1 hk
    refine j_aload_n (pc := 6) C dJ9_coder_6 rfl rfl ?_
    replace hk := ockS_some hk
    obtain ⟨ch2, ch2h, h2, hk⟩ := hk
    refine x_getI (pc := 7) C (fdS_1 ch2h) (fl1 C q890) h2 dJ9_coder_7 ?_
    refine j_goto (pc := 10) 14 C dJ9_coder_10 (by decide) ?_
    replace hk := og_some hk
    obtain ⟨h3, hk⟩ := hk
    obtain rfl := Option.some.inj hk
    exact x_bret (pc := 14) C dJ9_coder_14 (Nat.le_of_ble_eq_true rfl) (Nat.le_of_ble_eq_true rfl) h3
def f_J9_length (sh : SH) (x0 : Nat) (I : II) : Option Int32 := ockS sh x0 <| orf (sh.2.2 x0 0) fun t1 => oar sh t1 101 fun nh2 => (f_J9_coder sh x0 I).bind fun r6 => some ((nI nh2) >>> (r6 &&& 31))
abbrev rm_J9_length : Room := { frames := 1, cells := 0, slots := 0, locals := 20 }
theorem mv_J9_length_ok : callOK yJ9_length 0 := by decide +kernel
theorem mv_J9_length : MV yJ9_length cJ9_length 1 (some .int) 0 := ⟨q797, q798, q117, q799, mv_J9_length_ok⟩
set_option maxHeartbeats 4000000 in
theorem ct_J9_length {G : WG} {l : Launch} {sh : SH} {I : II} {x0 : Nat} {Z : Int32} (hk : f_J9_length sh x0 I = some Z) : CT G l yJ9_length (ws_ yJ9_length cJ9_length 1 (some .int)) rm_J9_length [.ref (wad G x0)] (sh, I) (.returned (some (.int Z))) (sh, I) := by
  refine CT.ofJ "java/lang/String" rfl (by decide) (Nat.le_of_ble_eq_true rfl) ?_
  intro p e s m args below meth c C
  unfold f_J9_length at hk
  refine j_lv (lv' := [some (.ref (wad G x0))]) rfl ?_
  refine j_aload_n (pc := 0) C dJ9_length_0 rfl rfl ?_
  replace hk := ockS_some hk
  obtain ⟨ch1, ch1h, h1, hk⟩ := hk
  replace hk := orf_some hk
  obtain ⟨t1, et1, hk⟩ := hk
  refine x_getR (pc := 1) C (fdS_0 ch1h) (fl1 C q889) h1 et1 dJ9_length_1 ?_
  replace hk := oar_some hk
  obtain ⟨nh2, h2, hk⟩ := hk
  refine x_alen (pc := 4) C h2 (by decide) dJ9_length_4 ?_
  refine j_aload_n (pc := 5) C dJ9_length_5 rfl rfl ?_
  replace hk := ob_some hk
  obtain ⟨r6, h3, hk⟩ := hk
  obtain ⟨cr6, hcr6, hcy6⟩ := famnmS ch1h
  refine x_callV (pc := 6) C (ct_J9_coder h3) mv_J9_coder h1 hcr6 hcy6 q800 dJ9_length_6 rfl rfl (Nat.le_of_ble_eq_true rfl) rfl ?_
  refine j_ishr (pc := 9) C dJ9_length_9 ?_
  obtain rfl := Option.some.inj hk
  exact j_iret (pc := 10) C dJ9_length_10 (Nat.le_of_ble_eq_true rfl) (Nat.le_of_ble_eq_true rfl)
def f_J7_ensureCapacityInternal (sh : SH) (x0 : Nat) (x1 : Int32) (I : II) : Option (SH × II) := omn2 sh <| ock sh x0 27 <| orf (sh.2.2 x0 0) fun t1 => oar sh t1 101 fun nh2 => if (x1 - ((nI nh2) >>> ((I x0 1) &&& 31))) ≤ 0 then some (sh, I) else orf (sh.2.2 x0 0) fun t19 => none
abbrev rmf_J7_ensureCapacityInternal : Nat := 0
abbrev rml_J7_ensureCapacityInternal : Nat := 0
theorem mv_J7_ensureCapacityInternal_ok : callOK yJ7_ensureCapacityInternal 1 := by decide +kernel
set_option maxHeartbeats 4000000 in
theorem ct_J7_ensureCapacityInternal {G : WG} {l : Launch} {sh : SH} {I : II} {x0 : Nat} {x1 : Int32} {Z : (SH × II)} (hk : f_J7_ensureCapacityInternal sh x0 x1 I = some Z) : CT G l yJ7_ensureCapacityInternal (ws_ yJ7_ensureCapacityInternal cJ7_ensureCapacityInternal 3 none) (rmA rmf_J7_ensureCapacityInternal rml_J7_ensureCapacityInternal (Z.1.1 - sh.1)) [.ref (wad G x0), .int x1] (sh, I) (.returned none) Z := by
  refine CT.ofJ "java/lang/AbstractStringBuilder" rfl (by decide) (Nat.le_of_ble_eq_true rfl) ?_
  intro p e s m args below meth c C
  unfold f_J7_ensureCapacityInternal at hk
  refine j_lv (lv' := [some (.ref (wad G x0)), some (.int x1), none]) rfl ?_
  replace hk := omn2_some hk
  obtain ⟨hz0, hk⟩ := hk
  have hm0 : sh.1 ≤ sh.1 := Nat.le_refl _
  refine j_kn (k' := sh.1 - sh.1) (n' := 200 * (sh.1 - sh.1)) (Nat.sub_self _).symm (rb2 _) ?_
  refine j_aload_n (pc := 0) C dJ7_ensureCapacityInternal_0 rfl rfl ?_
  replace hk := ock_some hk
  obtain ⟨h1, hk⟩ := hk
  replace hk := orf_some hk
  obtain ⟨t1, et1, hk⟩ := hk
  refine x_getR (pc := 1) C fd_27_0 (fl1 C q699) h1 et1 dJ7_ensureCapacityInternal_1 ?_
  replace hk := oar_some hk
  obtain ⟨nh2, h2, hk⟩ := hk
  refine x_alen (pc := 4) C h2 (by decide) dJ7_ensureCapacityInternal_4 ?_
  refine j_aload_n (pc := 5) C dJ7_ensureCapacityInternal_5 rfl rfl ?_
  refine x_getI (pc := 6) C fd_27_1 (fl1 C q700) h1 dJ7_ensureCapacityInternal_6 ?_
  refine j_ishr (pc := 9) C dJ7_ensureCapacityInternal_9 ?_
  refine j_istore_n (pc := 10) C dJ7_ensureCapacityInternal_10 rfl (Nat.le_of_ble_eq_true rfl) rfl ?_
  refine j_iload_n (pc := 11) C dJ7_ensureCapacityInternal_11 rfl rfl ?_
  refine j_iload_n (pc := 12) C dJ7_ensureCapacityInternal_12 rfl rfl ?_
  refine j_isub (pc := 13) C dJ7_ensureCapacityInternal_13 ?_
  refine j_if_le (pc := 14) 38 C dJ7_ensureCapacityInternal_14 (by decide) (fun h3 => ?_) (fun h3 => ?_)
  · replace hk := it_t h3 hk
    obtain rfl := Option.some.inj hk
    exact j_vret (pc := 38) C dJ7_ensureCapacityInternal_38 (Nat.le_refl _) (Nat.le_refl _)
  · replace hk := it_f h3 hk
    refine j_aload_n (pc := 17) C dJ7_ensureCapacityInternal_17 rfl rfl ?_
    refine j_aload_n (pc := 18) C dJ7_ensureCapacityInternal_18 rfl rfl ?_
    replace hk := orf_some hk
    obtain ⟨t19, et19, hk⟩ := hk
    refine x_getR (pc := 19) C fd_27_0 (fl1 C q699) h1 et19 dJ7_ensureCapacityInternal_19 ?_
    refine j_aload_n (pc := 22) C dJ7_ensureCapacityInternal_22 rfl rfl ?_
    refine j_iload_n (pc := 23) C dJ7_ensureCapacityInternal_23 rfl rfl ?_
    cases hk
def f_J7_inflateIfNeededFor (sh : SH) (x0 : Nat) (x1 : Nat) (I : II) : Option Unit := if (nI 1) = 0 then some () else ock sh x0 27 <| ockS sh x1 <| (f_J9_coder sh x1 I).bind fun r11 => if (I x0 1) = r11 then some () else none
abbrev rm_J7_inflateIfNeededFor : Room := { frames := 1, cells := 0, slots := 0, locals := 20 }
theorem mv_J7_inflateIfNeededFor_ok : callOK yJ7_inflateIfNeededFor 1 := by decide +kernel
set_option maxHeartbeats 4000000 in
theorem ct_J7_inflateIfNeededFor {G : WG} {l : Launch} {sh : SH} {I : II} {x0 : Nat} {x1 : Nat} {Z : Unit} (hk : f_J7_inflateIfNeededFor sh x0 x1 I = some Z) : CT G l yJ7_inflateIfNeededFor (ws_ yJ7_inflateIfNeededFor cJ7_inflateIfNeededFor 2 none) rm_J7_inflateIfNeededFor [.ref (wad G x0), .ref (wad G x1)] (sh, I) (.returned none) (sh, I) := by
  refine CT.ofJ "java/lang/AbstractStringBuilder" rfl (by decide) (Nat.le_of_ble_eq_true rfl) ?_
  intro p e s m args below meth c C
  unfold f_J7_inflateIfNeededFor at hk
  refine j_lv (lv' := [some (.ref (wad G x0)), some (.ref (wad G x1))]) rfl ?_
  refine x_getsC (pc := 0) C q690 dJ7_inflateIfNeededFor_0 ?_
  refine j_if_eq (pc := 3) 21 C dJ7_inflateIfNeededFor_3 (by decide) (fun h1 => ?_) (fun h1 => ?_)
  · replace hk := it_t h1 hk
    obtain rfl := Option.some.inj hk
    exact j_vret (pc := 21) C dJ7_inflateIfNeededFor_21 (Nat.le_of_ble_eq_true rfl) (Nat.le_of_ble_eq_true rfl)
  · replace hk := it_f h1 hk
    refine j_aload_n (pc := 6) C dJ7_inflateIfNeededFor_6 rfl rfl ?_
    replace hk := ock_some hk
    obtain ⟨h2, hk⟩ := hk
    refine x_getI (pc := 7) C fd_27_1 (fl1 C q700) h2 dJ7_inflateIfNeededFor_7 ?_
    refine j_aload_n (pc := 10) C dJ7_inflateIfNeededFor_10 rfl rfl ?_
    replace hk := ockS_some hk
    obtain ⟨ch3, ch3h, h3, hk⟩ := hk
    replace hk := ob_some hk
    obtain ⟨r11, h4, hk⟩ := hk
    obtain ⟨cr11, hcr11, hcy11⟩ := famnmS ch3h
    refine x_callV (pc := 11) C (ct_J9_coder h4) mv_J9_coder h3 hcr11 hcy11 q813 dJ7_inflateIfNeededFor_11 rfl rfl (Nat.le_of_ble_eq_true rfl) rfl ?_
    refine j_icmp_eq (pc := 14) 21 C dJ7_inflateIfNeededFor_14 (by decide) (fun h5 => ?_) (fun h5 => ?_)
    · replace hk := it_t h5 hk
      obtain rfl := Option.some.inj hk
      exact j_vret (pc := 21) C dJ7_inflateIfNeededFor_21 (Nat.le_of_ble_eq_true rfl) (Nat.le_of_ble_eq_true rfl)
    · replace hk := it_f h5 hk
      refine j_aload_n (pc := 17) C dJ7_inflateIfNeededFor_17 rfl rfl ?_
      cases hk
def f_J9_getBytes (sh : SH) (x0 : Nat) (x1 : Nat) (x2 : Int32) (x3 : Int32) (I : II) : Option II := ockS sh x0 <| (f_J9_coder sh x0 I).bind fun r1 => if r1 = x3 then orf (sh.2.2 x0 0) fun t9 => orf (sh.2.2 x0 0) fun t18 => oar sh t18 101 fun nh5 => oar sh t9 101 fun nh6 => oarw sh x1 101 fun nh7 => og ((¬ (nI 0) < 0 ∧ ¬ (x2 <<< (x3 &&& 31)) < 0 ∧ ¬ (nI nh5) < 0) ∧ Int32.toNatClampNeg (nI 0) + Int32.toNatClampNeg (nI nh5) ≤ nh6 ∧ Int32.toNatClampNeg (x2 <<< (x3 &&& 31)) + Int32.toNatClampNeg (nI nh5) ≤ nh7) <| og (∀ i, i < Int32.toNatClampNeg (nI nh5) → Int8.toInt32 (Int32.toInt8 (I t9 (Int32.toNatClampNeg (nI 0) + i))) = I t9 (Int32.toNatClampNeg (nI 0) + i)) <| some (upr I x1 (va_cpy (I t9) (I x1) (Int32.toNatClampNeg (nI 0)) (Int32.toNatClampNeg (x2 <<< (x3 &&& 31))) (Int32.toNatClampNeg (nI nh5)))) else orf (sh.2.2 x0 0) fun t29 => orf (sh.2.2 x0 0) fun t36 => oar sh t36 101 fun nh4 => none
abbrev rm_J9_getBytes : Room := { frames := 1, cells := 0, slots := 0, locals := 60 }
theorem mv_J9_getBytes_ok : callOK yJ9_getBytes 3 := by decide +kernel
theorem mv_J9_getBytes : MV yJ9_getBytes cJ9_getBytes 4 none 3 := ⟨q834, q835, q117, q836, mv_J9_getBytes_ok⟩
set_option maxHeartbeats 4000000 in
theorem ct_J9_getBytes {G : WG} {l : Launch} {sh : SH} {I : II} {x0 : Nat} {x1 : Nat} {x2 : Int32} {x3 : Int32} {Z : II} (hk : f_J9_getBytes sh x0 x1 x2 x3 I = some Z) : CT G l yJ9_getBytes (ws_ yJ9_getBytes cJ9_getBytes 4 none) rm_J9_getBytes [.ref (wad G x0), .ref (wad G x1), .int x2, .int x3] (sh, I) (.returned none) (sh, Z) := by
  refine CT.ofJ "java/lang/String" rfl (by decide) (Nat.le_of_ble_eq_true rfl) ?_
  intro p e s m args below meth c C
  unfold f_J9_getBytes at hk
  refine j_lv (lv' := [some (.ref (wad G x0)), some (.ref (wad G x1)), some (.int x2), some (.int x3)]) rfl ?_
  refine j_aload_n (pc := 0) C dJ9_getBytes_0 rfl rfl ?_
  replace hk := ockS_some hk
  obtain ⟨ch1, ch1h, h1, hk⟩ := hk
  replace hk := ob_some hk
  obtain ⟨r1, h2, hk⟩ := hk
  obtain ⟨cr1, hcr1, hcy1⟩ := famnmS ch1h
  refine x_callV (pc := 1) C (ct_J9_coder h2) mv_J9_coder h1 hcr1 hcy1 q800 dJ9_getBytes_1 rfl rfl (Nat.le_of_ble_eq_true rfl) rfl ?_
  refine j_iload_n (pc := 4) C dJ9_getBytes_4 rfl rfl ?_
  refine j_icmp_ne (pc := 5) 28 C dJ9_getBytes_5 (by decide) (fun h3 => ?_) (fun h3 => ?_)
  · replace hk := it_f h3 hk
    refine j_aload_n (pc := 28) C dJ9_getBytes_28 rfl rfl ?_
    replace hk := orf_some hk
    obtain ⟨t29, et29, hk⟩ := hk
    refine x_getR (pc := 29) C (fdS_0 ch1h) (fl1 C q889) h1 et29 dJ9_getBytes_29 ?_
    refine j_iconst (pc := 32) (v := nI 0) C dJ9_getBytes_32 (by decide) ?_
    refine j_aload_n (pc := 33) C dJ9_getBytes_33 rfl rfl ?_
    refine j_iload_n (pc := 34) C dJ9_getBytes_34 rfl rfl ?_
    refine j_aload_n (pc := 35) C dJ9_getBytes_35 rfl rfl ?_
    replace hk := orf_some hk
    obtain ⟨t36, et36, hk⟩ := hk
    refine x_getR (pc := 36) C (fdS_0 ch1h) (fl1 C q889) h1 et36 dJ9_getBytes_36 ?_
    replace hk := oar_some hk
    obtain ⟨nh4, h4, hk⟩ := hk
    refine x_alen (pc := 39) C h4 (by decide) dJ9_getBytes_39 ?_
    cases hk
  · replace hk := it_t h3 hk
    refine j_aload_n (pc := 8) C dJ9_getBytes_8 rfl rfl ?_
    replace hk := orf_some hk
    obtain ⟨t9, et9, hk⟩ := hk
    refine x_getR (pc := 9) C (fdS_0 ch1h) (fl1 C q889) h1 et9 dJ9_getBytes_9 ?_
    refine j_iconst (pc := 12) (v := nI 0) C dJ9_getBytes_12 (by decide) ?_
    refine j_aload_n (pc := 13) C dJ9_getBytes_13 rfl rfl ?_
    refine j_iload_n (pc := 14) C dJ9_getBytes_14 rfl rfl ?_
    refine j_iload_n (pc := 15) C dJ9_getBytes_15 rfl rfl ?_
    refine j_ishl (pc := 16) C dJ9_getBytes_16 ?_
    refine j_aload_n (pc := 17) C dJ9_getBytes_17 rfl rfl ?_
    replace hk := orf_some hk
    obtain ⟨t18, et18, hk⟩ := hk
    refine x_getR (pc := 18) C (fdS_0 ch1h) (fl1 C q889) h1 et18 dJ9_getBytes_18 ?_
    replace hk := oar_some hk
    obtain ⟨nh5, h5, hk⟩ := hk
    refine x_alen (pc := 21) C h5 (by decide) dJ9_getBytes_21 ?_
    replace hk := oar_some hk
    obtain ⟨nh6, h6, hk⟩ := hk
    replace hk := oarw_some hk
    obtain ⟨nh7, h7, hk⟩ := hk
    replace hk := og_some hk
    obtain ⟨h8, hk⟩ := hk
    replace hk := og_some hk
    obtain ⟨h9, hk⟩ := hk
    refine x_copy (pc := 22) C (Or.inr ⟨rfl, rfl⟩) q837 q764 q763 q121 h6 h7 h8 (Or.inr h9) (Nat.le_of_ble_eq_true rfl) (Nat.le_of_ble_eq_true rfl) dJ9_getBytes_22 ?_
    refine j_goto (pc := 25) 43 C dJ9_getBytes_25 (by decide) ?_
    obtain rfl := Option.some.inj hk
    exact j_vret (pc := 43) C dJ9_getBytes_43 (Nat.le_of_ble_eq_true rfl) (Nat.le_of_ble_eq_true rfl)
def f_J7_putStringAt (sh : SH) (x0 : Nat) (x1 : Int32) (x2 : Nat) (I : II) : Option II := ock sh x0 27 <| (f_J7_inflateIfNeededFor sh x0 x2 I).bind fun _ => orf (sh.2.2 x0 0) fun t7 => ockS sh x2 <| (f_J9_getBytes sh x2 t7 x1 (I x0 1) I).bind fun I15 => some I15
abbrev rm_J7_putStringAt : Room := { frames := 2, cells := 0, slots := 0, locals := 83 }
theorem mv_J7_putStringAt_ok : callOK yJ7_putStringAt 2 := by decide +kernel
set_option maxHeartbeats 4000000 in
theorem ct_J7_putStringAt {G : WG} {l : Launch} {sh : SH} {I : II} {x0 : Nat} {x1 : Int32} {x2 : Nat} {Z : II} (hk : f_J7_putStringAt sh x0 x1 x2 I = some Z) : CT G l yJ7_putStringAt (ws_ yJ7_putStringAt cJ7_putStringAt 3 none) rm_J7_putStringAt [.ref (wad G x0), .int x1, .ref (wad G x2)] (sh, I) (.returned none) (sh, Z) := by
  refine CT.ofJ "java/lang/AbstractStringBuilder" rfl (by decide) (Nat.le_of_ble_eq_true rfl) ?_
  intro p e s m args below meth c C
  unfold f_J7_putStringAt at hk
  refine j_lv (lv' := [some (.ref (wad G x0)), some (.int x1), some (.ref (wad G x2))]) rfl ?_
  refine j_aload_n (pc := 0) C dJ7_putStringAt_0 rfl rfl ?_
  refine j_aload_n (pc := 1) C dJ7_putStringAt_1 rfl rfl ?_
  replace hk := ock_some hk
  obtain ⟨h1, hk⟩ := hk
  replace hk := ob_some hk
  obtain ⟨_u, h2, hk⟩ := hk
  refine x_callP (pc := 2) (x := ⟨"java/lang/AbstractStringBuilder", "getValue", "()[B"⟩) C (ct_J7_inflateIfNeededFor h2) h1 rfl q809 rfl q856 (by decide) q810 q2487 q811 q115 q812 (mv_J7_inflateIfNeededFor_ok) dJ7_putStringAt_2 rfl rfl (Nat.le_of_ble_eq_true rfl) rfl ?_
  refine j_aload_n (pc := 5) C dJ7_putStringAt_5 rfl rfl ?_
  refine j_aload_n (pc := 6) C dJ7_putStringAt_6 rfl rfl ?_
  replace hk := orf_some hk
  obtain ⟨t7, et7, hk⟩ := hk
  refine x_getR (pc := 7) C fd_27_0 (fl1 C q699) h1 et7 dJ7_putStringAt_7 ?_
  refine j_iload_n (pc := 10) C dJ7_putStringAt_10 rfl rfl ?_
  refine j_aload_n (pc := 11) C dJ7_putStringAt_11 rfl rfl ?_
  refine x_getI (pc := 12) C fd_27_1 (fl1 C q700) h1 dJ7_putStringAt_12 ?_
  replace hk := ockS_some hk
  obtain ⟨ch3, ch3h, h3, hk⟩ := hk
  replace hk := ob_some hk
  obtain ⟨I15, h4, hk⟩ := hk
  obtain ⟨cr15, hcr15, hcy15⟩ := famnmS ch3h
  refine x_callV (pc := 15) C (ct_J9_getBytes h4) mv_J9_getBytes h3 hcr15 hcy15 q833 dJ7_putStringAt_15 rfl rfl (Nat.le_of_ble_eq_true rfl) rfl ?_
  obtain rfl := Option.some.inj hk
  exact j_vret (pc := 18) C dJ7_putStringAt_18 (Nat.le_of_ble_eq_true rfl) (Nat.le_of_ble_eq_true rfl)
def f_J7_append (sh : SH) (x0 : Nat) (x1 : Nat) (I : II) : Option (Nat × SH × II) := omn3 sh <| if (some x1) = none then none else ockS sh x1 <| (f_J9_length sh x1 I).bind fun r10 => ock sh x0 27 <| bd2 (f_J7_ensureCapacityInternal sh x0 ((I x0 3) + r10) I) fun S21 I21 => og (sh.1 ≤ S21.1) <| omn3 S21 <| ock S21 x0 27 <| (f_J7_putStringAt S21 x0 (I21 x0 3) x1 I21).bind fun I30 => ockw S21 x0 27 <| some (x0, S21, up2 I30 x0 3 ((I30 x0 3) + r10))
abbrev rmf_J7_append : Nat := 3
abbrev rml_J7_append : Nat := 105
theorem mv_J7_append_ok : callOK yJ7_append 1 := by decide +kernel
set_option maxHeartbeats 4000000 in
theorem ct_J7_append {G : WG} {l : Launch} {sh : SH} {I : II} {x0 : Nat} {x1 : Nat} {Z : (Nat × SH × II)} (hk : f_J7_append sh x0 x1 I = some Z) : CT G l yJ7_append (ws_ yJ7_append cJ7_append 3 (some (.object "java/lang/AbstractStringBuilder"))) (rmA rmf_J7_append rml_J7_append (Z.2.1.1 - sh.1)) [.ref (wad G x0), .ref (wad G x1)] (sh, I) (.returned (some (.ref (wad G Z.1)))) Z.2 := by
  refine CT.ofJ "java/lang/AbstractStringBuilder" rfl (by decide) (Nat.le_of_ble_eq_true rfl) ?_
  intro p e s m args below meth c C
  unfold f_J7_append at hk
  refine j_lv (lv' := [some (.ref (wad G x0)), some (.ref (wad G x1)), none]) rfl ?_
  replace hk := omn3_some hk
  obtain ⟨hz0, hk⟩ := hk
  have hm0 : sh.1 ≤ sh.1 := Nat.le_refl _
  refine j_kn (k' := sh.1 - sh.1) (n' := 200 * (sh.1 - sh.1)) (Nat.sub_self _).symm (rb2 _) ?_
  refine j_aload_n (pc := 0) C dJ7_append_0 rfl rfl ?_
  refine x_ifnonnull (pc := 1) (o := (some x1)) 9 C dJ7_append_1 (by decide) (fun h1 => ?_) (fun h1 => ?_)
  · replace hk := it_f h1 hk
    refine j_aload_n (pc := 9) C dJ7_append_9 rfl rfl ?_
    replace hk := ockS_some hk
    obtain ⟨ch2, ch2h, h2, hk⟩ := hk
    replace hk := ob_some hk
    obtain ⟨r10, h3, hk⟩ := hk
    obtain ⟨cr10, hcr10, hcy10⟩ := famnmS ch2h
    refine x_callV (pc := 10) C (ct_J9_length h3) mv_J9_length h2 hcr10 hcy10 q796 dJ7_append_10 rfl rfl (Nat.le_of_ble_eq_true rfl) (rmOK.i (Nat.le_of_ble_eq_true rfl) (Nat.le_of_ble_eq_true rfl) (rz1 hm0 hz0) (rz2 hm0 hz0)) ?_
    refine j_istore_n (pc := 13) C dJ7_append_13 rfl (Nat.le_of_ble_eq_true rfl) rfl ?_
    refine j_aload_n (pc := 14) C dJ7_append_14 rfl rfl ?_
    refine j_aload_n (pc := 15) C dJ7_append_15 rfl rfl ?_
    replace hk := ock_some hk
    obtain ⟨h4, hk⟩ := hk
    refine x_getI (pc := 16) C fd_27_3 (fl1 C q702) h4 dJ7_append_16 ?_
    refine j_iload_n (pc := 19) C dJ7_append_19 rfl rfl ?_
    refine j_iadd (pc := 20) C dJ7_append_20 ?_
    replace hk := bd2_some hk
    obtain ⟨S21, I21, h5, hk⟩ := hk
    replace hk := og_some hk
    obtain ⟨h6, hk⟩ := hk
    replace hk := omn3_some hk
    obtain ⟨h7, hk⟩ := hk
    have h8 : sh.1 ≤ S21.1 := Nat.le_trans hm0 h6
    refine x_callP (pc := 21) (x := ⟨"java/lang/AbstractStringBuilder", "getValue", "()[B"⟩) C (ct_J7_ensureCapacityInternal h5) h4 rfl q732 rfl q856 (by decide) q733 q2484 q734 q115 q735 (mv_J7_ensureCapacityInternal_ok) dJ7_append_21 rfl rfl (Nat.le_of_ble_eq_true rfl) (rmOK.i (Nat.le_of_ble_eq_true rfl) (Nat.le_of_ble_eq_true rfl) (rm1 hm0 h6 h7) (rm2 hm0 h6 h7)) ?_
    refine j_kn (k' := S21.1 - sh.1) (n' := 200 * (S21.1 - sh.1)) (rk1 hm0 h6) (rk2 hm0 h6) ?_
    refine j_aload_n (pc := 24) C dJ7_append_24 rfl rfl ?_
    refine j_aload_n (pc := 25) C dJ7_append_25 rfl rfl ?_
    replace hk := ock_some hk
    obtain ⟨h9, hk⟩ := hk
    refine x_getI (pc := 26) C fd_27_3 (fl1 C q702) h9 dJ7_append_26 ?_
    refine j_aload_n (pc := 29) C dJ7_append_29 rfl rfl ?_
    replace hk := ob_some hk
    obtain ⟨I30, h10, hk⟩ := hk
    refine x_callP (pc := 30) (x := ⟨"java/lang/AbstractStringBuilder", "getValue", "()[B"⟩) C (ct_J7_putStringAt h10) h9 rfl q805 rfl q856 (by decide) q806 q2486 q807 q115 q808 (mv_J7_putStringAt_ok) dJ7_append_30 rfl rfl (Nat.le_of_ble_eq_true rfl) (rmOK.i (Nat.le_of_ble_eq_true rfl) (Nat.le_of_ble_eq_true rfl) (rz1 h8 h7) (rz2 h8 h7)) ?_
    refine j_aload_n (pc := 33) C dJ7_append_33 rfl rfl ?_
    refine j_dup (pc := 34) C dJ7_append_34 rfl ?_
    refine x_getI (pc := 35) C fd_27_3 (fl1 C q702) h9 dJ7_append_35 ?_
    refine j_iload_n (pc := 38) C dJ7_append_38 rfl rfl ?_
    refine j_iadd (pc := 39) C dJ7_append_39 ?_
    replace hk := ockw_some hk
    obtain ⟨h11, hk⟩ := hk
    refine x_putI (pc := 40) C fd_27_3 (fl1 C q702) h11 rfl rfl dJ7_append_40 ?_
    refine j_aload_n (pc := 43) C dJ7_append_43 rfl rfl ?_
    obtain rfl := Option.some.inj hk
    exact x_aret (pc := 44) C dJ7_append_44 (Nat.le_refl _) (Nat.le_refl _) rfl
  · replace hk := it_t h1 hk
    refine j_aload_n (pc := 4) C dJ7_append_4 rfl rfl ?_
    cases hk
def f_J8_append (sh : SH) (x0 : Nat) (x1 : Nat) (I : II) : Option (Nat × SH × II) := omn3 sh <| ock sh x0 27 <| bd3 (f_J7_append sh x0 x1 I) fun a2 S2 I2 => og (sh.1 ≤ S2.1) <| omn3 S2 <| some (x0, S2, I2)
abbrev rmf_J8_append : Nat := 4
abbrev rml_J8_append : Nat := 127
theorem mv_J8_append_ok : callOK yJ8_append 1 := by decide +kernel
theorem mv_J8_append : MV yJ8_append cJ8_append 2 (some (.object "java/lang/StringBuilder")) 1 := ⟨q722, q723, q116, q724, mv_J8_append_ok⟩
set_option maxHeartbeats 4000000 in
theorem ct_J8_append {G : WG} {l : Launch} {sh : SH} {I : II} {x0 : Nat} {x1 : Nat} {Z : (Nat × SH × II)} (hk : f_J8_append sh x0 x1 I = some Z) : CT G l yJ8_append (ws_ yJ8_append cJ8_append 2 (some (.object "java/lang/StringBuilder"))) (rmA rmf_J8_append rml_J8_append (Z.2.1.1 - sh.1)) [.ref (wad G x0), .ref (wad G x1)] (sh, I) (.returned (some (.ref (wad G Z.1)))) Z.2 := by
  refine CT.ofJ "java/lang/StringBuilder" rfl (by decide) (Nat.le_of_ble_eq_true rfl) ?_
  intro p e s m args below meth c C
  unfold f_J8_append at hk
  refine j_lv (lv' := [some (.ref (wad G x0)), some (.ref (wad G x1))]) rfl ?_
  replace hk := omn3_some hk
  obtain ⟨hz0, hk⟩ := hk
  have hm0 : sh.1 ≤ sh.1 := Nat.le_refl _
  refine j_kn (k' := sh.1 - sh.1) (n' := 200 * (sh.1 - sh.1)) (Nat.sub_self _).symm (rb2 _) ?_
  refine j_aload_n (pc := 0) C dJ8_append_0 rfl rfl ?_
  refine j_aload_n (pc := 1) C dJ8_append_1 rfl rfl ?_
  replace hk := ock_some hk
  obtain ⟨h1, hk⟩ := hk
  replace hk := bd3_some hk
  obtain ⟨a2, S2, I2, h2, hk⟩ := hk
  replace hk := og_some hk
  obtain ⟨h3, hk⟩ := hk
  replace hk := omn3_some hk
  obtain ⟨h4, hk⟩ := hk
  have h5 : sh.1 ≤ S2.1 := Nat.le_trans hm0 h3
  refine x_callSU (pc := 2) C (ct_J7_append h2) h1 rfl q725 q2482 q711 q726 q115 q727 (by decide) (mv_J7_append_ok) dJ8_append_2 rfl rfl (Nat.le_of_ble_eq_true rfl) (rmOK.i (Nat.le_of_ble_eq_true rfl) (Nat.le_of_ble_eq_true rfl) (rm1 hm0 h3 h4) (rm2 hm0 h3 h4)) ?_
  refine j_kn (k' := S2.1 - sh.1) (n' := 200 * (S2.1 - sh.1)) (rk1 hm0 h3) (rk2 hm0 h3) ?_
  refine j_pop (pc := 5) C dJ8_append_5 rfl ?_
  refine j_aload_n (pc := 6) C dJ8_append_6 rfl rfl ?_
  obtain rfl := Option.some.inj hk
  exact x_aret (pc := 7) C dJ8_append_7 (Nat.le_refl _) (Nat.le_refl _) rfl
def f_J7_getValue (sh : SH) (x0 : Nat) (I : II) : Option Nat := ock sh x0 27 <| orf (sh.2.2 x0 0) fun t1 => some t1
abbrev rm_J7_getValue : Room := { frames := 0, cells := 0, slots := 0, locals := 0 }
theorem mv_J7_getValue_ok : callOK yJ7_getValue 0 := by decide +kernel
set_option maxHeartbeats 4000000 in
theorem ct_J7_getValue {G : WG} {l : Launch} {sh : SH} {I : II} {x0 : Nat} {Z : Nat} (hk : f_J7_getValue sh x0 I = some Z) : CT G l yJ7_getValue (ws_ yJ7_getValue cJ7_getValue 1 (some (.array .byte))) rm_J7_getValue [.ref (wad G x0)] (sh, I) (.returned (some (.ref (wad G Z)))) (sh, I) := by
  refine CT.ofJ "java/lang/AbstractStringBuilder" rfl (by decide) (Nat.le_of_ble_eq_true rfl) ?_
  intro p e s m args below meth c C
  unfold f_J7_getValue at hk
  refine j_lv (lv' := [some (.ref (wad G x0))]) rfl ?_
  refine j_aload_n (pc := 0) C dJ7_getValue_0 rfl rfl ?_
  replace hk := ock_some hk
  obtain ⟨h1, hk⟩ := hk
  replace hk := orf_some hk
  obtain ⟨t1, et1, hk⟩ := hk
  refine x_getR (pc := 1) C fd_27_0 (fl1 C q699) h1 et1 dJ7_getValue_1 ?_
  obtain rfl := Option.some.inj hk
  exact x_aret (pc := 4) C dJ7_getValue_4 (Nat.le_of_ble_eq_true rfl) (Nat.le_of_ble_eq_true rfl) rfl
def f_J7_length (sh : SH) (x0 : Nat) (I : II) : Option Int32 := ock sh x0 27 <| some (I x0 3)
abbrev rm_J7_length : Room := { frames := 0, cells := 0, slots := 0, locals := 0 }
theorem mv_J7_length_ok : callOK yJ7_length 0 := by decide +kernel
set_option maxHeartbeats 4000000 in
theorem ct_J7_length {G : WG} {l : Launch} {sh : SH} {I : II} {x0 : Nat} {Z : Int32} (hk : f_J7_length sh x0 I = some Z) : CT G l yJ7_length (ws_ yJ7_length cJ7_length 1 (some .int)) rm_J7_length [.ref (wad G x0)] (sh, I) (.returned (some (.int Z))) (sh, I) := by
  refine CT.ofJ "java/lang/AbstractStringBuilder" rfl (by decide) (Nat.le_of_ble_eq_true rfl) ?_
  intro p e s m args below meth c C
  unfold f_J7_length at hk
  refine j_lv (lv' := [some (.ref (wad G x0))]) rfl ?_
  refine j_aload_n (pc := 0) C dJ7_length_0 rfl rfl ?_
  replace hk := ock_some hk
  obtain ⟨h1, hk⟩ := hk
  refine x_getI (pc := 1) C fd_27_3 (fl1 C q702) h1 dJ7_length_1 ?_
  obtain rfl := Option.some.inj hk
  exact j_iret (pc := 4) C dJ7_length_4 (Nat.le_of_ble_eq_true rfl) (Nat.le_of_ble_eq_true rfl)
def f_J8_length (sh : SH) (x0 : Nat) (I : II) : Option Int32 := ock sh x0 27 <| (f_J7_length sh x0 I).bind fun r1 => some r1
abbrev rm_J8_length : Room := { frames := 1, cells := 0, slots := 0, locals := 20 }
theorem mv_J8_length_ok : callOK yJ8_length 0 := by decide +kernel
set_option maxHeartbeats 4000000 in
theorem ct_J8_length {G : WG} {l : Launch} {sh : SH} {I : II} {x0 : Nat} {Z : Int32} (hk : f_J8_length sh x0 I = some Z) : CT G l yJ8_length (ws_ yJ8_length cJ8_length 1 (some .int)) rm_J8_length [.ref (wad G x0)] (sh, I) (.returned (some (.int Z))) (sh, I) := by
  refine CT.ofJ "java/lang/StringBuilder" rfl (by decide) (Nat.le_of_ble_eq_true rfl) ?_
  intro p e s m args below meth c C
  unfold f_J8_length at hk
  refine j_lv (lv' := [some (.ref (wad G x0))]) rfl ?_
  refine j_aload_n (pc := 0) C dJ8_length_0 rfl rfl ?_
  replace hk := ock_some hk
  obtain ⟨h1, hk⟩ := hk
  replace hk := ob_some hk
  obtain ⟨r1, h2, hk⟩ := hk
  refine x_callSU (pc := 1) C (ct_J7_length h2) h1 rfl q864 q860 q711 q859 q115 q865 (by decide) (mv_J7_length_ok) dJ8_length_1 rfl rfl (Nat.le_of_ble_eq_true rfl) rfl ?_
  obtain rfl := Option.some.inj hk
  exact j_iret (pc := 4) C dJ8_length_4 (Nat.le_of_ble_eq_true rfl) (Nat.le_of_ble_eq_true rfl)
