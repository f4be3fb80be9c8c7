/-! the class: walks -/
set_option maxRecDepth 100000
def f_X0_turnedChoice (x0 : Int32) : Option Int32 := if x0 = (nI 3) then some (nI 3) else some ((nI 3) - x0)
abbrev rm_X0_turnedChoice : Room := { frames := 0, cells := 0, slots := 0, locals := 0 }
theorem ms_X0_turnedChoice : MS yX0_turnedChoice cX0_turnedChoice 1 (some .int) 1 := ⟨q1207, q91, q1208, by decide +kernel⟩
set_option maxHeartbeats 4000000 in
theorem ct_X0_turnedChoice {G : WG} {l : Launch} {sh : SH} {I : II} {x0 : Int32} {Z : Int32} (hk : f_X0_turnedChoice x0 = some Z) : CT G l yX0_turnedChoice (ws_ yX0_turnedChoice cX0_turnedChoice 1 (some .int)) rm_X0_turnedChoice [.int x0] (sh, I) (.returned (some (.int Z))) (sh, I) := by
  refine CT.ofJ "NineDemands" rfl (by decide) (Nat.le_of_ble_eq_true rfl) ?_
  intro p e s m args below meth c C
  unfold f_X0_turnedChoice at hk
  refine j_lv (lv' := [some (.int x0)]) rfl ?_
  refine j_iload_n (pc := 0) C dX0_turnedChoice_0 rfl rfl ?_
  refine j_iconst (pc := 1) (v := nI 3) C dX0_turnedChoice_1 (by decide) ?_
  refine j_icmp_ne (pc := 2) 9 C dX0_turnedChoice_2 (by decide) (fun h1 => ?_) (fun h1 => ?_)
  · replace hk := it_f h1 hk
    refine j_iconst (pc := 9) (v := nI 3) C dX0_turnedChoice_9 (by decide) ?_
    refine j_iload_n (pc := 10) C dX0_turnedChoice_10 rfl rfl ?_
    refine j_isub (pc := 11) C dX0_turnedChoice_11 ?_
    obtain rfl := Option.some.inj hk
    exact j_iret (pc := 12) C dX0_turnedChoice_12 (Nat.le_of_ble_eq_true rfl) (Nat.le_of_ble_eq_true rfl)
  · replace hk := it_t h1 hk
    refine j_iconst (pc := 5) (v := nI 3) C dX0_turnedChoice_5 (by decide) ?_
    refine j_goto (pc := 6) 12 C dX0_turnedChoice_6 (by decide) ?_
    obtain rfl := Option.some.inj hk
    exact j_iret (pc := 12) C dX0_turnedChoice_12 (Nat.le_of_ble_eq_true rfl) (Nat.le_of_ble_eq_true rfl)
def f_X10_hasText (sh : SH) (x0 : Nat) (I : II) : Option Int32 := some (nI 1)
abbrev rm_X10_hasText : Room := { frames := 0, cells := 0, slots := 0, locals := 0 }
theorem mv_X10_hasText_ok : callOK yX10_hasText 0 := by decide +kernel
theorem mv_X10_hasText : MV yX10_hasText cX10_hasText 1 (some .boolean) 0 := ⟨q654, q655, q108, q671, mv_X10_hasText_ok⟩
set_option maxHeartbeats 4000000 in
theorem ct_X10_hasText {G : WG} {l : Launch} {sh : SH} (hS : stN sh) {I : II} {x0 : Nat} {Z : Int32} (hk : f_X10_hasText sh x0 I = some Z) : CT G l yX10_hasText (ws_ yX10_hasText cX10_hasText 1 (some .boolean)) rm_X10_hasText [.ref (wad G x0)] (sh, I) (.returned (some (.int Z))) (sh, I) := by
  refine CT.ofJ "NineDemands$Demand" rfl (by decide) (Nat.le_of_ble_eq_true rfl) ?_
  intro p e s m args below meth c C
  unfold f_X10_hasText at hk
  refine j_lv (lv' := [some (.ref (wad G x0))]) rfl ?_
  refine j_iconst (pc := 0) (v := nI 1) C dX10_hasText_0 (by decide) ?_
  obtain rfl := Option.some.inj hk
  exact j_zret (pc := 1) C dX10_hasText_1 (Nat.le_of_ble_eq_true rfl) (Nat.le_of_ble_eq_true rfl) (isB.nar (v := (nI 1)) (by unfold isB; decide))
def f_X12_hasText (sh : SH) (x0 : Nat) (I : II) : Option Int32 := some (nI 0)
abbrev rm_X12_hasText : Room := { frames := 0, cells := 0, slots := 0, locals := 0 }
theorem mv_X12_hasText_ok : callOK yX12_hasText 0 := by decide +kernel
set_option maxHeartbeats 4000000 in
theorem ct_X12_hasText {G : WG} {l : Launch} {sh : SH} (hS : stN sh) {I : II} {x0 : Nat} {Z : Int32} (hk : f_X12_hasText sh x0 I = some Z) : CT G l yX12_hasText (ws_ yX12_hasText cX12_hasText 1 (some .boolean)) rm_X12_hasText [.ref (wad G x0)] (sh, I) (.returned (some (.int Z))) (sh, I) := by
  refine CT.ofJ "NineDemands$Alike" rfl (by decide) (Nat.le_of_ble_eq_true rfl) ?_
  intro p e s m args below meth c C
  unfold f_X12_hasText at hk
  refine j_lv (lv' := [some (.ref (wad G x0))]) rfl ?_
  refine j_iconst (pc := 0) (v := nI 0) C dX12_hasText_0 (by decide) ?_
  obtain rfl := Option.some.inj hk
  exact j_zret (pc := 1) C dX12_hasText_1 (Nat.le_of_ble_eq_true rfl) (Nat.le_of_ble_eq_true rfl) (isB.nar (v := (nI 0)) (by unfold isB; decide))
def f_X13_hasText (sh : SH) (x0 : Nat) (I : II) : Option Int32 := ockD sh x0 <| (f_X10_hasText sh x0 I).bind fun r1 => if r1 = 0 then some (nI 1) else some (nI 0)
abbrev rm_X13_hasText : Room := { frames := 1, cells := 0, slots := 0, locals := 20 }
theorem mv_X13_hasText_ok : callOK yX13_hasText 0 := by decide +kernel
set_option maxHeartbeats 4000000 in
theorem ct_X13_hasText {G : WG} {l : Launch} {sh : SH} (hS : stN sh) {I : II} {x0 : Nat} {Z : Int32} (hk : f_X13_hasText sh x0 I = some Z) : CT G l yX13_hasText (ws_ yX13_hasText cX13_hasText 1 (some .boolean)) rm_X13_hasText [.ref (wad G x0)] (sh, I) (.returned (some (.int Z))) (sh, I) := by
  refine CT.ofJ "NineDemands$Turns" rfl (by decide) (Nat.le_of_ble_eq_true rfl) ?_
  intro p e s m args below meth c C
  unfold f_X13_hasText at hk
  refine j_lv (lv' := [some (.ref (wad G x0))]) rfl ?_
  refine j_aload_n (pc := 0) C dX13_hasText_0 rfl rfl ?_
  replace hk := ockD_some hk
  obtain ⟨ch1, ch1h, h1, hk⟩ := hk
  replace hk := ob_some hk
  obtain ⟨r1, h2, hk⟩ := hk
  obtain ⟨cr1, hcr1⟩ := famclD ch1h
  refine x_callS2 (pc := 1) (x := ⟨"NineDemands$Moved", "hasText", "()Z"⟩) C (ct_X10_hasText hS h2) h1 hcr1 ⟨rfl, rfl⟩ q668 q669 q615 q591 q654 q108 q671 (by decide) (mv_X10_hasText_ok) dX13_hasText_1 rfl rfl (Nat.le_of_ble_eq_true rfl) rfl ?_
  refine j_if_ne (pc := 4) 11 C dX13_hasText_4 (by decide) (fun h3 => ?_) (fun h3 => ?_)
  · replace hk := it_f h3 hk
    refine j_iconst (pc := 11) (v := nI 0) C dX13_hasText_11 (by decide) ?_
    obtain rfl := Option.some.inj hk
    exact j_zret (pc := 12) C dX13_hasText_12 (Nat.le_of_ble_eq_true rfl) (Nat.le_of_ble_eq_true rfl) (isB.nar (v := (nI 0)) (by unfold isB; decide))
  · replace hk := it_t h3 hk
    refine j_iconst (pc := 7) (v := nI 1) C dX13_hasText_7 (by decide) ?_
    refine j_goto (pc := 8) 12 C dX13_hasText_8 (by decide) ?_
    obtain rfl := Option.some.inj hk
    exact j_zret (pc := 12) C dX13_hasText_12 (Nat.le_of_ble_eq_true rfl) (Nat.le_of_ble_eq_true rfl) (isB.nar (v := (nI 1)) (by unfold isB; decide))
def f_X15_hasText (sh : SH) (x0 : Nat) (I : II) : Option Int32 := some (nI 0)
abbrev rm_X15_hasText : Room := { frames := 0, cells := 0, slots := 0, locals := 0 }
theorem mv_X15_hasText_ok : callOK yX15_hasText 0 := by decide +kernel
set_option maxHeartbeats 4000000 in
theorem ct_X15_hasText {G : WG} {l : Launch} {sh : SH} (hS : stN sh) {I : II} {x0 : Nat} {Z : Int32} (hk : f_X15_hasText sh x0 I = some Z) : CT G l yX15_hasText (ws_ yX15_hasText cX15_hasText 1 (some .boolean)) rm_X15_hasText [.ref (wad G x0)] (sh, I) (.returned (some (.int Z))) (sh, I) := by
  refine CT.ofJ "NineDemands$Single" rfl (by decide) (Nat.le_of_ble_eq_true rfl) ?_
  intro p e s m args below meth c C
  unfold f_X15_hasText at hk
  refine j_lv (lv' := [some (.ref (wad G x0))]) rfl ?_
  refine j_iconst (pc := 0) (v := nI 0) C dX15_hasText_0 (by decide) ?_
  obtain rfl := Option.some.inj hk
  exact j_zret (pc := 1) C dX15_hasText_1 (Nat.le_of_ble_eq_true rfl) (Nat.le_of_ble_eq_true rfl) (isB.nar (v := (nI 0)) (by unfold isB; decide))
def v_X10_hasText (sh : SH) (x0 : Nat) (I : II) : Option Int32 := og (x0 < sh.1 ∨ (exA ≤ x0 ∧ x0 < exA + exN)) <| if (sh.2.1 x0).1 = 11 then f_X10_hasText sh x0 I else if (sh.2.1 x0).1 = 12 then f_X10_hasText sh x0 I else if (sh.2.1 x0).1 = 13 then f_X12_hasText sh x0 I else if (sh.2.1 x0).1 = 14 then f_X13_hasText sh x0 I else if (sh.2.1 x0).1 = 15 then f_X10_hasText sh x0 I else if (sh.2.1 x0).1 = 16 then f_X15_hasText sh x0 I else none
set_option maxHeartbeats 4000000 in
theorem vc_X10_hasText {G : WG} {l : Launch} {sh : SH} (hS : stN sh) {I : II} {x0 : Nat} {Z : Int32} (hk : v_X10_hasText sh x0 I = some Z) : VC G l ⟨"NineDemands$Demand", "hasText", "()Z"⟩ x0 [] (sh, I) (some (.int Z)) (sh, I) 2 40 0 0 0 := by
  unfold v_X10_hasText at hk
  replace hk := og_some hk
  obtain ⟨hd9, hk⟩ := hk
  by_cases h0 : (sh.2.1 x0).1 = 11
  · replace hk := it_t h0 hk
    exact ⟨11, _, yX10_hasText, _, _, _, "NineDemands$Demand", _, ⟨hd9, h0⟩, rfl, ct_X10_hasText hS hk, q656, q655, q654, q108, q671, Or.inl ⟨q654, _, _, _, q671⟩, by decide +kernel, Nat.le_of_ble_eq_true rfl, Nat.le_of_ble_eq_true rfl, rfl, rfl⟩
  replace hk := it_f h0 hk
  by_cases h1 : (sh.2.1 x0).1 = 12
  · replace hk := it_t h1 hk
    exact ⟨12, _, yX10_hasText, _, _, _, "NineDemands$Demand", _, ⟨hd9, h1⟩, rfl, ct_X10_hasText hS hk, q656, q661, q654, q108, q671, Or.inl ⟨q654, _, _, _, q671⟩, by decide +kernel, Nat.le_of_ble_eq_true rfl, Nat.le_of_ble_eq_true rfl, rfl, rfl⟩
  replace hk := it_f h1 hk
  by_cases h2 : (sh.2.1 x0).1 = 13
  · replace hk := it_t h2 hk
    exact ⟨13, _, yX12_hasText, _, _, _, "NineDemands$Demand", _, ⟨hd9, h2⟩, rfl, ct_X12_hasText hS hk, q656, q657, q658, q110, q659, Or.inl ⟨q654, _, _, _, q671⟩, by decide +kernel, Nat.le_of_ble_eq_true rfl, Nat.le_of_ble_eq_true rfl, rfl, rfl⟩
  replace hk := it_f h2 hk
  by_cases h3 : (sh.2.1 x0).1 = 14
  · replace hk := it_t h3 hk
    exact ⟨14, _, yX13_hasText, _, _, _, "NineDemands$Demand", _, ⟨hd9, h3⟩, rfl, ct_X13_hasText hS hk, q656, q665, q666, q111, q667, Or.inl ⟨q654, _, _, _, q671⟩, by decide +kernel, Nat.le_of_ble_eq_true rfl, Nat.le_of_ble_eq_true rfl, rfl, rfl⟩
  replace hk := it_f h3 hk
  by_cases h4 : (sh.2.1 x0).1 = 15
  · replace hk := it_t h4 hk
    exact ⟨15, _, yX10_hasText, _, _, _, "NineDemands$Demand", _, ⟨hd9, h4⟩, rfl, ct_X10_hasText hS hk, q656, q660, q654, q108, q671, Or.inl ⟨q654, _, _, _, q671⟩, by decide +kernel, Nat.le_of_ble_eq_true rfl, Nat.le_of_ble_eq_true rfl, rfl, rfl⟩
  replace hk := it_f h4 hk
  by_cases h5 : (sh.2.1 x0).1 = 16
  · replace hk := it_t h5 hk
    exact ⟨16, _, yX15_hasText, _, _, _, "NineDemands$Demand", _, ⟨hd9, h5⟩, rfl, ct_X15_hasText hS hk, q656, q662, q663, q113, q664, Or.inl ⟨q654, _, _, _, q671⟩, by decide +kernel, Nat.le_of_ble_eq_true rfl, Nat.le_of_ble_eq_true rfl, rfl, rfl⟩
  replace hk := it_f h5 hk
  cases hk
def f_X23_init (sh : SH) (x0 : Nat) (I : II) : Option (SH × II) := omn2 sh <| onw sh <| omn2 (newS sh 100 36) <| ockw (newS sh 100 36) x0 23 <| onw (shR (newS sh 100 36) x0 0 (some ((sh).1))) <| omn2 (newS (shR (newS sh 100 36) x0 0 (some ((sh).1))) 100 36) <| ockw (newS (shR (newS sh 100 36) x0 0 (some ((sh).1))) 100 36) x0 23 <| onw (shR (newS (shR (newS sh 100 36) x0 0 (some ((sh).1))) 100 36) x0 1 (some (((shR (newS sh 100 36) x0 0 (some ((sh).1)))).1))) <| omn2 (newS (shR (newS (shR (newS sh 100 36) x0 0 (some ((sh).1))) 100 36) x0 1 (some (((shR (newS sh 100 36) x0 0 (some ((sh).1)))).1))) 100 36) <| ockw (newS (shR (newS (shR (newS sh 100 36) x0 0 (some ((sh).1))) 100 36) x0 1 (some (((shR (newS sh 100 36) x0 0 (some ((sh).1)))).1))) 100 36) x0 23 <| onw (shR (newS (shR (newS (shR (newS sh 100 36) x0 0 (some ((sh).1))) 100 36) x0 1 (some (((shR (newS sh 100 36) x0 0 (some ((sh).1)))).1))) 100 36) x0 2 (some (((shR (newS (shR (newS sh 100 36) x0 0 (some ((sh).1))) 100 36) x0 1 (some (((shR (newS sh 100 36) x0 0 (some ((sh).1)))).1)))).1))) <| omn2 (newS (shR (newS (shR (newS (shR (newS sh 100 36) x0 0 (some ((sh).1))) 100 36) x0 1 (some (((shR (newS sh 100 36) x0 0 (some ((sh).1)))).1))) 100 36) x0 2 (some (((shR (newS (shR (newS sh 100 36) x0 0 (some ((sh).1))) 100 36) x0 1 (some (((shR (newS sh 100 36) x0 0 (some ((sh).1)))).1)))).1))) 100 36) <| ockw (newS (shR (newS (shR (newS (shR (newS sh 100 36) x0 0 (some ((sh).1))) 100 36) x0 1 (some (((shR (newS sh 100 36) x0 0 (some ((sh).1)))).1))) 100 36) x0 2 (some (((shR (newS (shR (newS sh 100 36) x0 0 (some ((sh).1))) 100 36) x0 1 (some (((shR (newS sh 100 36) x0 0 (some ((sh).1)))).1)))).1))) 100 36) x0 23 <| some (shR (newS (shR (newS (shR (newS (shR (newS sh 100 36) x0 0 (some ((sh).1))) 100 36) x0 1 (some (((shR (newS sh 100 36) x0 0 (some ((sh).1)))).1))) 100 36) x0 2 (some (((shR (newS (shR (newS sh 100 36) x0 0 (some ((sh).1))) 100 36) x0 1 (some (((shR (newS sh 100 36) x0 0 (some ((sh).1)))).1)))).1))) 100 36) x0 3 (some (((shR (newS (shR (newS (shR (newS sh 100 36) x0 0 (some ((sh).1))) 100 36) x0 1 (some (((shR (newS sh 100 36) x0 0 (some ((sh).1)))).1))) 100 36) x0 2 (some (((shR (newS (shR (newS sh 100 36) x0 0 (some ((sh).1))) 100 36) x0 1 (some (((shR (newS sh 100 36) x0 0 (some ((sh).1)))).1)))).1)))).1)), newI (shR (newS (shR (newS (shR (newS sh 100 36) x0 0 (some ((sh).1))) 100 36) x0 1 (some (((shR (newS sh 100 36) x0 0 (some ((sh).1)))).1))) 100 36) x0 2 (some (((shR (newS (shR (newS sh 100 36) x0 0 (some ((sh).1))) 100 36) x0 1 (some (((shR (newS sh 100 36) x0 0 (some ((sh).1)))).1)))).1))) (newI (shR (newS (shR (newS sh 100 36) x0 0 (some ((sh).1))) 100 36) x0 1 (some (((shR (newS sh 100 36) x0 0 (some ((sh).1)))).1))) (newI (shR (newS sh 100 36) x0 0 (some ((sh).1))) (newI sh I))))
abbrev rmf_X23_init : Nat := 1
abbrev rml_X23_init : Nat := 30
theorem mi_X23_init : MI yX23_init cX23_init 1 0 := ⟨q1116, q131, q1117, rfl, by decide +kernel⟩
set_option maxHeartbeats 4000000 in
theorem ct_X23_init {G : WG} {l : Launch} {sh : SH} {I : II} {x0 : Nat} {Z : (SH × II)} (hk : f_X23_init sh x0 I = some Z) : CT G l yX23_init (ws_ yX23_init cX23_init 1 none) (rmA rmf_X23_init rml_X23_init (Z.1.1 - sh.1)) [.ref (wad G x0)] (sh, I) (.returned none) Z := by
  refine CT.ofJ "NineDemands$Cases" rfl (by decide) (Nat.le_of_ble_eq_true rfl) ?_
  intro p e s m args below meth c C
  unfold f_X23_init at hk
  refine j_lv (lv' := [some (.ref (wad G x0))]) rfl ?_
  replace hk := omn2_some hk
  obtain ⟨hz0, hk⟩ := hk
  have hm0 : sh.1 ≤ sh.1 := Nat.le_refl _
  refine j_kn (k' := sh.1 - sh.1) (n' := 200 * (sh.1 - sh.1)) (Nat.sub_self _).symm (rb2 _) ?_
  refine j_aload_n (pc := 0) C dX23_init_0 rfl rfl ?_
  refine x_objInit (pc := 1) C q1118 q144 q145 dX23_init_1 (Nat.le_of_ble_eq_true rfl) (Nat.le_of_ble_eq_true rfl) ?_
  refine j_aload_n (pc := 4) C dX23_init_4 rfl rfl ?_
  refine j_bipush (pc := 5) (v := nI 36) C dX23_init_5 (by decide) ?_
  replace hk := onw_some hk
  obtain ⟨h2, hk⟩ := hk
  replace hk := omn2_some hk
  obtain ⟨h3, hk⟩ := hk
  have h3 : sh.1 + 1 ≤ Z.1.1 := h3
  refine x_newaI (pc := 7) (at' := .int) (t := 100) (q := 36) (i := (nI 36)) C (Or.inl ⟨rfl, rfl⟩) q247 (by decide) (by decide) (by decide) h2 (ra1 hm0 h3) (ra2 hm0 h3 (by decide)) dX23_init_7 ?_
  have h4 : sh.1 ≤ sh.1 + 1 := Nat.le_succ_of_le hm0
  refine j_wid (k' := (newS sh 100 36).1 - sh.1) (n' := 200 * ((newS sh 100 36).1 - sh.1)) (rw1 hm0) (rw2 hm0 (by decide)) ?_
  replace hk := ockw_some hk
  obtain ⟨h5, hk⟩ := hk
  refine x_putNF (pc := 9) (o := (some ((sh).1))) C fd_23_0 q1119 h5 rfl dX23_init_9 ?_
  refine j_aload_n (pc := 12) C dX23_init_12 rfl rfl ?_
  refine j_bipush (pc := 13) (v := nI 36) C dX23_init_13 (by decide) ?_
  replace hk := onw_some hk
  obtain ⟨h7, hk⟩ := hk
  replace hk := omn2_some hk
  obtain ⟨h8, hk⟩ := hk
  have h8 : sh.1 + 1 + 1 ≤ Z.1.1 := h8
  refine x_newaI (pc := 15) (at' := .int) (t := 100) (q := 36) (i := (nI 36)) C (Or.inl ⟨rfl, rfl⟩) q247 (by decide) (by decide) (by decide) h7 (ra1 h4 h8) (ra2 h4 h8 (by decide)) dX23_init_15 ?_
  have h9 : sh.1 ≤ sh.1 + 1 + 1 := Nat.le_succ_of_le h4
  refine j_wid (k' := (newS (shR (newS sh 100 36) x0 0 (some ((sh).1))) 100 36).1 - sh.1) (n' := 200 * ((newS (shR (newS sh 100 36) x0 0 (some ((sh).1))) 100 36).1 - sh.1)) (rw1 h4) (rw2 h4 (by decide)) ?_
  replace hk := ockw_some hk
  obtain ⟨h10, hk⟩ := hk
  refine x_putNF (pc := 17) (o := (some (((shR (newS sh 100 36) x0 0 (some ((sh).1)))).1))) C fd_23_1 q1126 h10 rfl dX23_init_17 ?_
  refine j_aload_n (pc := 20) C dX23_init_20 rfl rfl ?_
  refine j_bipush (pc := 21) (v := nI 36) C dX23_init_21 (by decide) ?_
  replace hk := onw_some hk
  obtain ⟨h12, hk⟩ := hk
  replace hk := omn2_some hk
  obtain ⟨h13, hk⟩ := hk
  have h13 : sh.1 + 1 + 1 + 1 ≤ Z.1.1 := h13
  refine x_newaI (pc := 23) (at' := .int) (t := 100) (q := 36) (i := (nI 36)) C (Or.inl ⟨rfl, rfl⟩) q247 (by decide) (by decide) (by decide) h12 (ra1 h9 h13) (ra2 h9 h13 (by decide)) dX23_init_23 ?_
  have h14 : sh.1 ≤ sh.1 + 1 + 1 + 1 := Nat.le_succ_of_le h9
  refine j_wid (k' := (newS (shR (newS (shR (newS sh 100 36) x0 0 (some ((sh).1))) 100 36) x0 1 (some (((shR (newS sh 100 36) x0 0 (some ((sh).1)))).1))) 100 36).1 - sh.1) (n' := 200 * ((newS (shR (newS (shR (newS sh 100 36) x0 0 (some ((sh).1))) 100 36) x0 1 (some (((shR (newS sh 100 36) x0 0 (some ((sh).1)))).1))) 100 36).1 - sh.1)) (rw1 h9) (rw2 h9 (by decide)) ?_
  replace hk := ockw_some hk
  obtain ⟨h15, hk⟩ := hk
  refine x_putNF (pc := 25) (o := (some (((shR (newS (shR (newS sh 100 36) x0 0 (some ((sh).1))) 100 36) x0 1 (some (((shR (newS sh 100 36) x0 0 (some ((sh).1)))).1)))).1))) C fd_23_2 q1132 h15 rfl dX23_init_25 ?_
  refine j_aload_n (pc := 28) C dX23_init_28 rfl rfl ?_
  refine j_bipush (pc := 29) (v := nI 36) C dX23_init_29 (by decide) ?_
  replace hk := onw_some hk
  obtain ⟨h17, hk⟩ := hk
  replace hk := omn2_some hk
  obtain ⟨h18, hk⟩ := hk
  have h18 : sh.1 + 1 + 1 + 1 + 1 ≤ Z.1.1 := h18
  refine x_newaI (pc := 31) (at' := .int) (t := 100) (q := 36) (i := (nI 36)) C (Or.inl ⟨rfl, rfl⟩) q247 (by decide) (by decide) (by decide) h17 (ra1 h14 h18) (ra2 h14 h18 (by decide)) dX23_init_31 ?_
  have h19 : sh.1 ≤ sh.1 + 1 + 1 + 1 + 1 := Nat.le_succ_of_le h14
  refine j_wid (k' := (newS (shR (newS (shR (newS (shR (newS sh 100 36) x0 0 (some ((sh).1))) 100 36) x0 1 (some (((shR (newS sh 100 36) x0 0 (some ((sh).1)))).1))) 100 36) x0 2 (some (((shR (newS (shR (newS sh 100 36) x0 0 (some ((sh).1))) 100 36) x0 1 (some (((shR (newS sh 100 36) x0 0 (some ((sh).1)))).1)))).1))) 100 36).1 - sh.1) (n' := 200 * ((newS (shR (newS (shR (newS (shR (newS sh 100 36) x0 0 (some ((sh).1))) 100 36) x0 1 (some (((shR (newS sh 100 36) x0 0 (some ((sh).1)))).1))) 100 36) x0 2 (some (((shR (newS (shR (newS sh 100 36) x0 0 (some ((sh).1))) 100 36) x0 1 (some (((shR (newS sh 100 36) x0 0 (some ((sh).1)))).1)))).1))) 100 36).1 - sh.1)) (rw1 h14) (rw2 h14 (by decide)) ?_
  replace hk := ockw_some hk
  obtain ⟨h20, hk⟩ := hk
  refine x_putNF (pc := 33) (o := (some (((shR (newS (shR (newS (shR (newS sh 100 36) x0 0 (some ((sh).1))) 100 36) x0 1 (some (((shR (newS sh 100 36) x0 0 (some ((sh).1)))).1))) 100 36) x0 2 (some (((shR (newS (shR (newS sh 100 36) x0 0 (some ((sh).1))) 100 36) x0 1 (some (((shR (newS sh 100 36) x0 0 (some ((sh).1)))).1)))).1)))).1))) C fd_23_3 q1134 h20 rfl dX23_init_33 ?_
  obtain rfl := Option.some.inj hk
  exact j_vret (pc := 36) C dX23_init_36 (Nat.le_refl _) (Nat.le_refl _)
def f_X4_with (sh : SH) (x1 : Int32) (x2 : Int32) (I : II) : Option (Nat × II) := oix x1 128 fun i6 => some (9, up2 I 10 i6 x2)
abbrev rm_X4_with : Room := { frames := 0, cells := 0, slots := 0, locals := 0 }
theorem mv_X4_with_ok : callOK yX4_with 2 := by decide +kernel
theorem mv_X4_with : MV yX4_with cX4_with 3 (some (.object "NineDemands$Facts")) 2 := ⟨q1219, q1220, q101, q1221, mv_X4_with_ok⟩
set_option maxHeartbeats 4000000 in
theorem ct_X4_with {G : WG} {l : Launch} {sh : SH} (hS : stN sh) {I : II} {x1 : Int32} {x2 : Int32} {Z : (Nat × II)} (hk : f_X4_with sh x1 x2 I = some Z) : CT G l yX4_with (ws_ yX4_with cX4_with 3 (some (.object "NineDemands$Facts"))) rm_X4_with [.ref (wad G 9), .int x1, .int x2] (sh, I) (.returned (some (.ref (wad G Z.1)))) (sh, Z.2) := by
  refine CT.ofJ "NineDemands$Facts" rfl (by decide) (Nat.le_of_ble_eq_true rfl) ?_
  intro p e s m args below meth c C
  unfold f_X4_with at hk
  refine j_lv (lv' := [some (.ref (wad G 9)), some (.int x1), some (.int x2)]) rfl ?_
  refine j_aload_n (pc := 0) C dX4_with_0 rfl rfl ?_
  refine x_getR (pc := 1) C fd_5_0 (fl1 C q295) (stN_o9 hS).r (stN_r9_0 hS) dX4_with_1 ?_
  refine j_iload_n (pc := 4) C dX4_with_4 rfl rfl ?_
  refine j_iload_n (pc := 5) C dX4_with_5 rfl rfl ?_
  replace hk := oix_ex hk
  obtain ⟨i6, e6, h1, hk⟩ := hk
  refine j_iast (pc := 6) C (stN_a10 hS) h1 e6 dX4_with_6 ?_
  refine j_aload_n (pc := 7) C dX4_with_7 rfl rfl ?_
  obtain rfl := Option.some.inj hk
  exact x_aret (pc := 8) C dX4_with_8 (Nat.le_of_ble_eq_true rfl) (Nat.le_of_ble_eq_true rfl) rfl
def f_X10_tell (F : Nat) (sh : SH) (x0 : Nat) (x2 : Int32) (x3 : Int32) (x4 : Int32) (I : II) : Option II := ockD sh x0 <| orf (sh.2.2 x0 4) fun t1 => ock sh t1 23 <| orf (sh.2.2 t1 0) fun t4 => oarw sh t4 100 fun nh3 => oix x2 nh3 fun i8 => (f_X0_wanting F (I t4 i8) (nI 0)).bind fun r17 => bd2 (f_X4_with sh (nI 97) r17 I) fun a20 I20 => og (a20 = 9) <| (f_X0_wanting F (I t4 i8) (nI 1)).bind fun r28 => bd2 (f_X4_with sh (nI 98) r28 I20) fun a31 I31 => og (a31 = 9) <| bd2 (f_X4_with sh (nI 99) x3 I31) fun a37 I37 => og (a37 = 9) <| (f_X0_peopleOf (I t4 i8)).bind fun r44 => bd2 (f_X4_with sh (nI 115) r44 I37) fun a47 I47 => og (a47 = 9) <| (f_X0_wants (I t4 i8) (nI 0)).bind fun r57 => bd2 (f_X4_with sh (nI 112) r57 I47) fun a60 I60 => og (a60 = 9) <| (f_X0_wants (I t4 i8) (nI 1)).bind fun r68 => bd2 (f_X4_with sh (nI 113) r68 I60) fun a71 I71 => og (a71 = 9) <| (f_X0_wants (I t4 i8) (nI 2)).bind fun r79 => bd2 (f_X4_with sh (nI 114) r79 I71) fun a82 I82 => og (a82 = 9) <| some I82
abbrev rm_X10_tell : Room := { frames := 3, cells := 0, slots := 0, locals := 64 }
theorem mv_X10_tell_ok : callOK yX10_tell 4 := by decide +kernel
theorem mv_X10_tell : MV yX10_tell cX10_tell 6 none 4 := ⟨q1211, q1212, q108, q1232, mv_X10_tell_ok⟩
set_option maxHeartbeats 4000000 in
theorem ct_X10_tell {G : WG} {l : Launch} {sh : SH} (hS : stN sh) {I : II} {F : Nat} {x0 : Nat} {x2 : Int32} {x3 : Int32} {x4 : Int32} {Z : II} (hk : f_X10_tell F sh x0 x2 x3 x4 I = some Z) : CT G l yX10_tell (ws_ yX10_tell cX10_tell 6 none) rm_X10_tell [.ref (wad G x0), .ref (wad G 9), .int x2, .int x3, .int x4] (sh, I) (.returned none) (sh, Z) := by
  refine CT.ofJ "NineDemands$Demand" rfl (by decide) (Nat.le_of_ble_eq_true rfl) ?_
  intro p e s m args below meth c C
  unfold f_X10_tell at hk
  refine j_lv (lv' := [some (.ref (wad G x0)), some (.ref (wad G 9)), some (.int x2), some (.int x3), some (.int x4), none]) rfl ?_
  refine j_aload_n (pc := 0) C dX10_tell_0 rfl rfl ?_
  replace hk := ockD_some hk
  obtain ⟨ch1, ch1h, h1, hk⟩ := hk
  replace hk := orf_some hk
  obtain ⟨t1, et1, hk⟩ := hk
  refine x_getR (pc := 1) C (fdD_4 ch1h) (fl1 C q579) h1 et1 dX10_tell_1 ?_
  replace hk := ock_some hk
  obtain ⟨h2, hk⟩ := hk
  replace hk := orf_some hk
  obtain ⟨t4, et4, hk⟩ := hk
  refine x_getR (pc := 4) C fd_23_0 (fl3 C q1124) h2 et4 dX10_tell_4 ?_
  refine j_iload_n (pc := 7) C dX10_tell_7 rfl rfl ?_
  replace hk := oarw_some hk
  obtain ⟨nh3, h3, hk⟩ := hk
  replace hk := oix_ex hk
  obtain ⟨i8, e8, h4, hk⟩ := hk
  refine j_iald (pc := 8) C h3 h4 e8 dX10_tell_8 ?_
  refine j_istore (pc := 9) C dX10_tell_9 (Nat.le_of_ble_eq_true rfl) rfl ?_
  refine j_aload_n (pc := 11) C dX10_tell_11 rfl rfl ?_
  refine j_bipush (pc := 12) (v := nI 97) C dX10_tell_12 (by decide) ?_
  refine j_iload (pc := 14) C dX10_tell_14 rfl ?_
  refine j_iconst (pc := 16) (v := nI 0) C dX10_tell_16 (by decide) ?_
  replace hk := ob_some hk
  obtain ⟨r17, h5, hk⟩ := hk
  refine x_callSN (pc := 17) C (ct_X0_wanting h5) ms_X0_wanting q1233 dX10_tell_17 rfl rfl (Nat.le_of_ble_eq_true rfl) rfl ?_
  replace hk := bd2_some hk
  obtain ⟨a20, I20, h6, hk⟩ := hk
  refine x_callV (pc := 20) C (ct_X4_with hS h6) mv_X4_with (stN_o9 hS).r rfl rfl q1234 dX10_tell_20 rfl rfl (Nat.le_of_ble_eq_true rfl) rfl ?_
  replace hk := og_some hk
  obtain ⟨h7, hk⟩ := hk
  subst h7
  refine j_bipush (pc := 23) (v := nI 98) C dX10_tell_23 (by decide) ?_
  refine j_iload (pc := 25) C dX10_tell_25 rfl ?_
  refine j_iconst (pc := 27) (v := nI 1) C dX10_tell_27 (by decide) ?_
  replace hk := ob_some hk
  obtain ⟨r28, h8, hk⟩ := hk
  refine x_callSN (pc := 28) C (ct_X0_wanting h8) ms_X0_wanting q1233 dX10_tell_28 rfl rfl (Nat.le_of_ble_eq_true rfl) rfl ?_
  replace hk := bd2_some hk
  obtain ⟨a31, I31, h9, hk⟩ := hk
  refine x_callV (pc := 31) C (ct_X4_with hS h9) mv_X4_with (stN_o9 hS).r rfl rfl q1234 dX10_tell_31 rfl rfl (Nat.le_of_ble_eq_true rfl) rfl ?_
  replace hk := og_some hk
  obtain ⟨h10, hk⟩ := hk
  subst h10
  refine j_bipush (pc := 34) (v := nI 99) C dX10_tell_34 (by decide) ?_
  refine j_iload_n (pc := 36) C dX10_tell_36 rfl rfl ?_
  replace hk := bd2_some hk
  obtain ⟨a37, I37, h11, hk⟩ := hk
  refine x_callV (pc := 37) C (ct_X4_with hS h11) mv_X4_with (stN_o9 hS).r rfl rfl q1234 dX10_tell_37 rfl rfl (Nat.le_of_ble_eq_true rfl) rfl ?_
  replace hk := og_some hk
  obtain ⟨h12, hk⟩ := hk
  subst h12
  refine j_bipush (pc := 40) (v := nI 115) C dX10_tell_40 (by decide) ?_
  refine j_iload (pc := 42) C dX10_tell_42 rfl ?_
  replace hk := ob_some hk
  obtain ⟨r44, h13, hk⟩ := hk
  refine x_callSN (pc := 44) C (ct_X0_peopleOf h13) ms_X0_peopleOf q1235 dX10_tell_44 rfl rfl (Nat.le_of_ble_eq_true rfl) rfl ?_
  replace hk := bd2_some hk
  obtain ⟨a47, I47, h14, hk⟩ := hk
  refine x_callV (pc := 47) C (ct_X4_with hS h14) mv_X4_with (stN_o9 hS).r rfl rfl q1234 dX10_tell_47 rfl rfl (Nat.le_of_ble_eq_true rfl) rfl ?_
  replace hk := og_some hk
  obtain ⟨h15, hk⟩ := hk
  subst h15
  refine j_pop (pc := 50) C dX10_tell_50 rfl ?_
  refine j_aload_n (pc := 51) C dX10_tell_51 rfl rfl ?_
  refine j_bipush (pc := 52) (v := nI 112) C dX10_tell_52 (by decide) ?_
  refine j_iload (pc := 54) C dX10_tell_54 rfl ?_
  refine j_iconst (pc := 56) (v := nI 0) C dX10_tell_56 (by decide) ?_
  replace hk := ob_some hk
  obtain ⟨r57, h16, hk⟩ := hk
  refine x_callSN (pc := 57) C (ct_X0_wants h16) ms_X0_wants q1236 dX10_tell_57 rfl rfl (Nat.le_of_ble_eq_true rfl) rfl ?_
  replace hk := bd2_some hk
  obtain ⟨a60, I60, h17, hk⟩ := hk
  refine x_callV (pc := 60) C (ct_X4_with hS h17) mv_X4_with (stN_o9 hS).r rfl rfl q1234 dX10_tell_60 rfl rfl (Nat.le_of_ble_eq_true rfl) rfl ?_
  replace hk := og_some hk
  obtain ⟨h18, hk⟩ := hk
  subst h18
  refine j_bipush (pc := 63) (v := nI 113) C dX10_tell_63 (by decide) ?_
  refine j_iload (pc := 65) C dX10_tell_65 rfl ?_
  refine j_iconst (pc := 67) (v := nI 1) C dX10_tell_67 (by decide) ?_
  replace hk := ob_some hk
  obtain ⟨r68, h19, hk⟩ := hk
  refine x_callSN (pc := 68) C (ct_X0_wants h19) ms_X0_wants q1236 dX10_tell_68 rfl rfl (Nat.le_of_ble_eq_true rfl) rfl ?_
  replace hk := bd2_some hk
  obtain ⟨a71, I71, h20, hk⟩ := hk
  refine x_callV (pc := 71) C (ct_X4_with hS h20) mv_X4_with (stN_o9 hS).r rfl rfl q1234 dX10_tell_71 rfl rfl (Nat.le_of_ble_eq_true rfl) rfl ?_
  replace hk := og_some hk
  obtain ⟨h21, hk⟩ := hk
  subst h21
  refine j_bipush (pc := 74) (v := nI 114) C dX10_tell_74 (by decide) ?_
  refine j_iload (pc := 76) C dX10_tell_76 rfl ?_
  refine j_iconst (pc := 78) (v := nI 2) C dX10_tell_78 (by decide) ?_
  replace hk := ob_some hk
  obtain ⟨r79, h22, hk⟩ := hk
  refine x_callSN (pc := 79) C (ct_X0_wants h22) ms_X0_wants q1236 dX10_tell_79 rfl rfl (Nat.le_of_ble_eq_true rfl) rfl ?_
  replace hk := bd2_some hk
  obtain ⟨a82, I82, h23, hk⟩ := hk
  refine x_callV (pc := 82) C (ct_X4_with hS h23) mv_X4_with (stN_o9 hS).r rfl rfl q1234 dX10_tell_82 rfl rfl (Nat.le_of_ble_eq_true rfl) rfl ?_
  replace hk := og_some hk
  obtain ⟨h24, hk⟩ := hk
  subst h24
  refine j_pop (pc := 85) C dX10_tell_85 rfl ?_
  obtain rfl := Option.some.inj hk
  exact j_vret (pc := 86) C dX10_tell_86 (Nat.le_of_ble_eq_true rfl) (Nat.le_of_ble_eq_true rfl)
def f_X11_tell (F : Nat) (sh : SH) (x0 : Nat) (x2 : Int32) (x3 : Int32) (x4 : Int32) (I : II) : Option II := ockD sh x0 <| (f_X10_tell F sh x0 x2 x3 x4 I).bind fun I6 => bd2 (f_X4_with sh (nI 100) x4 I6) fun a14 I14 => og (a14 = 9) <| orf (sh.2.2 x0 4) fun t20 => ock sh t20 23 <| orf (sh.2.2 t20 2) fun t23 => oarw sh t23 100 fun nh6 => oix x2 nh6 fun i27 => bd2 (f_X4_with sh (nI 105) (I14 t23 i27) I14) fun a28 I28 => og (a28 = 9) <| orf (sh.2.2 x0 4) fun t34 => ock sh t34 23 <| orf (sh.2.2 t34 0) fun t37 => oarw sh t37 100 fun nh11 => oix x2 nh11 fun i41 => orf (sh.2.2 x0 4) fun t43 => ock sh t43 23 <| orf (sh.2.2 t43 2) fun t46 => oarw sh t46 100 fun nh14 => oix x2 nh14 fun i50 => (f_X0_wants (I28 t37 i41) (I28 t46 i50)).bind fun r51 => bd2 (f_X4_with sh (nI 119) r51 I28) fun a54 I54 => og (a54 = 9) <| some I54
abbrev rm_X11_tell : Room := { frames := 4, cells := 0, slots := 0, locals := 89 }
theorem mv_X11_tell_ok : callOK yX11_tell 4 := by decide +kernel
set_option maxHeartbeats 4000000 in
theorem ct_X11_tell {G : WG} {l : Launch} {sh : SH} (hS : stN sh) {I : II} {F : Nat} {x0 : Nat} {x2 : Int32} {x3 : Int32} {x4 : Int32} {Z : II} (hk : f_X11_tell F sh x0 x2 x3 x4 I = some Z) : CT G l yX11_tell (ws_ yX11_tell cX11_tell 5 none) rm_X11_tell [.ref (wad G x0), .ref (wad G 9), .int x2, .int x3, .int x4] (sh, I) (.returned none) (sh, Z) := by
  refine CT.ofJ "NineDemands$Moved" rfl (by decide) (Nat.le_of_ble_eq_true rfl) ?_
  intro p e s m args below meth c C
  unfold f_X11_tell at hk
  refine j_lv (lv' := [some (.ref (wad G x0)), some (.ref (wad G 9)), some (.int x2), some (.int x3), some (.int x4)]) rfl ?_
  refine j_aload_n (pc := 0) C dX11_tell_0 rfl rfl ?_
  refine j_aload_n (pc := 1) C dX11_tell_1 rfl rfl ?_
  refine j_iload_n (pc := 2) C dX11_tell_2 rfl rfl ?_
  refine j_iload_n (pc := 3) C dX11_tell_3 rfl rfl ?_
  refine j_iload (pc := 4) C dX11_tell_4 rfl ?_
  replace hk := ockD_some hk
  obtain ⟨ch1, ch1h, h1, hk⟩ := hk
  replace hk := ob_some hk
  obtain ⟨I6, h2, hk⟩ := hk
  obtain ⟨cr6, hcr6⟩ := famclD ch1h
  refine x_callSU (pc := 6) C (ct_X10_tell hS h2) h1 hcr6 q1217 q1213 q591 q1211 q108 q1232 (by decide) (mv_X10_tell_ok) dX11_tell_6 rfl rfl (Nat.le_of_ble_eq_true rfl) rfl ?_
  refine j_aload_n (pc := 9) C dX11_tell_9 rfl rfl ?_
  refine j_bipush (pc := 10) (v := nI 100) C dX11_tell_10 (by decide) ?_
  refine j_iload (pc := 12) C dX11_tell_12 rfl ?_
  replace hk := bd2_some hk
  obtain ⟨a14, I14, h3, hk⟩ := hk
  refine x_callV (pc := 14) C (ct_X4_with hS h3) mv_X4_with (stN_o9 hS).r rfl rfl q1218 dX11_tell_14 rfl rfl (Nat.le_of_ble_eq_true rfl) rfl ?_
  replace hk := og_some hk
  obtain ⟨h4, hk⟩ := hk
  subst h4
  refine j_bipush (pc := 17) (v := nI 105) C dX11_tell_17 (by decide) ?_
  refine j_aload_n (pc := 19) C dX11_tell_19 rfl rfl ?_
  replace hk := orf_some hk
  obtain ⟨t20, et20, hk⟩ := hk
  refine x_getR (pc := 20) C (fdD_4 ch1h) (fl2 C q577 q578) h1 et20 dX11_tell_20 ?_
  replace hk := ock_some hk
  obtain ⟨h5, hk⟩ := hk
  replace hk := orf_some hk
  obtain ⟨t23, et23, hk⟩ := hk
  refine x_getR (pc := 23) C fd_23_2 (fl3 C q1133) h5 et23 dX11_tell_23 ?_
  refine j_iload_n (pc := 26) C dX11_tell_26 rfl rfl ?_
  replace hk := oarw_some hk
  obtain ⟨nh6, h6, hk⟩ := hk
  replace hk := oix_ex hk
  obtain ⟨i27, e27, h7, hk⟩ := hk
  refine j_iald (pc := 27) C h6 h7 e27 dX11_tell_27 ?_
  replace hk := bd2_some hk
  obtain ⟨a28, I28, h8, hk⟩ := hk
  refine x_callV (pc := 28) C (ct_X4_with hS h8) mv_X4_with (stN_o9 hS).r rfl rfl q1218 dX11_tell_28 rfl rfl (Nat.le_of_ble_eq_true rfl) rfl ?_
  replace hk := og_some hk
  obtain ⟨h9, hk⟩ := hk
  subst h9
  refine j_bipush (pc := 31) (v := nI 119) C dX11_tell_31 (by decide) ?_
  refine j_aload_n (pc := 33) C dX11_tell_33 rfl rfl ?_
  replace hk := orf_some hk
  obtain ⟨t34, et34, hk⟩ := hk
  refine x_getR (pc := 34) C (fdD_4 ch1h) (fl2 C q577 q578) h1 et34 dX11_tell_34 ?_
  replace hk := ock_some hk
  obtain ⟨h10, hk⟩ := hk
  replace hk := orf_some hk
  obtain ⟨t37, et37, hk⟩ := hk
  refine x_getR (pc := 37) C fd_23_0 (fl3 C q1123) h10 et37 dX11_tell_37 ?_
  refine j_iload_n (pc := 40) C dX11_tell_40 rfl rfl ?_
  replace hk := oarw_some hk
  obtain ⟨nh11, h11, hk⟩ := hk
  replace hk := oix_ex hk
  obtain ⟨i41, e41, h12, hk⟩ := hk
  refine j_iald (pc := 41) C h11 h12 e41 dX11_tell_41 ?_
  refine j_aload_n (pc := 42) C dX11_tell_42 rfl rfl ?_
  replace hk := orf_some hk
  obtain ⟨t43, et43, hk⟩ := hk
  refine x_getR (pc := 43) C (fdD_4 ch1h) (fl2 C q577 q578) h1 et43 dX11_tell_43 ?_
  replace hk := ock_some hk
  obtain ⟨h13, hk⟩ := hk
  replace hk := orf_some hk
  obtain ⟨t46, et46, hk⟩ := hk
  refine x_getR (pc := 46) C fd_23_2 (fl3 C q1133) h13 et46 dX11_tell_46 ?_
  refine j_iload_n (pc := 49) C dX11_tell_49 rfl rfl ?_
  replace hk := oarw_some hk
  obtain ⟨nh14, h14, hk⟩ := hk
  replace hk := oix_ex hk
  obtain ⟨i50, e50, h15, hk⟩ := hk
  refine j_iald (pc := 50) C h14 h15 e50 dX11_tell_50 ?_
  replace hk := ob_some hk
  obtain ⟨r51, h16, hk⟩ := hk
  refine x_callSN (pc := 51) C (ct_X0_wants h16) ms_X0_wants q1222 dX11_tell_51 rfl rfl (Nat.le_of_ble_eq_true rfl) rfl ?_
  replace hk := bd2_some hk
  obtain ⟨a54, I54, h17, hk⟩ := hk
  refine x_callV (pc := 54) C (ct_X4_with hS h17) mv_X4_with (stN_o9 hS).r rfl rfl q1218 dX11_tell_54 rfl rfl (Nat.le_of_ble_eq_true rfl) rfl ?_
  replace hk := og_some hk
  obtain ⟨h18, hk⟩ := hk
  subst h18
  refine j_pop (pc := 57) C dX11_tell_57 rfl ?_
  obtain rfl := Option.some.inj hk
  exact j_vret (pc := 58) C dX11_tell_58 (Nat.le_of_ble_eq_true rfl) (Nat.le_of_ble_eq_true rfl)
def f_X14_tell (F : Nat) (sh : SH) (x0 : Nat) (x2 : Int32) (x3 : Int32) (x4 : Int32) (I : II) : Option II := ockD sh x0 <| (f_X11_tell F sh x0 x2 x3 x4 I).bind fun I6 => orf (sh.2.2 x0 4) fun t13 => ock sh t13 23 <| orf (sh.2.2 t13 1) fun t16 => oarw sh t16 100 fun nh4 => oix x2 nh4 fun i20 => (f_X0_wants (I6 t16 i20) (nI 2)).bind fun r22 => bd2 (f_X4_with sh (nI 119) r22 I6) fun a25 I25 => og (a25 = 9) <| some I25
abbrev rm_X14_tell : Room := { frames := 5, cells := 0, slots := 0, locals := 113 }
theorem mv_X14_tell_ok : callOK yX14_tell 4 := by decide +kernel
set_option maxHeartbeats 4000000 in
theorem ct_X14_tell {G : WG} {l : Launch} {sh : SH} (hS : stN sh) {I : II} {F : Nat} {x0 : Nat} {x2 : Int32} {x3 : Int32} {x4 : Int32} {Z : II} (hk : f_X14_tell F sh x0 x2 x3 x4 I = some Z) : CT G l yX14_tell (ws_ yX14_tell cX14_tell 5 none) rm_X14_tell [.ref (wad G x0), .ref (wad G 9), .int x2, .int x3, .int x4] (sh, I) (.returned none) (sh, Z) := by
  refine CT.ofJ "NineDemands$Comes" rfl (by decide) (Nat.le_of_ble_eq_true rfl) ?_
  intro p e s m args below meth c C
  unfold f_X14_tell at hk
  refine j_lv (lv' := [some (.ref (wad G x0)), some (.ref (wad G 9)), some (.int x2), some (.int x3), some (.int x4)]) rfl ?_
  refine j_aload_n (pc := 0) C dX14_tell_0 rfl rfl ?_
  refine j_aload_n (pc := 1) C dX14_tell_1 rfl rfl ?_
  refine j_iload_n (pc := 2) C dX14_tell_2 rfl rfl ?_
  refine j_iload_n (pc := 3) C dX14_tell_3 rfl rfl ?_
  refine j_iload (pc := 4) C dX14_tell_4 rfl ?_
  replace hk := ockD_some hk
  obtain ⟨ch1, ch1h, h1, hk⟩ := hk
  replace hk := ob_some hk
  obtain ⟨I6, h2, hk⟩ := hk
  obtain ⟨cr6, hcr6⟩ := famclD ch1h
  refine x_callSU (pc := 6) C (ct_X11_tell hS h2) h1 hcr6 q1226 q2489 q627 q1215 q109 q1216 (by decide) (mv_X11_tell_ok) dX14_tell_6 rfl rfl (Nat.le_of_ble_eq_true rfl) rfl ?_
  refine j_aload_n (pc := 9) C dX14_tell_9 rfl rfl ?_
  refine j_bipush (pc := 10) (v := nI 119) C dX14_tell_10 (by decide) ?_
  refine j_aload_n (pc := 12) C dX14_tell_12 rfl rfl ?_
  replace hk := orf_some hk
  obtain ⟨t13, et13, hk⟩ := hk
  refine x_getR (pc := 13) C (fdD_4 ch1h) (fl2 C q573 q574) h1 et13 dX14_tell_13 ?_
  replace hk := ock_some hk
  obtain ⟨h3, hk⟩ := hk
  replace hk := orf_some hk
  obtain ⟨t16, et16, hk⟩ := hk
  refine x_getR (pc := 16) C fd_23_1 (fl3 C q1130) h3 et16 dX14_tell_16 ?_
  refine j_iload_n (pc := 19) C dX14_tell_19 rfl rfl ?_
  replace hk := oarw_some hk
  obtain ⟨nh4, h4, hk⟩ := hk
  replace hk := oix_ex hk
  obtain ⟨i20, e20, h5, hk⟩ := hk
  refine j_iald (pc := 20) C h4 h5 e20 dX14_tell_20 ?_
  refine j_iconst (pc := 21) (v := nI 2) C dX14_tell_21 (by decide) ?_
  replace hk := ob_some hk
  obtain ⟨r22, h6, hk⟩ := hk
  refine x_callSN (pc := 22) C (ct_X0_wants h6) ms_X0_wants q1227 dX14_tell_22 rfl rfl (Nat.le_of_ble_eq_true rfl) rfl ?_
  replace hk := bd2_some hk
  obtain ⟨a25, I25, h7, hk⟩ := hk
  refine x_callV (pc := 25) C (ct_X4_with hS h7) mv_X4_with (stN_o9 hS).r rfl rfl q1228 dX14_tell_25 rfl rfl (Nat.le_of_ble_eq_true rfl) rfl ?_
  replace hk := og_some hk
  obtain ⟨h8, hk⟩ := hk
  subst h8
  refine j_pop (pc := 28) C dX14_tell_28 rfl ?_
  obtain rfl := Option.some.inj hk
  exact j_vret (pc := 29) C dX14_tell_29 (Nat.le_of_ble_eq_true rfl) (Nat.le_of_ble_eq_true rfl)
def v_X10_tell (F : Nat) (sh : SH) (x0 : Nat) (x2 : Int32) (x3 : Int32) (x4 : Int32) (I : II) : Option II := og (x0 < sh.1 ∨ (exA ≤ x0 ∧ x0 < exA + exN)) <| if (sh.2.1 x0).1 = 11 then f_X10_tell F sh x0 x2 x3 x4 I else if (sh.2.1 x0).1 = 12 then f_X11_tell F sh x0 x2 x3 x4 I else if (sh.2.1 x0).1 = 13 then f_X11_tell F sh x0 x2 x3 x4 I else if (sh.2.1 x0).1 = 14 then f_X11_tell F sh x0 x2 x3 x4 I else if (sh.2.1 x0).1 = 15 then f_X14_tell F sh x0 x2 x3 x4 I else if (sh.2.1 x0).1 = 16 then f_X10_tell F sh x0 x2 x3 x4 I else none
set_option maxHeartbeats 4000000 in
theorem vc_X10_tell {G : WG} {l : Launch} {sh : SH} (hS : stN sh) {I : II} {F : Nat} {x0 : Nat} {x2 : Int32} {x3 : Int32} {x4 : Int32} {Z : II} (hk : v_X10_tell F sh x0 x2 x3 x4 I = some Z) : VC G l ⟨"NineDemands$Demand", "tell", "(LNineDemands$Facts;III)V"⟩ x0 [.ref (wad G 9), .int x2, .int x3, .int x4] (sh, I) none (sh, Z) 6 137 0 0 4 := by
  unfold v_X10_tell at hk
  replace hk := og_some hk
  obtain ⟨hd9, hk⟩ := hk
  by_cases h0 : (sh.2.1 x0).1 = 11
  · replace hk := it_t h0 hk
    exact ⟨11, _, yX10_tell, _, _, _, "NineDemands$Demand", _, ⟨hd9, h0⟩, rfl, ct_X10_tell hS hk, q1213, q1212, q1211, q108, q1232, Or.inl ⟨q1211, _, _, _, q1232⟩, by decide +kernel, Nat.le_of_ble_eq_true rfl, Nat.le_of_ble_eq_true rfl, rfl, rfl⟩
  replace hk := it_f h0 hk
  by_cases h1 : (sh.2.1 x0).1 = 12
  · replace hk := it_t h1 hk
    exact ⟨12, _, yX11_tell, _, _, _, "NineDemands$Demand", _, ⟨hd9, h1⟩, rfl, ct_X11_tell hS hk, q1213, q1229, q1215, q109, q1216, Or.inl ⟨q1211, _, _, _, q1232⟩, by decide +kernel, Nat.le_of_ble_eq_true rfl, Nat.le_of_ble_eq_true rfl, rfl, rfl⟩
  replace hk := it_f h1 hk
  by_cases h2 : (sh.2.1 x0).1 = 13
  · replace hk := it_t h2 hk
    exact ⟨13, _, yX11_tell, _, _, _, "NineDemands$Demand", _, ⟨hd9, h2⟩, rfl, ct_X11_tell hS hk, q1213, q1214, q1215, q109, q1216, Or.inl ⟨q1211, _, _, _, q1232⟩, by decide +kernel, Nat.le_of_ble_eq_true rfl, Nat.le_of_ble_eq_true rfl, rfl, rfl⟩
  replace hk := it_f h2 hk
  by_cases h3 : (sh.2.1 x0).1 = 14
  · replace hk := it_t h3 hk
    exact ⟨14, _, yX11_tell, _, _, _, "NineDemands$Demand", _, ⟨hd9, h3⟩, rfl, ct_X11_tell hS hk, q1213, q1231, q1215, q109, q1216, Or.inl ⟨q1211, _, _, _, q1232⟩, by decide +kernel, Nat.le_of_ble_eq_true rfl, Nat.le_of_ble_eq_true rfl, rfl, rfl⟩
  replace hk := it_f h3 hk
  by_cases h4 : (sh.2.1 x0).1 = 15
  · replace hk := it_t h4 hk
    exact ⟨15, _, yX14_tell, _, _, _, "NineDemands$Demand", _, ⟨hd9, h4⟩, rfl, ct_X14_tell hS hk, q1213, q1223, q1224, q112, q1225, Or.inl ⟨q1211, _, _, _, q1232⟩, by decide +kernel, Nat.le_of_ble_eq_true rfl, Nat.le_of_ble_eq_true rfl, rfl, rfl⟩
  replace hk := it_f h4 hk
  by_cases h5 : (sh.2.1 x0).1 = 16
  · replace hk := it_t h5 hk
    exact ⟨16, _, yX10_tell, _, _, _, "NineDemands$Demand", _, ⟨hd9, h5⟩, rfl, ct_X10_tell hS hk, q1213, q1230, q1211, q108, q1232, Or.inl ⟨q1211, _, _, _, q1232⟩, by decide +kernel, Nat.le_of_ble_eq_true rfl, Nat.le_of_ble_eq_true rfl, rfl, rfl⟩
  replace hk := it_f h5 hk
  cases hk
def f_X21_value (sh : SH) (x0 : Nat) (I : II) : Option Int32 := ock sh x0 21 <| some (I x0 0)
abbrev rm_X21_value : Room := { frames := 0, cells := 0, slots := 0, locals := 0 }
theorem mv_X21_value_ok : callOK yX21_value 1 := by decide +kernel
set_option maxHeartbeats 4000000 in
theorem ct_X21_value {G : WG} {l : Launch} {sh : SH} (hS : stN sh) {I : II} {x0 : Nat} {Z : Int32} (hk : f_X21_value sh x0 I = some Z) : CT G l yX21_value (ws_ yX21_value cX21_value 2 (some .int)) rm_X21_value [.ref (wad G x0), .ref (wad G 9)] (sh, I) (.returned (some (.int Z))) (sh, I) := by
  refine CT.ofJ "NineDemands$Figure" rfl (by decide) (Nat.le_of_ble_eq_true rfl) ?_
  intro p e s m args below meth c C
  unfold f_X21_value at hk
  refine j_lv (lv' := [some (.ref (wad G x0)), some (.ref (wad G 9))]) rfl ?_
  refine j_aload_n (pc := 0) C dX21_value_0 rfl rfl ?_
  replace hk := ock_some hk
  obtain ⟨h1, hk⟩ := hk
  refine x_getI (pc := 1) C fd_21_0 (fl1 C q1078) h1 dX21_value_1 ?_
  obtain rfl := Option.some.inj hk
  exact j_iret (pc := 4) C dX21_value_4 (Nat.le_of_ble_eq_true rfl) (Nat.le_of_ble_eq_true rfl)
def f_X18_value (sh : SH) (x0 : Nat) (I : II) : Option Int32 := ock sh x0 18 <| oix (I x0 0) 128 fun i8 => some (I 10 i8)
abbrev rm_X18_value : Room := { frames := 0, cells := 0, slots := 0, locals := 0 }
theorem mv_X18_value_ok : callOK yX18_value 1 := by decide +kernel
set_option maxHeartbeats 4000000 in
theorem ct_X18_value {G : WG} {l : Launch} {sh : SH} (hS : stN sh) {I : II} {x0 : Nat} {Z : Int32} (hk : f_X18_value sh x0 I = some Z) : CT G l yX18_value (ws_ yX18_value cX18_value 2 (some .int)) rm_X18_value [.ref (wad G x0), .ref (wad G 9)] (sh, I) (.returned (some (.int Z))) (sh, I) := by
  refine CT.ofJ "NineDemands$Named" rfl (by decide) (Nat.le_of_ble_eq_true rfl) ?_
  intro p e s m args below meth c C
  unfold f_X18_value at hk
  refine j_lv (lv' := [some (.ref (wad G x0)), some (.ref (wad G 9))]) rfl ?_
  refine j_aload_n (pc := 0) C dX18_value_0 rfl rfl ?_
  refine x_getR (pc := 1) C fd_5_0 (fl3 C q296) (stN_o9 hS).r (stN_r9_0 hS) dX18_value_1 ?_
  refine j_aload_n (pc := 4) C dX18_value_4 rfl rfl ?_
  replace hk := ock_some hk
  obtain ⟨h1, hk⟩ := hk
  refine x_getI (pc := 5) C fd_18_0 (fl1 C q1028) h1 dX18_value_5 ?_
  replace hk := oix_ex hk
  obtain ⟨i8, e8, h2, hk⟩ := hk
  refine j_iald (pc := 8) C (stN_a10 hS) h2 e8 dX18_value_8 ?_
  obtain rfl := Option.some.inj hk
  exact j_iret (pc := 9) C dX18_value_9 (Nat.le_of_ble_eq_true rfl) (Nat.le_of_ble_eq_true rfl)
def f_X22_is (x0 : Int32) : Option Int32 := if x0 = 0 then some (nI 0) else some (nI 1)
abbrev rm_X22_is : Room := { frames := 0, cells := 0, slots := 0, locals := 0 }
theorem ms_X22_is : MS yX22_is cX22_is 1 (some .int) 1 := ⟨q1254, q130, q1255, by decide +kernel⟩
set_option maxHeartbeats 4000000 in
theorem ct_X22_is {G : WG} {l : Launch} {sh : SH} {I : II} {x0 : Int32} {Z : Int32} (hk : f_X22_is x0 = some Z) : CT G l yX22_is (ws_ yX22_is cX22_is 1 (some .int)) rm_X22_is [.int x0] (sh, I) (.returned (some (.int Z))) (sh, I) := by
  refine CT.ofJ "NineDemands$Two" rfl (by decide) (Nat.le_of_ble_eq_true rfl) ?_
  intro p e s m args below meth c C
  unfold f_X22_is at hk
  refine j_lv (lv' := [some (.int x0)]) rfl ?_
  refine j_iload_n (pc := 0) C dX22_is_0 rfl rfl ?_
  refine j_if_eq (pc := 1) 8 C dX22_is_1 (by decide) (fun h1 => ?_) (fun h1 => ?_)
  · replace hk := it_t h1 hk
    refine j_iconst (pc := 8) (v := nI 0) C dX22_is_8 (by decide) ?_
    obtain rfl := Option.some.inj hk
    exact j_iret (pc := 9) C dX22_is_9 (Nat.le_of_ble_eq_true rfl) (Nat.le_of_ble_eq_true rfl)
  · replace hk := it_f h1 hk
    refine j_iconst (pc := 4) (v := nI 1) C dX22_is_4 (by decide) ?_
    refine j_goto (pc := 5) 9 C dX22_is_5 (by decide) ?_
    obtain rfl := Option.some.inj hk
    exact j_iret (pc := 9) C dX22_is_9 (Nat.le_of_ble_eq_true rfl) (Nat.le_of_ble_eq_true rfl)
theorem mv_X20_value_ok : callOK yX20_value 1 := by decide +kernel
theorem mv_X22_value_ok : callOK yX22_value 1 := by decide +kernel
def fb_X17_value (c_X20_value : SH → Nat → II → Option Int32) (c_X22_value : SH → Nat → II → Option Int32) (sh : SH) (x0 : Nat) (I : II) : Option Int32 := og (x0 < sh.1 ∨ (exA ≤ x0 ∧ x0 < exA + exN)) <| if (sh.2.1 x0).1 = 18 then f_X18_value sh x0 I else if (sh.2.1 x0).1 = 20 then c_X20_value sh x0 I else if (sh.2.1 x0).1 = 21 then f_X21_value sh x0 I else if (sh.2.1 x0).1 = 22 then c_X22_value sh x0 I else none
set_option maxHeartbeats 4000000 in
theorem ctb_X17_value {G : WG} {l : Launch} {sh : SH} (hS : stN sh) {Rf Rl : Nat} {fc_X20_value lc_X20_value : Nat} {c_X20_value : SH → Nat → II → Option Int32} {fc_X22_value lc_X22_value : Nat} {c_X22_value : SH → Nat → II → Option Int32} (hc_X20_value : ∀ {x0 : Nat} {I : II} {Z : Int32}, c_X20_value sh x0 I = some Z → CT G l yX20_value (ws_ yX20_value cX20_value 2 (some .int)) (rmA fc_X20_value lc_X20_value 0) [.ref (wad G x0), .ref (wad G 9)] (sh, I) (.returned (some (.int Z))) (sh, I)) (hc_X22_value : ∀ {x0 : Nat} {I : II} {Z : Int32}, c_X22_value sh x0 I = some Z → CT G l yX22_value (ws_ yX22_value cX22_value 4 (some .int)) (rmA fc_X22_value lc_X22_value 0) [.ref (wad G x0), .ref (wad G 9)] (sh, I) (.returned (some (.int Z))) (sh, I)) (hr_X18_value : 0 + 1 ≤ Rf ∧ 8 + (2 + 11) + 0 ≤ Rl) (hr_X20_value : fc_X20_value + 1 ≤ Rf ∧ 8 + (2 + 11) + lc_X20_value ≤ Rl) (hr_X21_value : 0 + 1 ≤ Rf ∧ 8 + (2 + 11) + 0 ≤ Rl) (hr_X22_value : fc_X22_value + 1 ≤ Rf ∧ 8 + (4 + 11) + lc_X22_value ≤ Rl) {x0 : Nat} {I : II} {Z : Int32} (hk : fb_X17_value c_X20_value c_X22_value sh x0 I = some Z) : VC G l ⟨"NineDemands$Term", "value", "(LNineDemands$Facts;)I"⟩ x0 [.ref (wad G 9)] (sh, I) (some (.int Z)) (sh, I) Rf Rl 0 0 1 := by
  unfold fb_X17_value at hk
  replace hk := og_some hk
  obtain ⟨hd9, hk⟩ := hk
  by_cases h0 : (sh.2.1 x0).1 = 18
  · replace hk := it_t h0 hk
    exact ⟨18, _, yX18_value, _, _, _, "NineDemands$Term", _, ⟨hd9, h0⟩, rfl, ct_X18_value hS hk, q1239, q1243, q1244, q126, q1245, Or.inr q1238, by decide +kernel, hr_X18_value.1, hr_X18_value.2, rfl, rfl⟩
  replace hk := it_f h0 hk
  by_cases h1 : (sh.2.1 x0).1 = 20
  · replace hk := it_t h1 hk
    exact ⟨20, _, yX20_value, _, _, _, "NineDemands$Term", _, ⟨hd9, h1⟩, rfl, hc_X20_value hk, q1239, q1246, q1247, q128, q1248, Or.inr q1238, by decide +kernel, hr_X20_value.1, hr_X20_value.2, rfl, rfl⟩
  replace hk := it_f h1 hk
  by_cases h2 : (sh.2.1 x0).1 = 21
  · replace hk := it_t h2 hk
    exact ⟨21, _, yX21_value, _, _, _, "NineDemands$Term", _, ⟨hd9, h2⟩, rfl, ct_X21_value hS hk, q1239, q1240, q1241, q129, q1242, Or.inr q1238, by decide +kernel, hr_X21_value.1, hr_X21_value.2, rfl, rfl⟩
  replace hk := it_f h2 hk
  by_cases h3 : (sh.2.1 x0).1 = 22
  · replace hk := it_t h3 hk
    exact ⟨22, _, yX22_value, _, _, _, "NineDemands$Term", _, ⟨hd9, h3⟩, rfl, hc_X22_value hk, q1239, q1256, q1250, q130, q1251, Or.inr q1238, by decide +kernel, hr_X22_value.1, hr_X22_value.2, rfl, rfl⟩
  replace hk := it_f h3 hk
  cases hk
def fb_X20_value (c_X17_value : SH → Nat → II → Option Int32) (sh : SH) (x0 : Nat) (I : II) : Option Int32 := ock sh x0 20 <| orf (sh.2.2 x0 0) fun t1 => (c_X17_value sh t1 I).bind fun r5 => if r5 = 0 then some (nI 1) else some (nI 0)
set_option maxHeartbeats 4000000 in
theorem ctb_X20_value {G : WG} {l : Launch} {sh : SH} (hS : stN sh) {Rf Rl : Nat} {fc_X17_value lc_X17_value : Nat} {c_X17_value : SH → Nat → II → Option Int32} (hc_X17_value : ∀ {x0 : Nat} {I : II} {Z : Int32}, c_X17_value sh x0 I = some Z → VC G l ⟨"NineDemands$Term", "value", "(LNineDemands$Facts;)I"⟩ x0 [.ref (wad G 9)] (sh, I) (some (.int Z)) (sh, I) fc_X17_value lc_X17_value 0 0 1) (hr_X17_value : fc_X17_value ≤ Rf ∧ lc_X17_value ≤ Rl) {x0 : Nat} {I : II} {Z : Int32} (hk : fb_X20_value c_X17_value sh x0 I = some Z) : CT G l yX20_value (ws_ yX20_value cX20_value 2 (some .int)) (rmA Rf Rl 0) [.ref (wad G x0), .ref (wad G 9)] (sh, I) (.returned (some (.int Z))) (sh, I) := by
  refine CT.ofJ "NineDemands$Turned" rfl (by decide) (Nat.le_of_ble_eq_true rfl) ?_
  intro p e s m args below meth c C
  unfold fb_X20_value at hk
  refine j_lv (lv' := [some (.ref (wad G x0)), some (.ref (wad G 9))]) rfl ?_
  refine j_aload_n (pc := 0) C dX20_value_0 rfl rfl ?_
  replace hk := ock_some hk
  obtain ⟨h1, hk⟩ := hk
  replace hk := orf_some hk
  obtain ⟨t1, et1, hk⟩ := hk
  refine x_getR (pc := 1) C fd_20_0 (fl1 C q1066) h1 et1 dX20_value_1 ?_
  refine j_aload_n (pc := 4) C dX20_value_4 rfl rfl ?_
  replace hk := ob_some hk
  obtain ⟨r5, h2, hk⟩ := hk
  refine x_callX (pc := 5) C (hc_X17_value h2) q1249 dX20_value_5 rfl rfl (Nat.le_of_ble_eq_true rfl) hr_X17_value.1 hr_X17_value.2 (Nat.zero_le _) (Nat.zero_le _) ?_
  refine j_if_ne (pc := 8) 15 C dX20_value_8 (by decide) (fun h3 => ?_) (fun h3 => ?_)
  · replace hk := it_f h3 hk
    refine j_iconst (pc := 15) (v := nI 0) C dX20_value_15 (by decide) ?_
    obtain rfl := Option.some.inj hk
    exact j_iret (pc := 16) C dX20_value_16 (Nat.zero_le _) (Nat.zero_le _)
  · replace hk := it_t h3 hk
    refine j_iconst (pc := 11) (v := nI 1) C dX20_value_11 (by decide) ?_
    refine j_goto (pc := 12) 16 C dX20_value_12 (by decide) ?_
    obtain rfl := Option.some.inj hk
    exact j_iret (pc := 16) C dX20_value_16 (Nat.zero_le _) (Nat.zero_le _)
def f_X22_value_J230 (c_X17_value : SH → Nat → II → Option Int32) (sh : SH) (I : II) : Option Int32 := (f_X22_is (nI 0)).bind fun r231 => some r231
def f_X22_value_J243 (c_X17_value : SH → Nat → II → Option Int32) (sh : SH) (I : II) : Option Int32 := (f_X22_is (nI 1)).bind fun r248 => some r248
def fb_X22_value (c_X17_value : SH → Nat → II → Option Int32) (sh : SH) (x0 : Nat) (I : II) : Option Int32 := ock sh x0 22 <| orf (sh.2.2 x0 1) fun t1 => (c_X17_value sh t1 I).bind fun r5 => orf (sh.2.2 x0 2) fun t10 => (c_X17_value sh t10 I).bind fun r14 => if (I x0 0) = nI 37 then if r14 = 0 then some (nI 0) else og (¬ r14 = 0) <| some (r5 - r5 / r14 * r14) else if (I x0 0) = nI 38 then if r5 = 0 then f_X22_value_J230 c_X17_value sh I else if r14 = 0 then f_X22_value_J230 c_X17_value sh I else (f_X22_is (nI 1)).bind fun r231 => some r231 else if (I x0 0) = nI 39 then if r5 = 0 then if r14 = 0 then (f_X22_is (nI 0)).bind fun r248 => some r248 else f_X22_value_J243 c_X17_value sh I else f_X22_value_J243 c_X17_value sh I else if (I x0 0) = nI 40 then if r5 = 0 then if r14 = 0 then (f_X22_is (nI 0)).bind fun r248 => some r248 else f_X22_value_J243 c_X17_value sh I else f_X22_value_J243 c_X17_value sh I else if (I x0 0) = nI 41 then if r5 = 0 then if r14 = 0 then (f_X22_is (nI 0)).bind fun r248 => some r248 else f_X22_value_J243 c_X17_value sh I else f_X22_value_J243 c_X17_value sh I else if (I x0 0) = nI 42 then some (r5 * r14) else if (I x0 0) = nI 43 then some (r5 + r14) else if (I x0 0) = nI 44 then if r5 = 0 then if r14 = 0 then (f_X22_is (nI 0)).bind fun r248 => some r248 else f_X22_value_J243 c_X17_value sh I else f_X22_value_J243 c_X17_value sh I else if (I x0 0) = nI 45 then some (r5 - r14) else if (I x0 0) = nI 46 then if r5 = 0 then if r14 = 0 then (f_X22_is (nI 0)).bind fun r248 => some r248 else f_X22_value_J243 c_X17_value sh I else f_X22_value_J243 c_X17_value sh I else if (I x0 0) = nI 47 then if r14 = 0 then some (nI 0) else og (¬ r14 = 0) <| some (r5 / r14) else if (I x0 0) = nI 48 then if r5 = 0 then if r14 = 0 then (f_X22_is (nI 0)).bind fun r248 => some r248 else f_X22_value_J243 c_X17_value sh I else f_X22_value_J243 c_X17_value sh I else if (I x0 0) = nI 49 then if r5 = 0 then if r14 = 0 then (f_X22_is (nI 0)).bind fun r248 => some r248 else f_X22_value_J243 c_X17_value sh I else f_X22_value_J243 c_X17_value sh I else if (I x0 0) = nI 50 then if r5 = 0 then if r14 = 0 then (f_X22_is (nI 0)).bind fun r248 => some r248 else f_X22_value_J243 c_X17_value sh I else f_X22_value_J243 c_X17_value sh I else if (I x0 0) = nI 51 then if r5 = 0 then if r14 = 0 then (f_X22_is (nI 0)).bind fun r248 => some r248 else f_X22_value_J243 c_X17_value sh I else f_X22_value_J243 c_X17_value sh I else if (I x0 0) = nI 52 then if r5 = 0 then if r14 = 0 then (f_X22_is (nI 0)).bind fun r248 => some r248 else f_X22_value_J243 c_X17_value sh I else f_X22_value_J243 c_X17_value sh I else if (I x0 0) = nI 53 then if r5 = 0 then if r14 = 0 then (f_X22_is (nI 0)).bind fun r248 => some r248 else f_X22_value_J243 c_X17_value sh I else f_X22_value_J243 c_X17_value sh I else if (I x0 0) = nI 54 then if r5 = 0 then if r14 = 0 then (f_X22_is (nI 0)).bind fun r248 => some r248 else f_X22_value_J243 c_X17_value sh I else f_X22_value_J243 c_X17_value sh I else if (I x0 0) = nI 55 then if r5 = 0 then if r14 = 0 then (f_X22_is (nI 0)).bind fun r248 => some r248 else f_X22_value_J243 c_X17_value sh I else f_X22_value_J243 c_X17_value sh I else if (I x0 0) = nI 56 then if r5 = 0 then if r14 = 0 then (f_X22_is (nI 0)).bind fun r248 => some r248 else f_X22_value_J243 c_X17_value sh I else f_X22_value_J243 c_X17_value sh I else if (I x0 0) = nI 57 then if r5 = 0 then if r14 = 0 then (f_X22_is (nI 0)).bind fun r248 => some r248 else f_X22_value_J243 c_X17_value sh I else f_X22_value_J243 c_X17_value sh I else if (I x0 0) = nI 58 then if r5 = 0 then if r14 = 0 then (f_X22_is (nI 0)).bind fun r248 => some r248 else f_X22_value_J243 c_X17_value sh I else f_X22_value_J243 c_X17_value sh I else if (I x0 0) = nI 59 then if r5 = 0 then if r14 = 0 then (f_X22_is (nI 0)).bind fun r248 => some r248 else f_X22_value_J243 c_X17_value sh I else f_X22_value_J243 c_X17_value sh I else if (I x0 0) = nI 60 then if r14 ≤ r5 then (f_X22_is (nI 0)).bind fun r186 => some r186 else (f_X22_is (nI 1)).bind fun r186 => some r186 else if (I x0 0) = nI 61 then if r5 = r14 then (f_X22_is (nI 1)).bind fun r200 => some r200 else (f_X22_is (nI 0)).bind fun r200 => some r200 else if (I x0 0) = nI 62 then if r5 ≤ r14 then (f_X22_is (nI 0)).bind fun r214 => some r214 else (f_X22_is (nI 1)).bind fun r214 => some r214 else if r5 = 0 then if r14 = 0 then (f_X22_is (nI 0)).bind fun r248 => some r248 else f_X22_value_J243 c_X17_value sh I else f_X22_value_J243 c_X17_value sh I
set_option maxHeartbeats 4000000 in
theorem ctb_X22_value {G : WG} {l : Launch} {sh : SH} (hS : stN sh) {Rf Rl : Nat} {fc_X17_value lc_X17_value : Nat} {c_X17_value : SH → Nat → II → Option Int32} (hc_X17_value : ∀ {x0 : Nat} {I : II} {Z : Int32}, c_X17_value sh x0 I = some Z → VC G l ⟨"NineDemands$Term", "value", "(LNineDemands$Facts;)I"⟩ x0 [.ref (wad G 9)] (sh, I) (some (.int Z)) (sh, I) fc_X17_value lc_X17_value 0 0 1) (hr_X17_value : fc_X17_value ≤ Rf ∧ lc_X17_value ≤ Rl) (hr_X22_is : 0 + 1 ≤ Rf ∧ 8 + (1 + 11) + 0 ≤ Rl) {x0 : Nat} {I : II} {Z : Int32} (hk : fb_X22_value c_X17_value sh x0 I = some Z) : CT G l yX22_value (ws_ yX22_value cX22_value 4 (some .int)) (rmA Rf Rl 0) [.ref (wad G x0), .ref (wad G 9)] (sh, I) (.returned (some (.int Z))) (sh, I) := by
  refine CT.ofJ "NineDemands$Two" rfl (by decide) (Nat.le_of_ble_eq_true rfl) ?_
  intro p e s m args below meth c C
  unfold fb_X22_value at hk
  refine j_lv (lv' := [some (.ref (wad G x0)), some (.ref (wad G 9)), none, none]) rfl ?_
  refine j_aload_n (pc := 0) C dX22_value_0 rfl rfl ?_
  replace hk := ock_some hk
  obtain ⟨h1, hk⟩ := hk
  replace hk := orf_some hk
  obtain ⟨t1, et1, hk⟩ := hk
  refine x_getR (pc := 1) C fd_22_1 (fl1 C q1090) h1 et1 dX22_value_1 ?_
  refine j_aload_n (pc := 4) C dX22_value_4 rfl rfl ?_
  replace hk := ob_some hk
  obtain ⟨r5, h2, hk⟩ := hk
  refine x_callX (pc := 5) C (hc_X17_value h2) q1252 dX22_value_5 rfl rfl (Nat.le_of_ble_eq_true rfl) hr_X17_value.1 hr_X17_value.2 (Nat.zero_le _) (Nat.zero_le _) ?_
  refine j_istore_n (pc := 8) C dX22_value_8 rfl (Nat.le_of_ble_eq_true rfl) rfl ?_
  refine j_aload_n (pc := 9) C dX22_value_9 rfl rfl ?_
  replace hk := orf_some hk
  obtain ⟨t10, et10, hk⟩ := hk
  refine x_getR (pc := 10) C fd_22_2 (fl1 C q1091) h1 et10 dX22_value_10 ?_
  refine j_aload_n (pc := 13) C dX22_value_13 rfl rfl ?_
  replace hk := ob_some hk
  obtain ⟨r14, h3, hk⟩ := hk
  refine x_callX (pc := 14) C (hc_X17_value h3) q1252 dX22_value_14 rfl rfl (Nat.le_of_ble_eq_true rfl) hr_X17_value.1 hr_X17_value.2 (Nat.zero_le _) (Nat.zero_le _) ?_
  refine j_istore_n (pc := 17) C dX22_value_17 rfl (Nat.le_of_ble_eq_true rfl) rfl ?_
  refine j_aload_n (pc := 18) C dX22_value_18 rfl rfl ?_
  refine x_getI (pc := 19) C fd_22_0 (fl1 C q1089) h1 dX22_value_19 ?_
  by_cases h4 : (I x0 0) = nI 37
  · replace hk := it_t h4 hk
    refine j_tableIn (pc := 22) 164 37 C dX22_value_22 (sw_in h4 (by decide)) (by decide) (by decide) rfl (by decide) ?_
    refine j_iload_n (pc := 164) C dX22_value_164 rfl rfl ?_
    refine j_if_ne (pc := 165) 172 C dX22_value_165 (by decide) (fun h5 => ?_) (fun h5 => ?_)
    · replace hk := it_f h5 hk
      refine j_iload_n (pc := 172) C dX22_value_172 rfl rfl ?_
      refine j_iload_n (pc := 173) C dX22_value_173 rfl rfl ?_
      replace hk := og_some hk
      obtain ⟨h6, hk⟩ := hk
      refine j_irem (pc := 174) C dX22_value_174 h6 ?_
      obtain rfl := Option.some.inj hk
      exact j_iret (pc := 175) C dX22_value_175 (Nat.zero_le _) (Nat.zero_le _)
    · replace hk := it_t h5 hk
      refine j_iconst (pc := 168) (v := nI 0) C dX22_value_168 (by decide) ?_
      refine j_goto (pc := 169) 175 C dX22_value_169 (by decide) ?_
      obtain rfl := Option.some.inj hk
      exact j_iret (pc := 175) C dX22_value_175 (Nat.zero_le _) (Nat.zero_le _)
  replace hk := it_f h4 hk
  by_cases h7 : (I x0 0) = nI 38
  · replace hk := it_t h7 hk
    refine j_tableIn (pc := 22) 218 38 C dX22_value_22 (sw_in h7 (by decide)) (by decide) (by decide) rfl (by decide) ?_
    refine j_iload_n (pc := 218) C dX22_value_218 rfl rfl ?_
    have Jn230 : f_X22_value_J230 c_X17_value sh I = some Z → J G p l e (rmA Rf Rl 0) s m args below meth c 4 (.returned (some (.int Z))) (sh, I) ((rmA Rf Rl 0)).cells ((rmA Rf Rl 0)).slots (sh, I) 0 0 230 [none, none, none, none] [] := by
      intro  hk
      unfold f_X22_value_J230 at hk
      refine j_iconst (pc := 230) (v := nI 0) C dX22_value_230 (by decide) ?_
      replace hk := ob_some hk
      obtain ⟨r231, h8, hk⟩ := hk
      refine j_callS (pc := 231) C (ct_X22_is h8) ms_X22_is q1253 dX22_value_231 rfl rfl (Nat.le_of_ble_eq_true rfl) (rmOK.i hr_X22_is.1 hr_X22_is.2 (Nat.zero_le _) (Nat.zero_le _)) ?_
      obtain rfl := Option.some.inj hk
      exact j_iret (pc := 234) C dX22_value_234 (Nat.zero_le _) (Nat.zero_le _)
    refine j_if_eq (pc := 219) 230 C dX22_value_219 (by decide) (fun h9 => ?_) (fun h9 => ?_)
    · replace hk := it_t h9 hk
      exact j_mask [false, false, false, false] (Jn230  hk)
    · replace hk := it_f h9 hk
      refine j_iload_n (pc := 222) C dX22_value_222 rfl rfl ?_
      refine j_if_eq (pc := 223) 230 C dX22_value_223 (by decide) (fun h10 => ?_) (fun h10 => ?_)
      · replace hk := it_t h10 hk
        exact j_mask [false, false, false, false] (Jn230  hk)
      · replace hk := it_f h10 hk
        refine j_iconst (pc := 226) (v := nI 1) C dX22_value_226 (by decide) ?_
        refine j_goto (pc := 227) 231 C dX22_value_227 (by decide) ?_
        replace hk := ob_some hk
        obtain ⟨r231, h11, hk⟩ := hk
        refine j_callS (pc := 231) C (ct_X22_is h11) ms_X22_is q1253 dX22_value_231 rfl rfl (Nat.le_of_ble_eq_true rfl) (rmOK.i hr_X22_is.1 hr_X22_is.2 (Nat.zero_le _) (Nat.zero_le _)) ?_
        obtain rfl := Option.some.inj hk
        exact j_iret (pc := 234) C dX22_value_234 (Nat.zero_le _) (Nat.zero_le _)
  replace hk := it_f h7 hk
  by_cases h12 : (I x0 0) = nI 39
  · replace hk := it_t h12 hk
    refine j_tableIn (pc := 22) 235 39 C dX22_value_22 (sw_in h12 (by decide)) (by decide) (by decide) rfl (by decide) ?_
    refine j_iload_n (pc := 235) C dX22_value_235 rfl rfl ?_
    have Jn243 : f_X22_value_J243 c_X17_value sh I = some Z → J G p l e (rmA Rf Rl 0) s m args below meth c 4 (.returned (some (.int Z))) (sh, I) ((rmA Rf Rl 0)).cells ((rmA Rf Rl 0)).slots (sh, I) 0 0 243 [none, none, none, none] [] := by
      intro  hk
      unfold f_X22_value_J243 at hk
      refine j_iconst (pc := 243) (v := nI 1) C dX22_value_243 (by decide) ?_
      refine j_goto (pc := 244) 248 C dX22_value_244 (by decide) ?_
      replace hk := ob_some hk
      obtain ⟨r248, h13, hk⟩ := hk
      refine j_callS (pc := 248) C (ct_X22_is h13) ms_X22_is q1253 dX22_value_248 rfl rfl (Nat.le_of_ble_eq_true rfl) (rmOK.i hr_X22_is.1 hr_X22_is.2 (Nat.zero_le _) (Nat.zero_le _)) ?_
      obtain rfl := Option.some.inj hk
      exact j_iret (pc := 251) C dX22_value_251 (Nat.zero_le _) (Nat.zero_le _)
    refine j_if_ne (pc := 236) 243 C dX22_value_236 (by decide) (fun h14 => ?_) (fun h14 => ?_)
    · replace hk := it_f h14 hk
      exact j_mask [false, false, false, false] (Jn243  hk)
    · replace hk := it_t h14 hk
      refine j_iload_n (pc := 239) C dX22_value_239 rfl rfl ?_
      refine j_if_eq (pc := 240) 247 C dX22_value_240 (by decide) (fun h15 => ?_) (fun h15 => ?_)
      · replace hk := it_t h15 hk
        refine j_iconst (pc := 247) (v := nI 0) C dX22_value_247 (by decide) ?_
        replace hk := ob_some hk
        obtain ⟨r248, h16, hk⟩ := hk
        refine j_callS (pc := 248) C (ct_X22_is h16) ms_X22_is q1253 dX22_value_248 rfl rfl (Nat.le_of_ble_eq_true rfl) (rmOK.i hr_X22_is.1 hr_X22_is.2 (Nat.zero_le _) (Nat.zero_le _)) ?_
        obtain rfl := Option.some.inj hk
        exact j_iret (pc := 251) C dX22_value_251 (Nat.zero_le _) (Nat.zero_le _)
      · replace hk := it_f h15 hk
        exact j_mask [false, false, false, false] (Jn243  hk)
  replace hk := it_f h12 hk
  by_cases h17 : (I x0 0) = nI 40
  · replace hk := it_t h17 hk
    refine j_tableIn (pc := 22) 235 40 C dX22_value_22 (sw_in h17 (by decide)) (by decide) (by decide) rfl (by decide) ?_
    refine j_iload_n (pc := 235) C dX22_value_235 rfl rfl ?_
    have Jn243 : f_X22_value_J243 c_X17_value sh I = some Z → J G p l e (rmA Rf Rl 0) s m args below meth c 4 (.returned (some (.int Z))) (sh, I) ((rmA Rf Rl 0)).cells ((rmA Rf Rl 0)).slots (sh, I) 0 0 243 [none, none, none, none] [] := by
      intro  hk
      unfold f_X22_value_J243 at hk
      refine j_iconst (pc := 243) (v := nI 1) C dX22_value_243 (by decide) ?_
      refine j_goto (pc := 244) 248 C dX22_value_244 (by decide) ?_
      replace hk := ob_some hk
      obtain ⟨r248, h18, hk⟩ := hk
      refine j_callS (pc := 248) C (ct_X22_is h18) ms_X22_is q1253 dX22_value_248 rfl rfl (Nat.le_of_ble_eq_true rfl) (rmOK.i hr_X22_is.1 hr_X22_is.2 (Nat.zero_le _) (Nat.zero_le _)) ?_
      obtain rfl := Option.some.inj hk
      exact j_iret (pc := 251) C dX22_value_251 (Nat.zero_le _) (Nat.zero_le _)
    refine j_if_ne (pc := 236) 243 C dX22_value_236 (by decide) (fun h19 => ?_) (fun h19 => ?_)
    · replace hk := it_f h19 hk
      exact j_mask [false, false, false, false] (Jn243  hk)
    · replace hk := it_t h19 hk
      refine j_iload_n (pc := 239) C dX22_value_239 rfl rfl ?_
      refine j_if_eq (pc := 240) 247 C dX22_value_240 (by decide) (fun h20 => ?_) (fun h20 => ?_)
      · replace hk := it_t h20 hk
        refine j_iconst (pc := 247) (v := nI 0) C dX22_value_247 (by decide) ?_
        replace hk := ob_some hk
        obtain ⟨r248, h21, hk⟩ := hk
        refine j_callS (pc := 248) C (ct_X22_is h21) ms_X22_is q1253 dX22_value_248 rfl rfl (Nat.le_of_ble_eq_true rfl) (rmOK.i hr_X22_is.1 hr_X22_is.2 (Nat.zero_le _) (Nat.zero_le _)) ?_
        obtain rfl := Option.some.inj hk
        exact j_iret (pc := 251) C dX22_value_251 (Nat.zero_le _) (Nat.zero_le _)
      · replace hk := it_f h20 hk
        exact j_mask [false, false, false, false] (Jn243  hk)
  replace hk := it_f h17 hk
  by_cases h22 : (I x0 0) = nI 41
  · replace hk := it_t h22 hk
    refine j_tableIn (pc := 22) 235 41 C dX22_value_22 (sw_in h22 (by decide)) (by decide) (by decide) rfl (by decide) ?_
    refine j_iload_n (pc := 235) C dX22_value_235 rfl rfl ?_
    have Jn243 : f_X22_value_J243 c_X17_value sh I = some Z → J G p l e (rmA Rf Rl 0) s m args below meth c 4 (.returned (some (.int Z))) (sh, I) ((rmA Rf Rl 0)).cells ((rmA Rf Rl 0)).slots (sh, I) 0 0 243 [none, none, none, none] [] := by
      intro  hk
      unfold f_X22_value_J243 at hk
      refine j_iconst (pc := 243) (v := nI 1) C dX22_value_243 (by decide) ?_
      refine j_goto (pc := 244) 248 C dX22_value_244 (by decide) ?_
      replace hk := ob_some hk
      obtain ⟨r248, h23, hk⟩ := hk
      refine j_callS (pc := 248) C (ct_X22_is h23) ms_X22_is q1253 dX22_value_248 rfl rfl (Nat.le_of_ble_eq_true rfl) (rmOK.i hr_X22_is.1 hr_X22_is.2 (Nat.zero_le _) (Nat.zero_le _)) ?_
      obtain rfl := Option.some.inj hk
      exact j_iret (pc := 251) C dX22_value_251 (Nat.zero_le _) (Nat.zero_le _)
    refine j_if_ne (pc := 236) 243 C dX22_value_236 (by decide) (fun h24 => ?_) (fun h24 => ?_)
    · replace hk := it_f h24 hk
      exact j_mask [false, false, false, false] (Jn243  hk)
    · replace hk := it_t h24 hk
      refine j_iload_n (pc := 239) C dX22_value_239 rfl rfl ?_
      refine j_if_eq (pc := 240) 247 C dX22_value_240 (by decide) (fun h25 => ?_) (fun h25 => ?_)
      · replace hk := it_t h25 hk
        refine j_iconst (pc := 247) (v := nI 0) C dX22_value_247 (by decide) ?_
        replace hk := ob_some hk
        obtain ⟨r248, h26, hk⟩ := hk
        refine j_callS (pc := 248) C (ct_X22_is h26) ms_X22_is q1253 dX22_value_248 rfl rfl (Nat.le_of_ble_eq_true rfl) (rmOK.i hr_X22_is.1 hr_X22_is.2 (Nat.zero_le _) (Nat.zero_le _)) ?_
        obtain rfl := Option.some.inj hk
        exact j_iret (pc := 251) C dX22_value_251 (Nat.zero_le _) (Nat.zero_le _)
      · replace hk := it_f h25 hk
        exact j_mask [false, false, false, false] (Jn243  hk)
  replace hk := it_f h22 hk
  by_cases h27 : (I x0 0) = nI 42
  · replace hk := it_t h27 hk
    refine j_tableIn (pc := 22) 148 42 C dX22_value_22 (sw_in h27 (by decide)) (by decide) (by decide) rfl (by decide) ?_
    refine j_iload_n (pc := 148) C dX22_value_148 rfl rfl ?_
    refine j_iload_n (pc := 149) C dX22_value_149 rfl rfl ?_
    refine j_imul (pc := 150) C dX22_value_150 ?_
    obtain rfl := Option.some.inj hk
    exact j_iret (pc := 151) C dX22_value_151 (Nat.zero_le _) (Nat.zero_le _)
  replace hk := it_f h27 hk
  by_cases h28 : (I x0 0) = nI 43
  · replace hk := it_t h28 hk
    refine j_tableIn (pc := 22) 140 43 C dX22_value_22 (sw_in h28 (by decide)) (by decide) (by decide) rfl (by decide) ?_
    refine j_iload_n (pc := 140) C dX22_value_140 rfl rfl ?_
    refine j_iload_n (pc := 141) C dX22_value_141 rfl rfl ?_
    refine j_iadd (pc := 142) C dX22_value_142 ?_
    obtain rfl := Option.some.inj hk
    exact j_iret (pc := 143) C dX22_value_143 (Nat.zero_le _) (Nat.zero_le _)
  replace hk := it_f h28 hk
  by_cases h29 : (I x0 0) = nI 44
  · replace hk := it_t h29 hk
    refine j_tableIn (pc := 22) 235 44 C dX22_value_22 (sw_in h29 (by decide)) (by decide) (by decide) rfl (by decide) ?_
    refine j_iload_n (pc := 235) C dX22_value_235 rfl rfl ?_
    have Jn243 : f_X22_value_J243 c_X17_value sh I = some Z → J G p l e (rmA Rf Rl 0) s m args below meth c 4 (.returned (some (.int Z))) (sh, I) ((rmA Rf Rl 0)).cells ((rmA Rf Rl 0)).slots (sh, I) 0 0 243 [none, none, none, none] [] := by
      intro  hk
      unfold f_X22_value_J243 at hk
      refine j_iconst (pc := 243) (v := nI 1) C dX22_value_243 (by decide) ?_
      refine j_goto (pc := 244) 248 C dX22_value_244 (by decide) ?_
      replace hk := ob_some hk
      obtain ⟨r248, h30, hk⟩ := hk
      refine j_callS (pc := 248) C (ct_X22_is h30) ms_X22_is q1253 dX22_value_248 rfl rfl (Nat.le_of_ble_eq_true rfl) (rmOK.i hr_X22_is.1 hr_X22_is.2 (Nat.zero_le _) (Nat.zero_le _)) ?_
      obtain rfl := Option.some.inj hk
      exact j_iret (pc := 251) C dX22_value_251 (Nat.zero_le _) (Nat.zero_le _)
    refine j_if_ne (pc := 236) 243 C dX22_value_236 (by decide) (fun h31 => ?_) (fun h31 => ?_)
    · replace hk := it_f h31 hk
      exact j_mask [false, false, false, false] (Jn243  hk)
    · replace hk := it_t h31 hk
      refine j_iload_n (pc := 239) C dX22_value_239 rfl rfl ?_
      refine j_if_eq (pc := 240) 247 C dX22_value_240 (by decide) (fun h32 => ?_) (fun h32 => ?_)
      · replace hk := it_t h32 hk
        refine j_iconst (pc := 247) (v := nI 0) C dX22_value_247 (by decide) ?_
        replace hk := ob_some hk
        obtain ⟨r248, h33, hk⟩ := hk
        refine j_callS (pc := 248) C (ct_X22_is h33) ms_X22_is q1253 dX22_value_248 rfl rfl (Nat.le_of_ble_eq_true rfl) (rmOK.i hr_X22_is.1 hr_X22_is.2 (Nat.zero_le _) (Nat.zero_le _)) ?_
        obtain rfl := Option.some.inj hk
        exact j_iret (pc := 251) C dX22_value_251 (Nat.zero_le _) (Nat.zero_le _)
      · replace hk := it_f h32 hk
        exact j_mask [false, false, false, false] (Jn243  hk)
  replace hk := it_f h29 hk
  by_cases h34 : (I x0 0) = nI 45
  · replace hk := it_t h34 hk
    refine j_tableIn (pc := 22) 144 45 C dX22_value_22 (sw_in h34 (by decide)) (by decide) (by decide) rfl (by decide) ?_
    refine j_iload_n (pc := 144) C dX22_value_144 rfl rfl ?_
    refine j_iload_n (pc := 145) C dX22_value_145 rfl rfl ?_
    refine j_isub (pc := 146) C dX22_value_146 ?_
    obtain rfl := Option.some.inj hk
    exact j_iret (pc := 147) C dX22_value_147 (Nat.zero_le _) (Nat.zero_le _)
  replace hk := it_f h34 hk
  by_cases h35 : (I x0 0) = nI 46
  · replace hk := it_t h35 hk
    refine j_tableIn (pc := 22) 235 46 C dX22_value_22 (sw_in h35 (by decide)) (by decide) (by decide) rfl (by decide) ?_
    refine j_iload_n (pc := 235) C dX22_value_235 rfl rfl ?_
    have Jn243 : f_X22_value_J243 c_X17_value sh I = some Z → J G p l e (rmA Rf Rl 0) s m args below meth c 4 (.returned (some (.int Z))) (sh, I) ((rmA Rf Rl 0)).cells ((rmA Rf Rl 0)).slots (sh, I) 0 0 243 [none, none, none, none] [] := by
      intro  hk
      unfold f_X22_value_J243 at hk
      refine j_iconst (pc := 243) (v := nI 1) C dX22_value_243 (by decide) ?_
      refine j_goto (pc := 244) 248 C dX22_value_244 (by decide) ?_
      replace hk := ob_some hk
      obtain ⟨r248, h36, hk⟩ := hk
      refine j_callS (pc := 248) C (ct_X22_is h36) ms_X22_is q1253 dX22_value_248 rfl rfl (Nat.le_of_ble_eq_true rfl) (rmOK.i hr_X22_is.1 hr_X22_is.2 (Nat.zero_le _) (Nat.zero_le _)) ?_
      obtain rfl := Option.some.inj hk
      exact j_iret (pc := 251) C dX22_value_251 (Nat.zero_le _) (Nat.zero_le _)
    refine j_if_ne (pc := 236) 243 C dX22_value_236 (by decide) (fun h37 => ?_) (fun h37 => ?_)
    · replace hk := it_f h37 hk
      exact j_mask [false, false, false, false] (Jn243  hk)
    · replace hk := it_t h37 hk
      refine j_iload_n (pc := 239) C dX22_value_239 rfl rfl ?_
      refine j_if_eq (pc := 240) 247 C dX22_value_240 (by decide) (fun h38 => ?_) (fun h38 => ?_)
      · replace hk := it_t h38 hk
        refine j_iconst (pc := 247) (v := nI 0) C dX22_value_247 (by decide) ?_
        replace hk := ob_some hk
        obtain ⟨r248, h39, hk⟩ := hk
        refine j_callS (pc := 248) C (ct_X22_is h39) ms_X22_is q1253 dX22_value_248 rfl rfl (Nat.le_of_ble_eq_true rfl) (rmOK.i hr_X22_is.1 hr_X22_is.2 (Nat.zero_le _) (Nat.zero_le _)) ?_
        obtain rfl := Option.some.inj hk
        exact j_iret (pc := 251) C dX22_value_251 (Nat.zero_le _) (Nat.zero_le _)
      · replace hk := it_f h38 hk
        exact j_mask [false, false, false, false] (Jn243  hk)
  replace hk := it_f h35 hk
  by_cases h40 : (I x0 0) = nI 47
  · replace hk := it_t h40 hk
    refine j_tableIn (pc := 22) 152 47 C dX22_value_22 (sw_in h40 (by decide)) (by decide) (by decide) rfl (by decide) ?_
    refine j_iload_n (pc := 152) C dX22_value_152 rfl rfl ?_
    refine j_if_ne (pc := 153) 160 C dX22_value_153 (by decide) (fun h41 => ?_) (fun h41 => ?_)
    · replace hk := it_f h41 hk
      refine j_iload_n (pc := 160) C dX22_value_160 rfl rfl ?_
      refine j_iload_n (pc := 161) C dX22_value_161 rfl rfl ?_
      replace hk := og_some hk
      obtain ⟨h42, hk⟩ := hk
      refine j_idiv (pc := 162) C dX22_value_162 h42 ?_
      obtain rfl := Option.some.inj hk
      exact j_iret (pc := 163) C dX22_value_163 (Nat.zero_le _) (Nat.zero_le _)
    · replace hk := it_t h41 hk
      refine j_iconst (pc := 156) (v := nI 0) C dX22_value_156 (by decide) ?_
      refine j_goto (pc := 157) 163 C dX22_value_157 (by decide) ?_
      obtain rfl := Option.some.inj hk
      exact j_iret (pc := 163) C dX22_value_163 (Nat.zero_le _) (Nat.zero_le _)
  replace hk := it_f h40 hk
  by_cases h43 : (I x0 0) = nI 48
  · replace hk := it_t h43 hk
    refine j_tableIn (pc := 22) 235 48 C dX22_value_22 (sw_in h43 (by decide)) (by decide) (by decide) rfl (by decide) ?_
    refine j_iload_n (pc := 235) C dX22_value_235 rfl rfl ?_
    have Jn243 : f_X22_value_J243 c_X17_value sh I = some Z → J G p l e (rmA Rf Rl 0) s m args below meth c 4 (.returned (some (.int Z))) (sh, I) ((rmA Rf Rl 0)).cells ((rmA Rf Rl 0)).slots (sh, I) 0 0 243 [none, none, none, none] [] := by
      intro  hk
      unfold f_X22_value_J243 at hk
      refine j_iconst (pc := 243) (v := nI 1) C dX22_value_243 (by decide) ?_
      refine j_goto (pc := 244) 248 C dX22_value_244 (by decide) ?_
      replace hk := ob_some hk
      obtain ⟨r248, h44, hk⟩ := hk
      refine j_callS (pc := 248) C (ct_X22_is h44) ms_X22_is q1253 dX22_value_248 rfl rfl (Nat.le_of_ble_eq_true rfl) (rmOK.i hr_X22_is.1 hr_X22_is.2 (Nat.zero_le _) (Nat.zero_le _)) ?_
      obtain rfl := Option.some.inj hk
      exact j_iret (pc := 251) C dX22_value_251 (Nat.zero_le _) (Nat.zero_le _)
    refine j_if_ne (pc := 236) 243 C dX22_value_236 (by decide) (fun h45 => ?_) (fun h45 => ?_)
    · replace hk := it_f h45 hk
      exact j_mask [false, false, false, false] (Jn243  hk)
    · replace hk := it_t h45 hk
      refine j_iload_n (pc := 239) C dX22_value_239 rfl rfl ?_
      refine j_if_eq (pc := 240) 247 C dX22_value_240 (by decide) (fun h46 => ?_) (fun h46 => ?_)
      · replace hk := it_t h46 hk
        refine j_iconst (pc := 247) (v := nI 0) C dX22_value_247 (by decide) ?_
        replace hk := ob_some hk
        obtain ⟨r248, h47, hk⟩ := hk
        refine j_callS (pc := 248) C (ct_X22_is h47) ms_X22_is q1253 dX22_value_248 rfl rfl (Nat.le_of_ble_eq_true rfl) (rmOK.i hr_X22_is.1 hr_X22_is.2 (Nat.zero_le _) (Nat.zero_le _)) ?_
        obtain rfl := Option.some.inj hk
        exact j_iret (pc := 251) C dX22_value_251 (Nat.zero_le _) (Nat.zero_le _)
      · replace hk := it_f h46 hk
        exact j_mask [false, false, false, false] (Jn243  hk)
  replace hk := it_f h43 hk
  by_cases h48 : (I x0 0) = nI 49
  · replace hk := it_t h48 hk
    refine j_tableIn (pc := 22) 235 49 C dX22_value_22 (sw_in h48 (by decide)) (by decide) (by decide) rfl (by decide) ?_
    refine j_iload_n (pc := 235) C dX22_value_235 rfl rfl ?_
    have Jn243 : f_X22_value_J243 c_X17_value sh I = some Z → J G p l e (rmA Rf Rl 0) s m args below meth c 4 (.returned (some (.int Z))) (sh, I) ((rmA Rf Rl 0)).cells ((rmA Rf Rl 0)).slots (sh, I) 0 0 243 [none, none, none, none] [] := by
      intro  hk
      unfold f_X22_value_J243 at hk
      refine j_iconst (pc := 243) (v := nI 1) C dX22_value_243 (by decide) ?_
      refine j_goto (pc := 244) 248 C dX22_value_244 (by decide) ?_
      replace hk := ob_some hk
      obtain ⟨r248, h49, hk⟩ := hk
      refine j_callS (pc := 248) C (ct_X22_is h49) ms_X22_is q1253 dX22_value_248 rfl rfl (Nat.le_of_ble_eq_true rfl) (rmOK.i hr_X22_is.1 hr_X22_is.2 (Nat.zero_le _) (Nat.zero_le _)) ?_
      obtain rfl := Option.some.inj hk
      exact j_iret (pc := 251) C dX22_value_251 (Nat.zero_le _) (Nat.zero_le _)
    refine j_if_ne (pc := 236) 243 C dX22_value_236 (by decide) (fun h50 => ?_) (fun h50 => ?_)
    · replace hk := it_f h50 hk
      exact j_mask [false, false, false, false] (Jn243  hk)
    · replace hk := it_t h50 hk
      refine j_iload_n (pc := 239) C dX22_value_239 rfl rfl ?_
      refine j_if_eq (pc := 240) 247 C dX22_value_240 (by decide) (fun h51 => ?_) (fun h51 => ?_)
      · replace hk := it_t h51 hk
        refine j_iconst (pc := 247) (v := nI 0) C dX22_value_247 (by decide) ?_
        replace hk := ob_some hk
        obtain ⟨r248, h52, hk⟩ := hk
        refine j_callS (pc := 248) C (ct_X22_is h52) ms_X22_is q1253 dX22_value_248 rfl rfl (Nat.le_of_ble_eq_true rfl) (rmOK.i hr_X22_is.1 hr_X22_is.2 (Nat.zero_le _) (Nat.zero_le _)) ?_
        obtain rfl := Option.some.inj hk
        exact j_iret (pc := 251) C dX22_value_251 (Nat.zero_le _) (Nat.zero_le _)
      · replace hk := it_f h51 hk
        exact j_mask [false, false, false, false] (Jn243  hk)
  replace hk := it_f h48 hk
  by_cases h53 : (I x0 0) = nI 50
  · replace hk := it_t h53 hk
    refine j_tableIn (pc := 22) 235 50 C dX22_value_22 (sw_in h53 (by decide)) (by decide) (by decide) rfl (by decide) ?_
    refine j_iload_n (pc := 235) C dX22_value_235 rfl rfl ?_
    have Jn243 : f_X22_value_J243 c_X17_value sh I = some Z → J G p l e (rmA Rf Rl 0) s m args below meth c 4 (.returned (some (.int Z))) (sh, I) ((rmA Rf Rl 0)).cells ((rmA Rf Rl 0)).slots (sh, I) 0 0 243 [none, none, none, none] [] := by
      intro  hk
      unfold f_X22_value_J243 at hk
      refine j_iconst (pc := 243) (v := nI 1) C dX22_value_243 (by decide) ?_
      refine j_goto (pc := 244) 248 C dX22_value_244 (by decide) ?_
      replace hk := ob_some hk
      obtain ⟨r248, h54, hk⟩ := hk
      refine j_callS (pc := 248) C (ct_X22_is h54) ms_X22_is q1253 dX22_value_248 rfl rfl (Nat.le_of_ble_eq_true rfl) (rmOK.i hr_X22_is.1 hr_X22_is.2 (Nat.zero_le _) (Nat.zero_le _)) ?_
      obtain rfl := Option.some.inj hk
      exact j_iret (pc := 251) C dX22_value_251 (Nat.zero_le _) (Nat.zero_le _)
    refine j_if_ne (pc := 236) 243 C dX22_value_236 (by decide) (fun h55 => ?_) (fun h55 => ?_)
    · replace hk := it_f h55 hk
      exact j_mask [false, false, false, false] (Jn243  hk)
    · replace hk := it_t h55 hk
      refine j_iload_n (pc := 239) C dX22_value_239 rfl rfl ?_
      refine j_if_eq (pc := 240) 247 C dX22_value_240 (by decide) (fun h56 => ?_) (fun h56 => ?_)
      · replace hk := it_t h56 hk
        refine j_iconst (pc := 247) (v := nI 0) C dX22_value_247 (by decide) ?_
        replace hk := ob_some hk
        obtain ⟨r248, h57, hk⟩ := hk
        refine j_callS (pc := 248) C (ct_X22_is h57) ms_X22_is q1253 dX22_value_248 rfl rfl (Nat.le_of_ble_eq_true rfl) (rmOK.i hr_X22_is.1 hr_X22_is.2 (Nat.zero_le _) (Nat.zero_le _)) ?_
        obtain rfl := Option.some.inj hk
        exact j_iret (pc := 251) C dX22_value_251 (Nat.zero_le _) (Nat.zero_le _)
      · replace hk := it_f h56 hk
        exact j_mask [false, false, false, false] (Jn243  hk)
  replace hk := it_f h53 hk
  by_cases h58 : (I x0 0) = nI 51
  · replace hk := it_t h58 hk
    refine j_tableIn (pc := 22) 235 51 C dX22_value_22 (sw_in h58 (by decide)) (by decide) (by decide) rfl (by decide) ?_
    refine j_iload_n (pc := 235) C dX22_value_235 rfl rfl ?_
    have Jn243 : f_X22_value_J243 c_X17_value sh I = some Z → J G p l e (rmA Rf Rl 0) s m args below meth c 4 (.returned (some (.int Z))) (sh, I) ((rmA Rf Rl 0)).cells ((rmA Rf Rl 0)).slots (sh, I) 0 0 243 [none, none, none, none] [] := by
      intro  hk
      unfold f_X22_value_J243 at hk
      refine j_iconst (pc := 243) (v := nI 1) C dX22_value_243 (by decide) ?_
      refine j_goto (pc := 244) 248 C dX22_value_244 (by decide) ?_
      replace hk := ob_some hk
      obtain ⟨r248, h59, hk⟩ := hk
      refine j_callS (pc := 248) C (ct_X22_is h59) ms_X22_is q1253 dX22_value_248 rfl rfl (Nat.le_of_ble_eq_true rfl) (rmOK.i hr_X22_is.1 hr_X22_is.2 (Nat.zero_le _) (Nat.zero_le _)) ?_
      obtain rfl := Option.some.inj hk
      exact j_iret (pc := 251) C dX22_value_251 (Nat.zero_le _) (Nat.zero_le _)
    refine j_if_ne (pc := 236) 243 C dX22_value_236 (by decide) (fun h60 => ?_) (fun h60 => ?_)
    · replace hk := it_f h60 hk
      exact j_mask [false, false, false, false] (Jn243  hk)
    · replace hk := it_t h60 hk
      refine j_iload_n (pc := 239) C dX22_value_239 rfl rfl ?_
      refine j_if_eq (pc := 240) 247 C dX22_value_240 (by decide) (fun h61 => ?_) (fun h61 => ?_)
      · replace hk := it_t h61 hk
        refine j_iconst (pc := 247) (v := nI 0) C dX22_value_247 (by decide) ?_
        replace hk := ob_some hk
        obtain ⟨r248, h62, hk⟩ := hk
        refine j_callS (pc := 248) C (ct_X22_is h62) ms_X22_is q1253 dX22_value_248 rfl rfl (Nat.le_of_ble_eq_true rfl) (rmOK.i hr_X22_is.1 hr_X22_is.2 (Nat.zero_le _) (Nat.zero_le _)) ?_
        obtain rfl := Option.some.inj hk
        exact j_iret (pc := 251) C dX22_value_251 (Nat.zero_le _) (Nat.zero_le _)
      · replace hk := it_f h61 hk
        exact j_mask [false, false, false, false] (Jn243  hk)
  replace hk := it_f h58 hk
  by_cases h63 : (I x0 0) = nI 52
  · replace hk := it_t h63 hk
    refine j_tableIn (pc := 22) 235 52 C dX22_value_22 (sw_in h63 (by decide)) (by decide) (by decide) rfl (by decide) ?_
    refine j_iload_n (pc := 235) C dX22_value_235 rfl rfl ?_
    have Jn243 : f_X22_value_J243 c_X17_value sh I = some Z → J G p l e (rmA Rf Rl 0) s m args below meth c 4 (.returned (some (.int Z))) (sh, I) ((rmA Rf Rl 0)).cells ((rmA Rf Rl 0)).slots (sh, I) 0 0 243 [none, none, none, none] [] := by
      intro  hk
      unfold f_X22_value_J243 at hk
      refine j_iconst (pc := 243) (v := nI 1) C dX22_value_243 (by decide) ?_
      refine j_goto (pc := 244) 248 C dX22_value_244 (by decide) ?_
      replace hk := ob_some hk
      obtain ⟨r248, h64, hk⟩ := hk
      refine j_callS (pc := 248) C (ct_X22_is h64) ms_X22_is q1253 dX22_value_248 rfl rfl (Nat.le_of_ble_eq_true rfl) (rmOK.i hr_X22_is.1 hr_X22_is.2 (Nat.zero_le _) (Nat.zero_le _)) ?_
      obtain rfl := Option.some.inj hk
      exact j_iret (pc := 251) C dX22_value_251 (Nat.zero_le _) (Nat.zero_le _)
    refine j_if_ne (pc := 236) 243 C dX22_value_236 (by decide) (fun h65 => ?_) (fun h65 => ?_)
    · replace hk := it_f h65 hk
      exact j_mask [false, false, false, false] (Jn243  hk)
    · replace hk := it_t h65 hk
      refine j_iload_n (pc := 239) C dX22_value_239 rfl rfl ?_
      refine j_if_eq (pc := 240) 247 C dX22_value_240 (by decide) (fun h66 => ?_) (fun h66 => ?_)
      · replace hk := it_t h66 hk
        refine j_iconst (pc := 247) (v := nI 0) C dX22_value_247 (by decide) ?_
        replace hk := ob_some hk
        obtain ⟨r248, h67, hk⟩ := hk
        refine j_callS (pc := 248) C (ct_X22_is h67) ms_X22_is q1253 dX22_value_248 rfl rfl (Nat.le_of_ble_eq_true rfl) (rmOK.i hr_X22_is.1 hr_X22_is.2 (Nat.zero_le _) (Nat.zero_le _)) ?_
        obtain rfl := Option.some.inj hk
        exact j_iret (pc := 251) C dX22_value_251 (Nat.zero_le _) (Nat.zero_le _)
      · replace hk := it_f h66 hk
        exact j_mask [false, false, false, false] (Jn243  hk)
  replace hk := it_f h63 hk
  by_cases h68 : (I x0 0) = nI 53
  · replace hk := it_t h68 hk
    refine j_tableIn (pc := 22) 235 53 C dX22_value_22 (sw_in h68 (by decide)) (by decide) (by decide) rfl (by decide) ?_
    refine j_iload_n (pc := 235) C dX22_value_235 rfl rfl ?_
    have Jn243 : f_X22_value_J243 c_X17_value sh I = some Z → J G p l e (rmA Rf Rl 0) s m args below meth c 4 (.returned (some (.int Z))) (sh, I) ((rmA Rf Rl 0)).cells ((rmA Rf Rl 0)).slots (sh, I) 0 0 243 [none, none, none, none] [] := by
      intro  hk
      unfold f_X22_value_J243 at hk
      refine j_iconst (pc := 243) (v := nI 1) C dX22_value_243 (by decide) ?_
      refine j_goto (pc := 244) 248 C dX22_value_244 (by decide) ?_
      replace hk := ob_some hk
      obtain ⟨r248, h69, hk⟩ := hk
      refine j_callS (pc := 248) C (ct_X22_is h69) ms_X22_is q1253 dX22_value_248 rfl rfl (Nat.le_of_ble_eq_true rfl) (rmOK.i hr_X22_is.1 hr_X22_is.2 (Nat.zero_le _) (Nat.zero_le _)) ?_
      obtain rfl := Option.some.inj hk
      exact j_iret (pc := 251) C dX22_value_251 (Nat.zero_le _) (Nat.zero_le _)
    refine j_if_ne (pc := 236) 243 C dX22_value_236 (by decide) (fun h70 => ?_) (fun h70 => ?_)
    · replace hk := it_f h70 hk
      exact j_mask [false, false, false, false] (Jn243  hk)
    · replace hk := it_t h70 hk
      refine j_iload_n (pc := 239) C dX22_value_239 rfl rfl ?_
      refine j_if_eq (pc := 240) 247 C dX22_value_240 (by decide) (fun h71 => ?_) (fun h71 => ?_)
      · replace hk := it_t h71 hk
        refine j_iconst (pc := 247) (v := nI 0) C dX22_value_247 (by decide) ?_
        replace hk := ob_some hk
        obtain ⟨r248, h72, hk⟩ := hk
        refine j_callS (pc := 248) C (ct_X22_is h72) ms_X22_is q1253 dX22_value_248 rfl rfl (Nat.le_of_ble_eq_true rfl) (rmOK.i hr_X22_is.1 hr_X22_is.2 (Nat.zero_le _) (Nat.zero_le _)) ?_
        obtain rfl := Option.some.inj hk
        exact j_iret (pc := 251) C dX22_value_251 (Nat.zero_le _) (Nat.zero_le _)
      · replace hk := it_f h71 hk
        exact j_mask [false, false, false, false] (Jn243  hk)
  replace hk := it_f h68 hk
  by_cases h73 : (I x0 0) = nI 54
  · replace hk := it_t h73 hk
    refine j_tableIn (pc := 22) 235 54 C dX22_value_22 (sw_in h73 (by decide)) (by decide) (by decide) rfl (by decide) ?_
    refine j_iload_n (pc := 235) C dX22_value_235 rfl rfl ?_
    have Jn243 : f_X22_value_J243 c_X17_value sh I = some Z → J G p l e (rmA Rf Rl 0) s m args below meth c 4 (.returned (some (.int Z))) (sh, I) ((rmA Rf Rl 0)).cells ((rmA Rf Rl 0)).slots (sh, I) 0 0 243 [none, none, none, none] [] := by
      intro  hk
      unfold f_X22_value_J243 at hk
      refine j_iconst (pc := 243) (v := nI 1) C dX22_value_243 (by decide) ?_
      refine j_goto (pc := 244) 248 C dX22_value_244 (by decide) ?_
      replace hk := ob_some hk
      obtain ⟨r248, h74, hk⟩ := hk
      refine j_callS (pc := 248) C (ct_X22_is h74) ms_X22_is q1253 dX22_value_248 rfl rfl (Nat.le_of_ble_eq_true rfl) (rmOK.i hr_X22_is.1 hr_X22_is.2 (Nat.zero_le _) (Nat.zero_le _)) ?_
      obtain rfl := Option.some.inj hk
      exact j_iret (pc := 251) C dX22_value_251 (Nat.zero_le _) (Nat.zero_le _)
    refine j_if_ne (pc := 236) 243 C dX22_value_236 (by decide) (fun h75 => ?_) (fun h75 => ?_)
    · replace hk := it_f h75 hk
      exact j_mask [false, false, false, false] (Jn243  hk)
    · replace hk := it_t h75 hk
      refine j_iload_n (pc := 239) C dX22_value_239 rfl rfl ?_
      refine j_if_eq (pc := 240) 247 C dX22_value_240 (by decide) (fun h76 => ?_) (fun h76 => ?_)
      · replace hk := it_t h76 hk
        refine j_iconst (pc := 247) (v := nI 0) C dX22_value_247 (by decide) ?_
        replace hk := ob_some hk
        obtain ⟨r248, h77, hk⟩ := hk
        refine j_callS (pc := 248) C (ct_X22_is h77) ms_X22_is q1253 dX22_value_248 rfl rfl (Nat.le_of_ble_eq_true rfl) (rmOK.i hr_X22_is.1 hr_X22_is.2 (Nat.zero_le _) (Nat.zero_le _)) ?_
        obtain rfl := Option.some.inj hk
        exact j_iret (pc := 251) C dX22_value_251 (Nat.zero_le _) (Nat.zero_le _)
      · replace hk := it_f h76 hk
        exact j_mask [false, false, false, false] (Jn243  hk)
  replace hk := it_f h73 hk
  by_cases h78 : (I x0 0) = nI 55
  · replace hk := it_t h78 hk
    refine j_tableIn (pc := 22) 235 55 C dX22_value_22 (sw_in h78 (by decide)) (by decide) (by decide) rfl (by decide) ?_
    refine j_iload_n (pc := 235) C dX22_value_235 rfl rfl ?_
    have Jn243 : f_X22_value_J243 c_X17_value sh I = some Z → J G p l e (rmA Rf Rl 0) s m args below meth c 4 (.returned (some (.int Z))) (sh, I) ((rmA Rf Rl 0)).cells ((rmA Rf Rl 0)).slots (sh, I) 0 0 243 [none, none, none, none] [] := by
      intro  hk
      unfold f_X22_value_J243 at hk
      refine j_iconst (pc := 243) (v := nI 1) C dX22_value_243 (by decide) ?_
      refine j_goto (pc := 244) 248 C dX22_value_244 (by decide) ?_
      replace hk := ob_some hk
      obtain ⟨r248, h79, hk⟩ := hk
      refine j_callS (pc := 248) C (ct_X22_is h79) ms_X22_is q1253 dX22_value_248 rfl rfl (Nat.le_of_ble_eq_true rfl) (rmOK.i hr_X22_is.1 hr_X22_is.2 (Nat.zero_le _) (Nat.zero_le _)) ?_
      obtain rfl := Option.some.inj hk
      exact j_iret (pc := 251) C dX22_value_251 (Nat.zero_le _) (Nat.zero_le _)
    refine j_if_ne (pc := 236) 243 C dX22_value_236 (by decide) (fun h80 => ?_) (fun h80 => ?_)
    · replace hk := it_f h80 hk
      exact j_mask [false, false, false, false] (Jn243  hk)
    · replace hk := it_t h80 hk
      refine j_iload_n (pc := 239) C dX22_value_239 rfl rfl ?_
      refine j_if_eq (pc := 240) 247 C dX22_value_240 (by decide) (fun h81 => ?_) (fun h81 => ?_)
      · replace hk := it_t h81 hk
        refine j_iconst (pc := 247) (v := nI 0) C dX22_value_247 (by decide) ?_
        replace hk := ob_some hk
        obtain ⟨r248, h82, hk⟩ := hk
        refine j_callS (pc := 248) C (ct_X22_is h82) ms_X22_is q1253 dX22_value_248 rfl rfl (Nat.le_of_ble_eq_true rfl) (rmOK.i hr_X22_is.1 hr_X22_is.2 (Nat.zero_le _) (Nat.zero_le _)) ?_
        obtain rfl := Option.some.inj hk
        exact j_iret (pc := 251) C dX22_value_251 (Nat.zero_le _) (Nat.zero_le _)
      · replace hk := it_f h81 hk
        exact j_mask [false, false, false, false] (Jn243  hk)
  replace hk := it_f h78 hk
  by_cases h83 : (I x0 0) = nI 56
  · replace hk := it_t h83 hk
    refine j_tableIn (pc := 22) 235 56 C dX22_value_22 (sw_in h83 (by decide)) (by decide) (by decide) rfl (by decide) ?_
    refine j_iload_n (pc := 235) C dX22_value_235 rfl rfl ?_
    have Jn243 : f_X22_value_J243 c_X17_value sh I = some Z → J G p l e (rmA Rf Rl 0) s m args below meth c 4 (.returned (some (.int Z))) (sh, I) ((rmA Rf Rl 0)).cells ((rmA Rf Rl 0)).slots (sh, I) 0 0 243 [none, none, none, none] [] := by
      intro  hk
      unfold f_X22_value_J243 at hk
      refine j_iconst (pc := 243) (v := nI 1) C dX22_value_243 (by decide) ?_
      refine j_goto (pc := 244) 248 C dX22_value_244 (by decide) ?_
      replace hk := ob_some hk
      obtain ⟨r248, h84, hk⟩ := hk
      refine j_callS (pc := 248) C (ct_X22_is h84) ms_X22_is q1253 dX22_value_248 rfl rfl (Nat.le_of_ble_eq_true rfl) (rmOK.i hr_X22_is.1 hr_X22_is.2 (Nat.zero_le _) (Nat.zero_le _)) ?_
      obtain rfl := Option.some.inj hk
      exact j_iret (pc := 251) C dX22_value_251 (Nat.zero_le _) (Nat.zero_le _)
    refine j_if_ne (pc := 236) 243 C dX22_value_236 (by decide) (fun h85 => ?_) (fun h85 => ?_)
    · replace hk := it_f h85 hk
      exact j_mask [false, false, false, false] (Jn243  hk)
    · replace hk := it_t h85 hk
      refine j_iload_n (pc := 239) C dX22_value_239 rfl rfl ?_
      refine j_if_eq (pc := 240) 247 C dX22_value_240 (by decide) (fun h86 => ?_) (fun h86 => ?_)
      · replace hk := it_t h86 hk
        refine j_iconst (pc := 247) (v := nI 0) C dX22_value_247 (by decide) ?_
        replace hk := ob_some hk
        obtain ⟨r248, h87, hk⟩ := hk
        refine j_callS (pc := 248) C (ct_X22_is h87) ms_X22_is q1253 dX22_value_248 rfl rfl (Nat.le_of_ble_eq_true rfl) (rmOK.i hr_X22_is.1 hr_X22_is.2 (Nat.zero_le _) (Nat.zero_le _)) ?_
        obtain rfl := Option.some.inj hk
        exact j_iret (pc := 251) C dX22_value_251 (Nat.zero_le _) (Nat.zero_le _)
      · replace hk := it_f h86 hk
        exact j_mask [false, false, false, false] (Jn243  hk)
  replace hk := it_f h83 hk
  by_cases h88 : (I x0 0) = nI 57
  · replace hk := it_t h88 hk
    refine j_tableIn (pc := 22) 235 57 C dX22_value_22 (sw_in h88 (by decide)) (by decide) (by decide) rfl (by decide) ?_
    refine j_iload_n (pc := 235) C dX22_value_235 rfl rfl ?_
    have Jn243 : f_X22_value_J243 c_X17_value sh I = some Z → J G p l e (rmA Rf Rl 0) s m args below meth c 4 (.returned (some (.int Z))) (sh, I) ((rmA Rf Rl 0)).cells ((rmA Rf Rl 0)).slots (sh, I) 0 0 243 [none, none, none, none] [] := by
      intro  hk
      unfold f_X22_value_J243 at hk
      refine j_iconst (pc := 243) (v := nI 1) C dX22_value_243 (by decide) ?_
      refine j_goto (pc := 244) 248 C dX22_value_244 (by decide) ?_
      replace hk := ob_some hk
      obtain ⟨r248, h89, hk⟩ := hk
      refine j_callS (pc := 248) C (ct_X22_is h89) ms_X22_is q1253 dX22_value_248 rfl rfl (Nat.le_of_ble_eq_true rfl) (rmOK.i hr_X22_is.1 hr_X22_is.2 (Nat.zero_le _) (Nat.zero_le _)) ?_
      obtain rfl := Option.some.inj hk
      exact j_iret (pc := 251) C dX22_value_251 (Nat.zero_le _) (Nat.zero_le _)
    refine j_if_ne (pc := 236) 243 C dX22_value_236 (by decide) (fun h90 => ?_) (fun h90 => ?_)
    · replace hk := it_f h90 hk
      exact j_mask [false, false, false, false] (Jn243  hk)
    · replace hk := it_t h90 hk
      refine j_iload_n (pc := 239) C dX22_value_239 rfl rfl ?_
      refine j_if_eq (pc := 240) 247 C dX22_value_240 (by decide) (fun h91 => ?_) (fun h91 => ?_)
      · replace hk := it_t h91 hk
        refine j_iconst (pc := 247) (v := nI 0) C dX22_value_247 (by decide) ?_
        replace hk := ob_some hk
        obtain ⟨r248, h92, hk⟩ := hk
        refine j_callS (pc := 248) C (ct_X22_is h92) ms_X22_is q1253 dX22_value_248 rfl rfl (Nat.le_of_ble_eq_true rfl) (rmOK.i hr_X22_is.1 hr_X22_is.2 (Nat.zero_le _) (Nat.zero_le _)) ?_
        obtain rfl := Option.some.inj hk
        exact j_iret (pc := 251) C dX22_value_251 (Nat.zero_le _) (Nat.zero_le _)
      · replace hk := it_f h91 hk
        exact j_mask [false, false, false, false] (Jn243  hk)
  replace hk := it_f h88 hk
  by_cases h93 : (I x0 0) = nI 58
  · replace hk := it_t h93 hk
    refine j_tableIn (pc := 22) 235 58 C dX22_value_22 (sw_in h93 (by decide)) (by decide) (by decide) rfl (by decide) ?_
    refine j_iload_n (pc := 235) C dX22_value_235 rfl rfl ?_
    have Jn243 : f_X22_value_J243 c_X17_value sh I = some Z → J G p l e (rmA Rf Rl 0) s m args below meth c 4 (.returned (some (.int Z))) (sh, I) ((rmA Rf Rl 0)).cells ((rmA Rf Rl 0)).slots (sh, I) 0 0 243 [none, none, none, none] [] := by
      intro  hk
      unfold f_X22_value_J243 at hk
      refine j_iconst (pc := 243) (v := nI 1) C dX22_value_243 (by decide) ?_
      refine j_goto (pc := 244) 248 C dX22_value_244 (by decide) ?_
      replace hk := ob_some hk
      obtain ⟨r248, h94, hk⟩ := hk
      refine j_callS (pc := 248) C (ct_X22_is h94) ms_X22_is q1253 dX22_value_248 rfl rfl (Nat.le_of_ble_eq_true rfl) (rmOK.i hr_X22_is.1 hr_X22_is.2 (Nat.zero_le _) (Nat.zero_le _)) ?_
      obtain rfl := Option.some.inj hk
      exact j_iret (pc := 251) C dX22_value_251 (Nat.zero_le _) (Nat.zero_le _)
    refine j_if_ne (pc := 236) 243 C dX22_value_236 (by decide) (fun h95 => ?_) (fun h95 => ?_)
    · replace hk := it_f h95 hk
      exact j_mask [false, false, false, false] (Jn243  hk)
    · replace hk := it_t h95 hk
      refine j_iload_n (pc := 239) C dX22_value_239 rfl rfl ?_
      refine j_if_eq (pc := 240) 247 C dX22_value_240 (by decide) (fun h96 => ?_) (fun h96 => ?_)
      · replace hk := it_t h96 hk
        refine j_iconst (pc := 247) (v := nI 0) C dX22_value_247 (by decide) ?_
        replace hk := ob_some hk
        obtain ⟨r248, h97, hk⟩ := hk
        refine j_callS (pc := 248) C (ct_X22_is h97) ms_X22_is q1253 dX22_value_248 rfl rfl (Nat.le_of_ble_eq_true rfl) (rmOK.i hr_X22_is.1 hr_X22_is.2 (Nat.zero_le _) (Nat.zero_le _)) ?_
        obtain rfl := Option.some.inj hk
        exact j_iret (pc := 251) C dX22_value_251 (Nat.zero_le _) (Nat.zero_le _)
      · replace hk := it_f h96 hk
        exact j_mask [false, false, false, false] (Jn243  hk)
  replace hk := it_f h93 hk
  by_cases h98 : (I x0 0) = nI 59
  · replace hk := it_t h98 hk
    refine j_tableIn (pc := 22) 235 59 C dX22_value_22 (sw_in h98 (by decide)) (by decide) (by decide) rfl (by decide) ?_
    refine j_iload_n (pc := 235) C dX22_value_235 rfl rfl ?_
    have Jn243 : f_X22_value_J243 c_X17_value sh I = some Z → J G p l e (rmA Rf Rl 0) s m args below meth c 4 (.returned (some (.int Z))) (sh, I) ((rmA Rf Rl 0)).cells ((rmA Rf Rl 0)).slots (sh, I) 0 0 243 [none, none, none, none] [] := by
      intro  hk
      unfold f_X22_value_J243 at hk
      refine j_iconst (pc := 243) (v := nI 1) C dX22_value_243 (by decide) ?_
      refine j_goto (pc := 244) 248 C dX22_value_244 (by decide) ?_
      replace hk := ob_some hk
      obtain ⟨r248, h99, hk⟩ := hk
      refine j_callS (pc := 248) C (ct_X22_is h99) ms_X22_is q1253 dX22_value_248 rfl rfl (Nat.le_of_ble_eq_true rfl) (rmOK.i hr_X22_is.1 hr_X22_is.2 (Nat.zero_le _) (Nat.zero_le _)) ?_
      obtain rfl := Option.some.inj hk
      exact j_iret (pc := 251) C dX22_value_251 (Nat.zero_le _) (Nat.zero_le _)
    refine j_if_ne (pc := 236) 243 C dX22_value_236 (by decide) (fun h100 => ?_) (fun h100 => ?_)
    · replace hk := it_f h100 hk
      exact j_mask [false, false, false, false] (Jn243  hk)
    · replace hk := it_t h100 hk
      refine j_iload_n (pc := 239) C dX22_value_239 rfl rfl ?_
      refine j_if_eq (pc := 240) 247 C dX22_value_240 (by decide) (fun h101 => ?_) (fun h101 => ?_)
      · replace hk := it_t h101 hk
        refine j_iconst (pc := 247) (v := nI 0) C dX22_value_247 (by decide) ?_
        replace hk := ob_some hk
        obtain ⟨r248, h102, hk⟩ := hk
        refine j_callS (pc := 248) C (ct_X22_is h102) ms_X22_is q1253 dX22_value_248 rfl rfl (Nat.le_of_ble_eq_true rfl) (rmOK.i hr_X22_is.1 hr_X22_is.2 (Nat.zero_le _) (Nat.zero_le _)) ?_
        obtain rfl := Option.some.inj hk
        exact j_iret (pc := 251) C dX22_value_251 (Nat.zero_le _) (Nat.zero_le _)
      · replace hk := it_f h101 hk
        exact j_mask [false, false, false, false] (Jn243  hk)
  replace hk := it_f h98 hk
  by_cases h103 : (I x0 0) = nI 60
  · replace hk := it_t h103 hk
    refine j_tableIn (pc := 22) 176 60 C dX22_value_22 (sw_in h103 (by decide)) (by decide) (by decide) rfl (by decide) ?_
    refine j_iload_n (pc := 176) C dX22_value_176 rfl rfl ?_
    refine j_iload_n (pc := 177) C dX22_value_177 rfl rfl ?_
    refine j_icmp_ge (pc := 178) 185 C dX22_value_178 (by decide) (fun h104 => ?_) (fun h104 => ?_)
    · replace hk := it_t h104 hk
      refine j_iconst (pc := 185) (v := nI 0) C dX22_value_185 (by decide) ?_
      replace hk := ob_some hk
      obtain ⟨r186, h105, hk⟩ := hk
      refine j_callS (pc := 186) C (ct_X22_is h105) ms_X22_is q1253 dX22_value_186 rfl rfl (Nat.le_of_ble_eq_true rfl) (rmOK.i hr_X22_is.1 hr_X22_is.2 (Nat.zero_le _) (Nat.zero_le _)) ?_
      obtain rfl := Option.some.inj hk
      exact j_iret (pc := 189) C dX22_value_189 (Nat.zero_le _) (Nat.zero_le _)
    · replace hk := it_f h104 hk
      refine j_iconst (pc := 181) (v := nI 1) C dX22_value_181 (by decide) ?_
      refine j_goto (pc := 182) 186 C dX22_value_182 (by decide) ?_
      replace hk := ob_some hk
      obtain ⟨r186, h106, hk⟩ := hk
      refine j_callS (pc := 186) C (ct_X22_is h106) ms_X22_is q1253 dX22_value_186 rfl rfl (Nat.le_of_ble_eq_true rfl) (rmOK.i hr_X22_is.1 hr_X22_is.2 (Nat.zero_le _) (Nat.zero_le _)) ?_
      obtain rfl := Option.some.inj hk
      exact j_iret (pc := 189) C dX22_value_189 (Nat.zero_le _) (Nat.zero_le _)
  replace hk := it_f h103 hk
  by_cases h107 : (I x0 0) = nI 61
  · replace hk := it_t h107 hk
    refine j_tableIn (pc := 22) 190 61 C dX22_value_22 (sw_in h107 (by decide)) (by decide) (by decide) rfl (by decide) ?_
    refine j_iload_n (pc := 190) C dX22_value_190 rfl rfl ?_
    refine j_iload_n (pc := 191) C dX22_value_191 rfl rfl ?_
    refine j_icmp_ne (pc := 192) 199 C dX22_value_192 (by decide) (fun h108 => ?_) (fun h108 => ?_)
    · replace hk := it_f h108 hk
      refine j_iconst (pc := 199) (v := nI 0) C dX22_value_199 (by decide) ?_
      replace hk := ob_some hk
      obtain ⟨r200, h109, hk⟩ := hk
      refine j_callS (pc := 200) C (ct_X22_is h109) ms_X22_is q1253 dX22_value_200 rfl rfl (Nat.le_of_ble_eq_true rfl) (rmOK.i hr_X22_is.1 hr_X22_is.2 (Nat.zero_le _) (Nat.zero_le _)) ?_
      obtain rfl := Option.some.inj hk
      exact j_iret (pc := 203) C dX22_value_203 (Nat.zero_le _) (Nat.zero_le _)
    · replace hk := it_t h108 hk
      refine j_iconst (pc := 195) (v := nI 1) C dX22_value_195 (by decide) ?_
      refine j_goto (pc := 196) 200 C dX22_value_196 (by decide) ?_
      replace hk := ob_some hk
      obtain ⟨r200, h110, hk⟩ := hk
      refine j_callS (pc := 200) C (ct_X22_is h110) ms_X22_is q1253 dX22_value_200 rfl rfl (Nat.le_of_ble_eq_true rfl) (rmOK.i hr_X22_is.1 hr_X22_is.2 (Nat.zero_le _) (Nat.zero_le _)) ?_
      obtain rfl := Option.some.inj hk
      exact j_iret (pc := 203) C dX22_value_203 (Nat.zero_le _) (Nat.zero_le _)
  replace hk := it_f h107 hk
  by_cases h111 : (I x0 0) = nI 62
  · replace hk := it_t h111 hk
    refine j_tableIn (pc := 22) 204 62 C dX22_value_22 (sw_in h111 (by decide)) (by decide) (by decide) rfl (by decide) ?_
    refine j_iload_n (pc := 204) C dX22_value_204 rfl rfl ?_
    refine j_iload_n (pc := 205) C dX22_value_205 rfl rfl ?_
    refine j_icmp_le (pc := 206) 213 C dX22_value_206 (by decide) (fun h112 => ?_) (fun h112 => ?_)
    · replace hk := it_t h112 hk
      refine j_iconst (pc := 213) (v := nI 0) C dX22_value_213 (by decide) ?_
      replace hk := ob_some hk
      obtain ⟨r214, h113, hk⟩ := hk
      refine j_callS (pc := 214) C (ct_X22_is h113) ms_X22_is q1253 dX22_value_214 rfl rfl (Nat.le_of_ble_eq_true rfl) (rmOK.i hr_X22_is.1 hr_X22_is.2 (Nat.zero_le _) (Nat.zero_le _)) ?_
      obtain rfl := Option.some.inj hk
      exact j_iret (pc := 217) C dX22_value_217 (Nat.zero_le _) (Nat.zero_le _)
    · replace hk := it_f h112 hk
      refine j_iconst (pc := 209) (v := nI 1) C dX22_value_209 (by decide) ?_
      refine j_goto (pc := 210) 214 C dX22_value_210 (by decide) ?_
      replace hk := ob_some hk
      obtain ⟨r214, h114, hk⟩ := hk
      refine j_callS (pc := 214) C (ct_X22_is h114) ms_X22_is q1253 dX22_value_214 rfl rfl (Nat.le_of_ble_eq_true rfl) (rmOK.i hr_X22_is.1 hr_X22_is.2 (Nat.zero_le _) (Nat.zero_le _)) ?_
      obtain rfl := Option.some.inj hk
      exact j_iret (pc := 217) C dX22_value_217 (Nat.zero_le _) (Nat.zero_le _)
  replace hk := it_f h111 hk
  refine j_tableOut (pc := 22) 235 C dX22_value_22 (sw_out (lo := 37) (hi := 62) (by decide) (fun j a1 a2 => by
    have a3 : j = 37 ∨ j = 38 ∨ j = 39 ∨ j = 40 ∨ j = 41 ∨ j = 42 ∨ j = 43 ∨ j = 44 ∨ j = 45 ∨ j = 46 ∨ j = 47 ∨ j = 48 ∨ j = 49 ∨ j = 50 ∨ j = 51 ∨ j = 52 ∨ j = 53 ∨ j = 54 ∨ j = 55 ∨ j = 56 ∨ j = 57 ∨ j = 58 ∨ j = 59 ∨ j = 60 ∨ j = 61 ∨ j = 62 := by omega
    rcases a3 with rfl | rfl | rfl | rfl | rfl | rfl | rfl | rfl | rfl | rfl | rfl | rfl | rfl | rfl | rfl | rfl | rfl | rfl | rfl | rfl | rfl | rfl | rfl | rfl | rfl | rfl
    · exact h4
    · exact h7
    · exact h12
    · exact h17
    · exact h22
    · exact h27
    · exact h28
    · exact h29
    · exact h34
    · exact h35
    · exact h40
    · exact h43
    · exact h48
    · exact h53
    · exact h58
    · exact h63
    · exact h68
    · exact h73
    · exact h78
    · exact h83
    · exact h88
    · exact h93
    · exact h98
    · exact h103
    · exact h107
    · exact h111)) (by decide) ?_
  refine j_iload_n (pc := 235) C dX22_value_235 rfl rfl ?_
  have Jn243 : f_X22_value_J243 c_X17_value sh I = some Z → J G p l e (rmA Rf Rl 0) s m args below meth c 4 (.returned (some (.int Z))) (sh, I) ((rmA Rf Rl 0)).cells ((rmA Rf Rl 0)).slots (sh, I) 0 0 243 [none, none, none, none] [] := by
    intro  hk
    unfold f_X22_value_J243 at hk
    refine j_iconst (pc := 243) (v := nI 1) C dX22_value_243 (by decide) ?_
    refine j_goto (pc := 244) 248 C dX22_value_244 (by decide) ?_
    replace hk := ob_some hk
    obtain ⟨r248, h115, hk⟩ := hk
    refine j_callS (pc := 248) C (ct_X22_is h115) ms_X22_is q1253 dX22_value_248 rfl rfl (Nat.le_of_ble_eq_true rfl) (rmOK.i hr_X22_is.1 hr_X22_is.2 (Nat.zero_le _) (Nat.zero_le _)) ?_
    obtain rfl := Option.some.inj hk
    exact j_iret (pc := 251) C dX22_value_251 (Nat.zero_le _) (Nat.zero_le _)
  refine j_if_ne (pc := 236) 243 C dX22_value_236 (by decide) (fun h116 => ?_) (fun h116 => ?_)
  · replace hk := it_f h116 hk
    exact j_mask [false, false, false, false] (Jn243  hk)
  · replace hk := it_t h116 hk
    refine j_iload_n (pc := 239) C dX22_value_239 rfl rfl ?_
    refine j_if_eq (pc := 240) 247 C dX22_value_240 (by decide) (fun h117 => ?_) (fun h117 => ?_)
    · replace hk := it_t h117 hk
      refine j_iconst (pc := 247) (v := nI 0) C dX22_value_247 (by decide) ?_
      replace hk := ob_some hk
      obtain ⟨r248, h118, hk⟩ := hk
      refine j_callS (pc := 248) C (ct_X22_is h118) ms_X22_is q1253 dX22_value_248 rfl rfl (Nat.le_of_ble_eq_true rfl) (rmOK.i hr_X22_is.1 hr_X22_is.2 (Nat.zero_le _) (Nat.zero_le _)) ?_
      obtain rfl := Option.some.inj hk
      exact j_iret (pc := 251) C dX22_value_251 (Nat.zero_le _) (Nat.zero_le _)
    · replace hk := it_f h117 hk
      exact j_mask [false, false, false, false] (Jn243  hk)
def g_X17_value : Nat → (SH → Nat → II → Option Int32) × (SH → Nat → II → Option Int32) × (SH → Nat → II → Option Int32)
  | 0 => (fun _ _ _ => none, fun _ _ _ => none, fun _ _ _ => none)
  | d + 1 => (fb_X17_value (g_X17_value d).2.1 (g_X17_value d).2.2, fb_X20_value (g_X17_value d).1, fb_X22_value (g_X17_value d).1)
def v_X17_value (d : Nat) : SH → Nat → II → Option Int32 := (g_X17_value d).1
def f_X20_value (d : Nat) : SH → Nat → II → Option Int32 := (g_X17_value d).2.1
def f_X22_value (d : Nat) : SH → Nat → II → Option Int32 := (g_X17_value d).2.2
theorem v_X17_value_s (d : Nat) : v_X17_value (d + 1) = fb_X17_value (f_X20_value d) (f_X22_value d) := rfl
theorem v_X17_value_0 : v_X17_value 0 = fun _ _ _ => none := rfl
theorem f_X20_value_s (d : Nat) : f_X20_value (d + 1) = fb_X20_value (v_X17_value d) := rfl
theorem f_X20_value_0 : f_X20_value 0 = fun _ _ _ => none := rfl
theorem f_X22_value_s (d : Nat) : f_X22_value (d + 1) = fb_X22_value (v_X17_value d) := rfl
theorem f_X22_value_0 : f_X22_value 0 = fun _ _ _ => none := rfl
set_option maxHeartbeats 4000000 in
theorem ctg_X17_value {G : WG} {l : Launch} {sh : SH} (hS : stN sh) : ∀ d : Nat, (∀ (x0 : Nat) (I : II) (Z : Int32), v_X17_value d sh x0 I = some Z → VC G l ⟨"NineDemands$Term", "value", "(LNineDemands$Facts;)I"⟩ x0 [.ref (wad G 9)] (sh, I) (some (.int Z)) (sh, I) (d + 1) (23 * d + 100) 0 0 1) ∧ (∀ (x0 : Nat) (I : II) (Z : Int32), f_X20_value d sh x0 I = some Z → CT G l yX20_value (ws_ yX20_value cX20_value 2 (some .int)) (rmA (d + 1) (23 * d + 100) 0) [.ref (wad G x0), .ref (wad G 9)] (sh, I) (.returned (some (.int Z))) (sh, I)) ∧ (∀ (x0 : Nat) (I : II) (Z : Int32), f_X22_value d sh x0 I = some Z → CT G l yX22_value (ws_ yX22_value cX22_value 4 (some .int)) (rmA (d + 1) (23 * d + 100) 0) [.ref (wad G x0), .ref (wad G 9)] (sh, I) (.returned (some (.int Z))) (sh, I)) := by
  intro d
  induction d with
  | zero =>
    refine ⟨?_, ?_, ?_⟩ <;> (intros; rename_i hk; cases hk)
  | succ d ih =>
    obtain ⟨ih_X17_value, ih_X20_value, ih_X22_value⟩ := ih
    refine ⟨?_, ?_, ?_⟩
    · intro v0 v1 v2 hk
      exact ctb_X17_value hS (fun {a0 a1 a2} hk => ih_X20_value a0 a1 a2 hk) (fun {a0 a1 a2} hk => ih_X22_value a0 a1 a2 hk) ⟨by omega, by omega⟩ ⟨by omega, by omega⟩ ⟨by omega, by omega⟩ ⟨by omega, by omega⟩ hk
    · intro v0 v1 v2 hk
      exact ctb_X20_value hS (fun {a0 a1 a2} hk => ih_X17_value a0 a1 a2 hk) ⟨by omega, by omega⟩ hk
    · intro v0 v1 v2 hk
      exact ctb_X22_value hS (fun {a0 a1 a2} hk => ih_X17_value a0 a1 a2 hk) ⟨by omega, by omega⟩ ⟨by omega, by omega⟩ hk
theorem vc_X17_value {G : WG} {l : Launch} {sh : SH} (hS : stN sh) {d : Nat} {x0 : Nat} {I : II} {Z : Int32} (hk : v_X17_value d sh x0 I = some Z) : VC G l ⟨"NineDemands$Term", "value", "(LNineDemands$Facts;)I"⟩ x0 [.ref (wad G 9)] (sh, I) (some (.int Z)) (sh, I) (d + 1) (23 * d + 100) 0 0 1 := (ctg_X17_value hS d).1 _ _ _ hk
theorem ct_X20_value {G : WG} {l : Launch} {sh : SH} (hS : stN sh) {d : Nat} {x0 : Nat} {I : II} {Z : Int32} (hk : f_X20_value d sh x0 I = some Z) : CT G l yX20_value (ws_ yX20_value cX20_value 2 (some .int)) (rmA (d + 1) (23 * d + 100) 0) [.ref (wad G x0), .ref (wad G 9)] (sh, I) (.returned (some (.int Z))) (sh, I) := (ctg_X17_value hS d).2.1 _ _ _ hk
theorem ct_X22_value {G : WG} {l : Launch} {sh : SH} (hS : stN sh) {d : Nat} {x0 : Nat} {I : II} {Z : Int32} (hk : f_X22_value d sh x0 I = some Z) : CT G l yX22_value (ws_ yX22_value cX22_value 4 (some .int)) (rmA (d + 1) (23 * d + 100) 0) [.ref (wad G x0), .ref (wad G 9)] (sh, I) (.returned (some (.int Z))) (sh, I) := (ctg_X17_value hS d).2.2 _ _ _ hk
