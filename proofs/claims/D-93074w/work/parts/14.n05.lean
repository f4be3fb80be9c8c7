/-! the class: walks -/
set_option maxRecDepth 100000
def f_X12_stands (sh : SH) (x0 : Nat) (x1 : Int32) (I : II) : Option (Int32 × II) := ockD sh x0 <| orf (sh.2.2 x0 0) fun t1 => og (t1 = 7) <| (f_X3_begins sh (nI 31) I).bind fun I6 => bd2 (f_X10_stands sh x0 (x1 + (nI 1)) I6) fun r13 I13 => some (r13, I13)
abbrev rm_X12_stands : Room := { frames := 7, cells := 0, slots := 0, locals := 149 }
theorem mv_X12_stands_ok : callOK yX12_stands 1 := by decide +kernel
set_option maxHeartbeats 4000000 in
theorem ct_X12_stands {G : WG} {l : Launch} {sh : SH} (hS : stN sh) {I : II} {x0 : Nat} {x1 : Int32} {Z : (Int32 × II)} (hk : f_X12_stands sh x0 x1 I = some Z) : CT G l yX12_stands (ws_ yX12_stands cX12_stands 2 (some .int)) rm_X12_stands [.ref (wad G x0), .int x1] (sh, I) (.returned (some (.int Z.1))) (sh, Z.2) := by
  refine CT.ofJ "NineDemands$Alike" rfl (by decide) (Nat.le_of_ble_eq_true rfl) ?_
  intro p e s m args below meth c C
  unfold f_X12_stands at hk
  refine j_lv (lv' := [some (.ref (wad G x0)), some (.int x1)]) rfl ?_
  refine j_aload_n (pc := 0) C dX12_stands_0 rfl rfl ?_
  replace hk := ockD_some hk
  obtain ⟨ch1, ch1h, h1, hk⟩ := hk
  replace hk := orf_some hk
  obtain ⟨t1, et1, hk⟩ := hk
  refine x_getR (pc := 1) C (fdD_0 ch1h) (fl2 C q531 q532) h1 et1 dX12_stands_1 ?_
  refine j_bipush (pc := 4) (v := nI 31) C dX12_stands_4 (by decide) ?_
  replace hk := og_some hk
  obtain ⟨h2, hk⟩ := hk
  subst h2
  replace hk := ob_some hk
  obtain ⟨I6, h3, hk⟩ := hk
  refine x_callV (pc := 6) C (ct_X3_begins hS h3) mv_X3_begins (stN_o7 hS).r rfl rfl q1668 dX12_stands_6 rfl rfl (Nat.le_of_ble_eq_true rfl) rfl ?_
  refine j_aload_n (pc := 9) C dX12_stands_9 rfl rfl ?_
  refine j_iload_n (pc := 10) C dX12_stands_10 rfl rfl ?_
  refine j_iconst (pc := 11) (v := nI 1) C dX12_stands_11 (by decide) ?_
  refine j_iadd (pc := 12) C dX12_stands_12 ?_
  replace hk := bd2_some hk
  obtain ⟨r13, I13, h4, hk⟩ := hk
  obtain ⟨cr13, hcr13⟩ := famclD ch1h
  refine x_callS2 (pc := 13) (x := ⟨"NineDemands$Moved", "stands", "(I)I"⟩) C (ct_X10_stands hS h4) h1 hcr13 ⟨rfl, rfl⟩ q1787 q1788 q603 q591 q1790 q108 q1791 (by decide) (mv_X10_stands_ok) dX12_stands_13 rfl rfl (Nat.le_of_ble_eq_true rfl) rfl ?_
  obtain rfl := Option.some.inj hk
  exact j_iret (pc := 16) C dX12_stands_16 (Nat.le_of_ble_eq_true rfl) (Nat.le_of_ble_eq_true rfl)
def v_X14_yields (sh : SH) (x0 : Nat) (x1 : Int32) (I : II) : Option (Int32 × II) := og (x0 < sh.1 ∨ (exA ≤ x0 ∧ x0 < exA + exN)) <| if (sh.2.1 x0).1 = 15 then f_X10_yields sh x0 x1 I else none
set_option maxHeartbeats 4000000 in
theorem vc_X14_yields {G : WG} {l : Launch} {sh : SH} (hS : stN sh) {I : II} {x0 : Nat} {x1 : Int32} {Z : (Int32 × II)} (hk : v_X14_yields sh x0 x1 I = some Z) : VC G l ⟨"NineDemands$Comes", "yields", "(I)I"⟩ x0 [.int x1] (sh, I) (some (.int Z.1)) (sh, Z.2) 2 42 0 0 1 := by
  unfold v_X14_yields at hk
  replace hk := og_some hk
  obtain ⟨hd9, hk⟩ := hk
  by_cases h0 : (sh.2.1 x0).1 = 15
  · replace hk := it_t h0 hk
    exact ⟨15, _, yX10_yields, _, _, _, "NineDemands$Demand", _, ⟨hd9, h0⟩, rfl, ct_X10_yields hS hk, q1801, q1802, q1725, q108, q1726, Or.inl ⟨q1725, _, _, _, q1726⟩, by decide +kernel, Nat.le_of_ble_eq_true rfl, Nat.le_of_ble_eq_true rfl, rfl, rfl⟩
  replace hk := it_f h0 hk
  cases hk
def f_X14_stands (sh : SH) (x0 : Nat) (x1 : Int32) (I : II) : Option (Int32 × II) := ockD sh x0 <| orf (sh.2.2 x0 0) fun t1 => og (t1 = 7) <| (f_X3_begins sh (nI 50) I).bind fun I6 => bd2 (v_X14_yields sh x0 x1 I6) fun r11 I11 => bd2 (f_X10_stands sh x0 x1 I11) fun r18 I18 => some ((r11 - r18), I18)
abbrev rm_X14_stands : Room := { frames := 7, cells := 0, slots := 0, locals := 149 }
theorem mv_X14_stands_ok : callOK yX14_stands 1 := by decide +kernel
set_option maxHeartbeats 4000000 in
theorem ct_X14_stands {G : WG} {l : Launch} {sh : SH} (hS : stN sh) {I : II} {x0 : Nat} {x1 : Int32} {Z : (Int32 × II)} (hk : f_X14_stands sh x0 x1 I = some Z) : CT G l yX14_stands (ws_ yX14_stands cX14_stands 3 (some .int)) rm_X14_stands [.ref (wad G x0), .int x1] (sh, I) (.returned (some (.int Z.1))) (sh, Z.2) := by
  refine CT.ofJ "NineDemands$Comes" rfl (by decide) (Nat.le_of_ble_eq_true rfl) ?_
  intro p e s m args below meth c C
  unfold f_X14_stands at hk
  refine j_lv (lv' := [some (.ref (wad G x0)), some (.int x1), none]) rfl ?_
  refine j_aload_n (pc := 0) C dX14_stands_0 rfl rfl ?_
  replace hk := ockD_some hk
  obtain ⟨ch1, ch1h, h1, hk⟩ := hk
  replace hk := orf_some hk
  obtain ⟨t1, et1, hk⟩ := hk
  refine x_getR (pc := 1) C (fdD_0 ch1h) (fl2 C q533 q534) h1 et1 dX14_stands_1 ?_
  refine j_bipush (pc := 4) (v := nI 50) C dX14_stands_4 (by decide) ?_
  replace hk := og_some hk
  obtain ⟨h2, hk⟩ := hk
  subst h2
  replace hk := ob_some hk
  obtain ⟨I6, h3, hk⟩ := hk
  refine x_callV (pc := 6) C (ct_X3_begins hS h3) mv_X3_begins (stN_o7 hS).r rfl rfl q1733 dX14_stands_6 rfl rfl (Nat.le_of_ble_eq_true rfl) rfl ?_
  refine j_aload_n (pc := 9) C dX14_stands_9 rfl rfl ?_
  refine j_iload_n (pc := 10) C dX14_stands_10 rfl rfl ?_
  replace hk := bd2_some hk
  obtain ⟨r11, I11, h4, hk⟩ := hk
  refine x_callX (pc := 11) C (vc_X14_yields hS h4) q1800 dX14_stands_11 rfl rfl (Nat.le_of_ble_eq_true rfl) (Nat.le_of_ble_eq_true rfl) (Nat.le_of_ble_eq_true rfl) (Nat.le_of_ble_eq_true rfl) (Nat.le_of_ble_eq_true rfl) ?_
  refine j_istore_n (pc := 14) C dX14_stands_14 rfl (Nat.le_of_ble_eq_true rfl) rfl ?_
  refine j_iload_n (pc := 15) C dX14_stands_15 rfl rfl ?_
  refine j_aload_n (pc := 16) C dX14_stands_16 rfl rfl ?_
  refine j_iload_n (pc := 17) C dX14_stands_17 rfl rfl ?_
  replace hk := bd2_some hk
  obtain ⟨r18, I18, h5, hk⟩ := hk
  obtain ⟨cr18, hcr18⟩ := famclD ch1h
  refine x_callS2 (pc := 18) (x := ⟨"NineDemands$Moved", "stands", "(I)I"⟩) C (ct_X10_stands hS h5) h1 hcr18 ⟨rfl, rfl⟩ q1803 q1788 q627 q591 q1790 q108 q1791 (by decide) (mv_X10_stands_ok) dX14_stands_18 rfl rfl (Nat.le_of_ble_eq_true rfl) rfl ?_
  refine j_isub (pc := 21) C dX14_stands_21 ?_
  obtain rfl := Option.some.inj hk
  exact j_iret (pc := 22) C dX14_stands_22 (Nat.le_of_ble_eq_true rfl) (Nat.le_of_ble_eq_true rfl)
def v_KStands_stands (sh : SH) (x0 : Nat) (x1 : Int32) (I : II) : Option (Int32 × II) := og (x0 < sh.1 ∨ (exA ≤ x0 ∧ x0 < exA + exN)) <| if (sh.2.1 x0).1 = 11 then f_X10_stands sh x0 x1 I else if (sh.2.1 x0).1 = 12 then f_X10_stands sh x0 x1 I else if (sh.2.1 x0).1 = 13 then f_X12_stands sh x0 x1 I else if (sh.2.1 x0).1 = 14 then f_X10_stands sh x0 x1 I else if (sh.2.1 x0).1 = 15 then f_X14_stands sh x0 x1 I else if (sh.2.1 x0).1 = 16 then f_X10_stands sh x0 x1 I else none
set_option maxHeartbeats 4000000 in
theorem vc_KStands_stands {G : WG} {l : Launch} {sh : SH} (hS : stN sh) {I : II} {x0 : Nat} {x1 : Int32} {Z : (Int32 × II)} (hk : v_KStands_stands sh x0 x1 I = some Z) : VF G l ⟨"NineDemands$Stands", "stands", "(I)I"⟩ x0 [.int x1] (sh, I) (some (.int Z.1)) (sh, Z.2) 8 171 0 0 1 := by
  unfold v_KStands_stands at hk
  replace hk := og_some hk
  obtain ⟨hd9, hk⟩ := hk
  by_cases h0 : (sh.2.1 x0).1 = 11
  · replace hk := it_t h0 hk
    exact ⟨11, _, yX10_stands, _, _, _, _, ⟨hd9, h0⟩, rfl, ct_X10_stands hS hk, q1805, q1790, q108, q1791, q1780, q1779, q1807, q1806, q1804, by decide +kernel, Nat.le_of_ble_eq_true rfl, Nat.le_of_ble_eq_true rfl, rfl, rfl⟩
  replace hk := it_f h0 hk
  by_cases h1 : (sh.2.1 x0).1 = 12
  · replace hk := it_t h1 hk
    exact ⟨12, _, yX10_stands, _, _, _, _, ⟨hd9, h1⟩, rfl, ct_X10_stands hS hk, q1809, q1790, q108, q1791, q1780, q1779, q1807, q1810, q1808, by decide +kernel, Nat.le_of_ble_eq_true rfl, Nat.le_of_ble_eq_true rfl, rfl, rfl⟩
  replace hk := it_f h1 hk
  by_cases h2 : (sh.2.1 x0).1 = 13
  · replace hk := it_t h2 hk
    exact ⟨13, _, yX12_stands, _, _, _, _, ⟨hd9, h2⟩, rfl, ct_X12_stands hS hk, q1782, q1784, q110, q1786, q1780, q1779, q1785, q1783, q1781, by decide +kernel, Nat.le_of_ble_eq_true rfl, Nat.le_of_ble_eq_true rfl, rfl, rfl⟩
  replace hk := it_f h2 hk
  by_cases h3 : (sh.2.1 x0).1 = 14
  · replace hk := it_t h3 hk
    exact ⟨14, _, yX10_stands, _, _, _, _, ⟨hd9, h3⟩, rfl, ct_X10_stands hS hk, q1815, q1790, q108, q1791, q1780, q1779, q1807, q1816, q1814, by decide +kernel, Nat.le_of_ble_eq_true rfl, Nat.le_of_ble_eq_true rfl, rfl, rfl⟩
  replace hk := it_f h3 hk
  by_cases h4 : (sh.2.1 x0).1 = 15
  · replace hk := it_t h4 hk
    exact ⟨15, _, yX14_stands, _, _, _, _, ⟨hd9, h4⟩, rfl, ct_X14_stands hS hk, q1795, q1797, q112, q1799, q1780, q1779, q1798, q1796, q1794, by decide +kernel, Nat.le_of_ble_eq_true rfl, Nat.le_of_ble_eq_true rfl, rfl, rfl⟩
  replace hk := it_f h4 hk
  by_cases h5 : (sh.2.1 x0).1 = 16
  · replace hk := it_t h5 hk
    exact ⟨16, _, yX10_stands, _, _, _, _, ⟨hd9, h5⟩, rfl, ct_X10_stands hS hk, q1812, q1790, q108, q1791, q1780, q1779, q1807, q1813, q1811, by decide +kernel, Nat.le_of_ble_eq_true rfl, Nat.le_of_ble_eq_true rfl, rfl, rfl⟩
  replace hk := it_f h5 hk
  cases hk
def f_X0_voice_J116 (sh : SH) (s0 : Nat) (I : II) : Option (Int32 × II) := bd2 (f_X0_finds sh s0 I) fun r121 I121 => some (r121, I121)
def f_X0_voice_J23 (sh : SH) (x1 : Int32) (x2 : Int32) (x3 : Int32) (s1 : Int32) (I : II) : Option (Int32 × II) := bd2 (f_X0_need sh s1 (nI 1) I) fun u24 I24 => oex u24 (fun _w24 => orf (sh.2.2 0 1) fun t36 => ock sh t36 2 <| orf (sh.2.2 t36 1) fun t39 => ock sh t39 3 <| (f_J5_get sh t39 x1 (up2 I24 7 1 (nI 0))).bind fun a43 => ockD sh a43 <| if x2 = nI 0 then bd2 (v_KBids_bids sh a43 x3 (up2 I24 7 1 (nI 0))) fun r83 I83 => some (r83, I83) else if x2 = nI 1 then bd2 (v_KBars_bars sh a43 x3 (up2 I24 7 1 (nI 0))) fun r92 I92 => some (r92, I92) else if x2 = nI 2 then bd2 (v_KYields_yields sh a43 x3 (up2 I24 7 1 (nI 0))) fun r101 I101 => some (r101, I101) else bd2 (v_KStands_stands sh a43 x3 (up2 I24 7 1 (nI 0))) fun r110 I110 => some (r110, I110)) (fun w24 => ock sh w24 1 <| f_X0_voice_J116 sh w24 I24)
def f_X0_voice_J22 (sh : SH) (x1 : Int32) (x2 : Int32) (x3 : Int32) (I : II) : Option (Int32 × II) := f_X0_voice_J23 sh x1 x2 x3 (nI 0) I
def f_X0_voice (sh : SH) (x1 : Int32) (x2 : Int32) (x3 : Int32) (I : II) : Option (Int32 × II) := (f_X0_isLaw sh x1 I).bind fun r3 => if r3 = 0 then f_X0_voice_J22 sh x1 x2 x3 I else (f_X0_in x2 (nI 0) (nI 3)).bind fun r12 => if r12 = 0 then f_X0_voice_J22 sh x1 x2 x3 I else f_X0_voice_J23 sh x1 x2 x3 (nI 1) I
abbrev rm_X0_voice : Room := { frames := 8, cells := 0, slots := 0, locals := 171 }
theorem mv_X0_voice_ok : callOK yX0_voice 3 := by decide +kernel
theorem mw_X0_voice : MW yX0_voice cX0_voice 5 (some .int) [(0, 88, 116, 8), (89, 97, 116, 8), (98, 106, 116, 8), (107, 115, 116, 8)] 3 := ⟨q1654, q1655, q91, q1656, mv_X0_voice_ok⟩
set_option maxHeartbeats 4000000 in
theorem ct_X0_voice {G : WG} {l : Launch} {sh : SH} (hS : stN sh) {I : II} {x1 : Int32} {x2 : Int32} {x3 : Int32} {Z : (Int32 × II)} (hk : f_X0_voice sh x1 x2 x3 I = some Z) : CT G l yX0_voice (wsW_ yX0_voice cX0_voice 5 (some .int) [(0, 88, 116, 8), (89, 97, 116, 8), (98, 106, 116, 8), (107, 115, 116, 8)]) rm_X0_voice [.ref (wad G 0), .int x1, .int x2, .int x3] (sh, I) (.returned (some (.int Z.1))) (sh, Z.2) := by
  refine CT.ofJW "NineDemands" rfl (by decide) (Nat.le_of_ble_eq_true rfl) ?_
  intro p e s m args below meth c C
  unfold f_X0_voice at hk
  refine j_lv (lv' := [some (.ref (wad G 0)), some (.int x1), some (.int x2), some (.int x3), none]) rfl ?_
  refine j_aload_n (pc := 0) C dX0_voice_0 rfl rfl ?_
  refine j_aload_n (pc := 1) C dX0_voice_1 rfl rfl ?_
  refine j_iload_n (pc := 2) C dX0_voice_2 rfl rfl ?_
  replace hk := ob_some hk
  obtain ⟨r3, h1, hk⟩ := hk
  refine x_callV (pc := 3) C (ct_X0_isLaw hS h1) mv_X0_isLaw (stN_o0 hS).r rfl rfl q1325 dX0_voice_3 rfl rfl (Nat.le_of_ble_eq_true rfl) rfl ?_
  have Jn23 : ∀ (x1 : Int32) (x2 : Int32) (x3 : Int32) (s1 : Int32) (I : II), f_X0_voice_J23 sh x1 x2 x3 s1 I = some Z → J G p l e rm_X0_voice s m args below meth c 5 (.returned (some (.int Z.1))) (sh, Z.2) (rm_X0_voice).cells (rm_X0_voice).slots (sh, I) 0 0 23 [some (.ref (wad G 0)), some (.int x1), some (.int x2), some (.int x3), none] [.int s1, .ref (wad G 0)] := by
    intro x1 x2 x3 s1 I hk
    unfold f_X0_voice_J23 at hk
    refine j_iconst (pc := 23) (v := nI 1) C dX0_voice_23 (by decide) ?_
    have Jn116 : ∀ (s0 : Nat) (I : II), f_X0_voice_J116 sh s0 I = some Z → J G p l e rm_X0_voice s m args below meth c 5 (.returned (some (.int Z.1))) (sh, Z.2) (rm_X0_voice).cells (rm_X0_voice).slots (sh, I) 0 0 116 [some (.ref (wad G 0)), none, none, none, none] [.ref (wad G s0)] := by
      intro s0 I hk
      unfold f_X0_voice_J116 at hk
      refine j_astore (pc := 116) C dX0_voice_116 (Nat.le_of_ble_eq_true rfl) rfl ?_
      refine j_aload_n (pc := 118) C dX0_voice_118 rfl rfl ?_
      refine j_aload (pc := 119) C dX0_voice_119 rfl ?_
      replace hk := bd2_some hk
      obtain ⟨r121, I121, h2, hk⟩ := hk
      refine x_callV (pc := 121) C (ct_X0_finds hS h2) mv_X0_finds (stN_o0 hS).r rfl rfl q433 dX0_voice_121 rfl rfl (Nat.le_of_ble_eq_true rfl) rfl ?_
      obtain rfl := Option.some.inj hk
      exact j_iret (pc := 124) C dX0_voice_124 (Nat.le_of_ble_eq_true rfl) (Nat.le_of_ble_eq_true rfl)
    replace hk := bd2_some hk
    obtain ⟨u24, I24, h3, hk⟩ := hk
    cases u24 with
    | inr w24 =>
      replace hk := oex_r hk
      replace hk := ock_some hk
      obtain ⟨h5, hk⟩ := hk
      refine x_callVC [] [(89, 97, 116, 8), (98, 106, 116, 8), (107, 115, 116, 8)] (0, 88, 116, 8) (pc := 24) C (ct_X0_need hS h3) mv_X0_need (stN_o0 hS).r rfl rfl q416 dX0_voice_24 rfl rfl (Nat.le_of_ble_eq_true rfl) rfl rfl h5 rfl (by decide) (by decide) q146 (fun z hz => by cases hz) ?_
      exact j_mask [true, false, false, false, false] (Jn116 _ _ hk)
    | inl _w24 =>
      replace hk := oex_l hk
      refine x_callV (pc := 24) C (ct_X0_need hS h3) mv_X0_need (stN_o0 hS).r rfl rfl q416 dX0_voice_24 rfl rfl (Nat.le_of_ble_eq_true rfl) rfl ?_
      refine j_aload_n (pc := 27) C dX0_voice_27 rfl rfl ?_
      refine x_getR (pc := 28) C fd_0_4 (fl1 C q376) (stN_o0 hS).r (stN_r0_4 hS) dX0_voice_28 ?_
      refine j_iconst (pc := 31) (v := nI 0) C dX0_voice_31 (by decide) ?_
      refine x_putI (pc := 32) C fd_4_1 (fl3 C q283) (stN_o7 hS) rfl rfl dX0_voice_32 ?_
      refine j_aload_n (pc := 35) C dX0_voice_35 rfl rfl ?_
      replace hk := orf_some hk
      obtain ⟨t36, et36, hk⟩ := hk
      refine x_getR (pc := 36) C fd_0_1 (fl1 C q373) (stN_o0 hS).r et36 dX0_voice_36 ?_
      replace hk := ock_some hk
      obtain ⟨h6, hk⟩ := hk
      replace hk := orf_some hk
      obtain ⟨t39, et39, hk⟩ := hk
      refine x_getR (pc := 39) C fd_2_1 (fl3 C q251) h6 et39 dX0_voice_39 ?_
      refine j_iload_n (pc := 42) C dX0_voice_42 rfl rfl ?_
      replace hk := ock_some hk
      obtain ⟨h7, hk⟩ := hk
      replace hk := ob_some hk
      obtain ⟨a43, h8, hk⟩ := hk
      refine x_callV (pc := 43) C (ct_J5_get h8) mv_J5_get h7 rfl rfl q1329 dX0_voice_43 rfl rfl (Nat.le_of_ble_eq_true rfl) rfl ?_
      replace hk := ockD_some hk
      obtain ⟨ch9, ch9h, h9, hk⟩ := hk
      obtain ⟨cr46, hcr46, hcs46⟩ := castD_NineDemands_Stands ch9h
      refine x_cast (pc := 46) C h9 hcr46 q1657 hcs46 dX0_voice_46 ?_
      refine j_astore (pc := 49) C dX0_voice_49 (Nat.le_of_ble_eq_true rfl) rfl ?_
      refine j_iload_n (pc := 51) C dX0_voice_51 rfl rfl ?_
      by_cases h10 : x2 = nI 0
      · replace hk := it_t h10 hk
        refine j_tableIn (pc := 52) 80 0 C dX0_voice_52 (sw_in h10 (by decide)) (by decide) (by decide) rfl (by decide) ?_
        refine j_aload (pc := 80) C dX0_voice_80 rfl ?_
        refine j_iload_n (pc := 82) C dX0_voice_82 rfl rfl ?_
        replace hk := bd2_some hk
        obtain ⟨r83, I83, h11, hk⟩ := hk
        refine x_callF (pc := 83) C (vc_KBids_bids hS h11) q1659 dX0_voice_83 rfl rfl (Nat.le_of_ble_eq_true rfl) (Nat.le_of_ble_eq_true rfl) (Nat.le_of_ble_eq_true rfl) (Nat.le_of_ble_eq_true rfl) (Nat.le_of_ble_eq_true rfl) ?_
        obtain rfl := Option.some.inj hk
        exact j_iret (pc := 88) C dX0_voice_88 (Nat.le_of_ble_eq_true rfl) (Nat.le_of_ble_eq_true rfl)
      replace hk := it_f h10 hk
      by_cases h12 : x2 = nI 1
      · replace hk := it_t h12 hk
        refine j_tableIn (pc := 52) 89 1 C dX0_voice_52 (sw_in h12 (by decide)) (by decide) (by decide) rfl (by decide) ?_
        refine j_aload (pc := 89) C dX0_voice_89 rfl ?_
        refine j_iload_n (pc := 91) C dX0_voice_91 rfl rfl ?_
        replace hk := bd2_some hk
        obtain ⟨r92, I92, h13, hk⟩ := hk
        refine x_callF (pc := 92) C (vc_KBars_bars hS h13) q1700 dX0_voice_92 rfl rfl (Nat.le_of_ble_eq_true rfl) (Nat.le_of_ble_eq_true rfl) (Nat.le_of_ble_eq_true rfl) (Nat.le_of_ble_eq_true rfl) (Nat.le_of_ble_eq_true rfl) ?_
        obtain rfl := Option.some.inj hk
        exact j_iret (pc := 97) C dX0_voice_97 (Nat.le_of_ble_eq_true rfl) (Nat.le_of_ble_eq_true rfl)
      replace hk := it_f h12 hk
      by_cases h14 : x2 = nI 2
      · replace hk := it_t h14 hk
        refine j_tableIn (pc := 52) 98 2 C dX0_voice_52 (sw_in h14 (by decide)) (by decide) (by decide) rfl (by decide) ?_
        refine j_aload (pc := 98) C dX0_voice_98 rfl ?_
        refine j_iload_n (pc := 100) C dX0_voice_100 rfl rfl ?_
        replace hk := bd2_some hk
        obtain ⟨r101, I101, h15, hk⟩ := hk
        refine x_callF (pc := 101) C (vc_KYields_yields hS h15) q1749 dX0_voice_101 rfl rfl (Nat.le_of_ble_eq_true rfl) (Nat.le_of_ble_eq_true rfl) (Nat.le_of_ble_eq_true rfl) (Nat.le_of_ble_eq_true rfl) (Nat.le_of_ble_eq_true rfl) ?_
        obtain rfl := Option.some.inj hk
        exact j_iret (pc := 106) C dX0_voice_106 (Nat.le_of_ble_eq_true rfl) (Nat.le_of_ble_eq_true rfl)
      replace hk := it_f h14 hk
      refine j_tableOut (pc := 52) 107 C dX0_voice_52 (sw_out (lo := 0) (hi := 2) (by decide) (fun j a1 a2 => by
        have a3 : j = 0 ∨ j = 1 ∨ j = 2 := by omega
        rcases a3 with rfl | rfl | rfl
        · exact h10
        · exact h12
        · exact h14)) (by decide) ?_
      refine j_aload (pc := 107) C dX0_voice_107 rfl ?_
      refine j_iload_n (pc := 109) C dX0_voice_109 rfl rfl ?_
      replace hk := bd2_some hk
      obtain ⟨r110, I110, h16, hk⟩ := hk
      refine x_callF (pc := 110) C (vc_KStands_stands hS h16) q1778 dX0_voice_110 rfl rfl (Nat.le_of_ble_eq_true rfl) (Nat.le_of_ble_eq_true rfl) (Nat.le_of_ble_eq_true rfl) (Nat.le_of_ble_eq_true rfl) (Nat.le_of_ble_eq_true rfl) ?_
      obtain rfl := Option.some.inj hk
      exact j_iret (pc := 115) C dX0_voice_115 (Nat.le_of_ble_eq_true rfl) (Nat.le_of_ble_eq_true rfl)
  have Jn22 : ∀ (x1 : Int32) (x2 : Int32) (x3 : Int32) (I : II), f_X0_voice_J22 sh x1 x2 x3 I = some Z → J G p l e rm_X0_voice s m args below meth c 5 (.returned (some (.int Z.1))) (sh, Z.2) (rm_X0_voice).cells (rm_X0_voice).slots (sh, I) 0 0 22 [some (.ref (wad G 0)), some (.int x1), some (.int x2), some (.int x3), none] [.ref (wad G 0)] := by
    intro x1 x2 x3 I hk
    unfold f_X0_voice_J22 at hk
    refine j_iconst (pc := 22) (v := nI 0) C dX0_voice_22 (by decide) ?_
    exact j_mask [true, true, true, true, false] (Jn23 _ _ _ _ _ hk)
  refine j_if_eq (pc := 6) 22 C dX0_voice_6 (by decide) (fun h17 => ?_) (fun h17 => ?_)
  · replace hk := it_t h17 hk
    exact j_mask [true, true, true, true, false] (Jn22 _ _ _ _ hk)
  · replace hk := it_f h17 hk
    refine j_iload_n (pc := 9) C dX0_voice_9 rfl rfl ?_
    refine j_iconst (pc := 10) (v := nI 0) C dX0_voice_10 (by decide) ?_
    refine j_iconst (pc := 11) (v := nI 3) C dX0_voice_11 (by decide) ?_
    replace hk := ob_some hk
    obtain ⟨r12, h18, hk⟩ := hk
    refine j_callS (pc := 12) C (ct_X0_in h18) ms_X0_in q413 dX0_voice_12 rfl rfl (Nat.le_of_ble_eq_true rfl) rfl ?_
    refine j_if_eq (pc := 15) 22 C dX0_voice_15 (by decide) (fun h19 => ?_) (fun h19 => ?_)
    · replace hk := it_t h19 hk
      exact j_mask [true, true, true, true, false] (Jn22 _ _ _ _ hk)
    · replace hk := it_f h19 hk
      refine j_iconst (pc := 18) (v := nI 1) C dX0_voice_18 (by decide) ?_
      refine j_goto (pc := 19) 23 C dX0_voice_19 (by decide) ?_
      exact j_mask [true, true, true, true, false] (Jn23 _ _ _ _ _ hk)
def f_X10_goes (sh : SH) (x0 : Nat) (x1 : Int32) (x2 : Int32) (x3 : Int32) (I : II) : Option Int32 := ockD sh x0 <| orf (sh.2.2 x0 4) fun t1 => ock sh t1 23 <| orf (sh.2.2 t1 3) fun t4 => oarw sh t4 100 fun nh3 => oix x1 nh3 fun i8 => (f_X0_bitOf x2 x3).bind fun r11 => if ((I t4 i8) &&& r11) = 0 then some (nI 0) else some (nI 1)
abbrev rm_X10_goes : Room := { frames := 1, cells := 0, slots := 0, locals := 21 }
theorem mv_X10_goes_ok : callOK yX10_goes 3 := by decide +kernel
theorem mv_X10_goes : MV yX10_goes cX10_goes 4 (some .boolean) 3 := ⟨q1389, q1390, q108, q1397, mv_X10_goes_ok⟩
set_option maxHeartbeats 4000000 in
theorem ct_X10_goes {G : WG} {l : Launch} {sh : SH} (hS : stN sh) {I : II} {x0 : Nat} {x1 : Int32} {x2 : Int32} {x3 : Int32} {Z : Int32} (hk : f_X10_goes sh x0 x1 x2 x3 I = some Z) : CT G l yX10_goes (ws_ yX10_goes cX10_goes 4 (some .boolean)) rm_X10_goes [.ref (wad G x0), .int x1, .int x2, .int x3] (sh, I) (.returned (some (.int Z))) (sh, I) := by
  refine CT.ofJ "NineDemands$Demand" rfl (by decide) (Nat.le_of_ble_eq_true rfl) ?_
  intro p e s m args below meth c C
  unfold f_X10_goes at hk
  refine j_lv (lv' := [some (.ref (wad G x0)), some (.int x1), some (.int x2), some (.int x3)]) rfl ?_
  refine j_aload_n (pc := 0) C dX10_goes_0 rfl rfl ?_
  replace hk := ockD_some hk
  obtain ⟨ch1, ch1h, h1, hk⟩ := hk
  replace hk := orf_some hk
  obtain ⟨t1, et1, hk⟩ := hk
  refine x_getR (pc := 1) C (fdD_4 ch1h) (fl1 C q579) h1 et1 dX10_goes_1 ?_
  replace hk := ock_some hk
  obtain ⟨h2, hk⟩ := hk
  replace hk := orf_some hk
  obtain ⟨t4, et4, hk⟩ := hk
  refine x_getR (pc := 4) C fd_23_3 (fl3 C q1136) h2 et4 dX10_goes_4 ?_
  refine j_iload_n (pc := 7) C dX10_goes_7 rfl rfl ?_
  replace hk := oarw_some hk
  obtain ⟨nh3, h3, hk⟩ := hk
  replace hk := oix_ex hk
  obtain ⟨i8, e8, h4, hk⟩ := hk
  refine j_iald (pc := 8) C h3 h4 e8 dX10_goes_8 ?_
  refine j_iload_n (pc := 9) C dX10_goes_9 rfl rfl ?_
  refine j_iload_n (pc := 10) C dX10_goes_10 rfl rfl ?_
  replace hk := ob_some hk
  obtain ⟨r11, h5, hk⟩ := hk
  refine x_callSN (pc := 11) C (ct_X0_bitOf h5) ms_X0_bitOf q1257 dX10_goes_11 rfl rfl (Nat.le_of_ble_eq_true rfl) rfl ?_
  refine j_iand (pc := 14) C dX10_goes_14 ?_
  refine j_if_eq (pc := 15) 22 C dX10_goes_15 (by decide) (fun h6 => ?_) (fun h6 => ?_)
  · replace hk := it_t h6 hk
    refine j_iconst (pc := 22) (v := nI 0) C dX10_goes_22 (by decide) ?_
    obtain rfl := Option.some.inj hk
    exact j_zret (pc := 23) C dX10_goes_23 (Nat.le_of_ble_eq_true rfl) (Nat.le_of_ble_eq_true rfl) (isB.nar (v := (nI 0)) (by unfold isB; decide))
  · replace hk := it_f h6 hk
    refine j_iconst (pc := 18) (v := nI 1) C dX10_goes_18 (by decide) ?_
    refine j_goto (pc := 19) 23 C dX10_goes_19 (by decide) ?_
    obtain rfl := Option.some.inj hk
    exact j_zret (pc := 23) C dX10_goes_23 (Nat.le_of_ble_eq_true rfl) (Nat.le_of_ble_eq_true rfl) (isB.nar (v := (nI 1)) (by unfold isB; decide))
def v_X10_goes (sh : SH) (x0 : Nat) (x1 : Int32) (x2 : Int32) (x3 : Int32) (I : II) : Option Int32 := og (x0 < sh.1 ∨ (exA ≤ x0 ∧ x0 < exA + exN)) <| if (sh.2.1 x0).1 = 11 then f_X10_goes sh x0 x1 x2 x3 I else if (sh.2.1 x0).1 = 12 then f_X10_goes sh x0 x1 x2 x3 I else if (sh.2.1 x0).1 = 13 then f_X10_goes sh x0 x1 x2 x3 I else if (sh.2.1 x0).1 = 14 then f_X10_goes sh x0 x1 x2 x3 I else if (sh.2.1 x0).1 = 15 then f_X10_goes sh x0 x1 x2 x3 I else if (sh.2.1 x0).1 = 16 then f_X10_goes sh x0 x1 x2 x3 I else none
set_option maxHeartbeats 4000000 in
theorem vc_X10_goes {G : WG} {l : Launch} {sh : SH} (hS : stN sh) {I : II} {x0 : Nat} {x1 : Int32} {x2 : Int32} {x3 : Int32} {Z : Int32} (hk : v_X10_goes sh x0 x1 x2 x3 I = some Z) : VC G l ⟨"NineDemands$Demand", "goes", "(III)Z"⟩ x0 [.int x1, .int x2, .int x3] (sh, I) (some (.int Z)) (sh, I) 2 44 0 0 3 := by
  unfold v_X10_goes at hk
  replace hk := og_some hk
  obtain ⟨hd9, hk⟩ := hk
  by_cases h0 : (sh.2.1 x0).1 = 11
  · replace hk := it_t h0 hk
    exact ⟨11, _, yX10_goes, _, _, _, "NineDemands$Demand", _, ⟨hd9, h0⟩, rfl, ct_X10_goes hS hk, q1391, q1390, q1389, q108, q1397, Or.inl ⟨q1389, _, _, _, q1397⟩, by decide +kernel, Nat.le_of_ble_eq_true rfl, Nat.le_of_ble_eq_true rfl, rfl, rfl⟩
  replace hk := it_f h0 hk
  by_cases h1 : (sh.2.1 x0).1 = 12
  · replace hk := it_t h1 hk
    exact ⟨12, _, yX10_goes, _, _, _, "NineDemands$Demand", _, ⟨hd9, h1⟩, rfl, ct_X10_goes hS hk, q1391, q1394, q1389, q108, q1397, Or.inl ⟨q1389, _, _, _, q1397⟩, by decide +kernel, Nat.le_of_ble_eq_true rfl, Nat.le_of_ble_eq_true rfl, rfl, rfl⟩
  replace hk := it_f h1 hk
  by_cases h2 : (sh.2.1 x0).1 = 13
  · replace hk := it_t h2 hk
    exact ⟨13, _, yX10_goes, _, _, _, "NineDemands$Demand", _, ⟨hd9, h2⟩, rfl, ct_X10_goes hS hk, q1391, q1392, q1389, q108, q1397, Or.inl ⟨q1389, _, _, _, q1397⟩, by decide +kernel, Nat.le_of_ble_eq_true rfl, Nat.le_of_ble_eq_true rfl, rfl, rfl⟩
  replace hk := it_f h2 hk
  by_cases h3 : (sh.2.1 x0).1 = 14
  · replace hk := it_t h3 hk
    exact ⟨14, _, yX10_goes, _, _, _, "NineDemands$Demand", _, ⟨hd9, h3⟩, rfl, ct_X10_goes hS hk, q1391, q1396, q1389, q108, q1397, Or.inl ⟨q1389, _, _, _, q1397⟩, by decide +kernel, Nat.le_of_ble_eq_true rfl, Nat.le_of_ble_eq_true rfl, rfl, rfl⟩
  replace hk := it_f h3 hk
  by_cases h4 : (sh.2.1 x0).1 = 15
  · replace hk := it_t h4 hk
    exact ⟨15, _, yX10_goes, _, _, _, "NineDemands$Demand", _, ⟨hd9, h4⟩, rfl, ct_X10_goes hS hk, q1391, q1393, q1389, q108, q1397, Or.inl ⟨q1389, _, _, _, q1397⟩, by decide +kernel, Nat.le_of_ble_eq_true rfl, Nat.le_of_ble_eq_true rfl, rfl, rfl⟩
  replace hk := it_f h4 hk
  by_cases h5 : (sh.2.1 x0).1 = 16
  · replace hk := it_t h5 hk
    exact ⟨16, _, yX10_goes, _, _, _, "NineDemands$Demand", _, ⟨hd9, h5⟩, rfl, ct_X10_goes hS hk, q1391, q1395, q1389, q108, q1397, Or.inl ⟨q1389, _, _, _, q1397⟩, by decide +kernel, Nat.le_of_ble_eq_true rfl, Nat.le_of_ble_eq_true rfl, rfl, rfl⟩
  replace hk := it_f h5 hk
  cases hk
def f_X5_keep (sh : SH) (x1 : Int32) (x2 : Int32) (I : II) : Option II := oix x1 156 fun i6 => oix x1 156 fun i11 => some (up2 I 15 i11 ((I 15 i6) &&& ((nI 1) <<< (x2 &&& 31))))
abbrev rm_X5_keep : Room := { frames := 0, cells := 0, slots := 0, locals := 0 }
theorem mv_X5_keep_ok : callOK yX5_keep 2 := by decide +kernel
theorem mv_X5_keep : MV yX5_keep cX5_keep 3 none 2 := ⟨q1507, q1508, q102, q1509, mv_X5_keep_ok⟩
set_option maxHeartbeats 4000000 in
theorem ct_X5_keep {G : WG} {l : Launch} {sh : SH} (hS : stN sh) {I : II} {x1 : Int32} {x2 : Int32} {Z : II} (hk : f_X5_keep sh x1 x2 I = some Z) : CT G l yX5_keep (ws_ yX5_keep cX5_keep 3 none) rm_X5_keep [.ref (wad G 11), .int x1, .int x2] (sh, I) (.returned none) (sh, Z) := by
  refine CT.ofJ "NineDemands$Search" rfl (by decide) (Nat.le_of_ble_eq_true rfl) ?_
  intro p e s m args below meth c C
  unfold f_X5_keep at hk
  refine j_lv (lv' := [some (.ref (wad G 11)), some (.int x1), some (.int x2)]) rfl ?_
  refine j_aload_n (pc := 0) C dX5_keep_0 rfl rfl ?_
  refine x_getR (pc := 1) C fd_6_1 (fl1 C q323) (stN_o11 hS).r (stN_r11_1 hS) dX5_keep_1 ?_
  refine j_iload_n (pc := 4) C dX5_keep_4 rfl rfl ?_
  refine j_dup2 (pc := 5) C dX5_keep_5 rfl rfl ?_
  replace hk := oix_ex hk
  obtain ⟨i6, e6, h1, hk⟩ := hk
  refine j_iald (pc := 6) C (stN_a15 hS) h1 e6 dX5_keep_6 ?_
  refine j_iconst (pc := 7) (v := nI 1) C dX5_keep_7 (by decide) ?_
  refine j_iload_n (pc := 8) C dX5_keep_8 rfl rfl ?_
  refine j_ishl (pc := 9) C dX5_keep_9 ?_
  refine j_iand (pc := 10) C dX5_keep_10 ?_
  replace hk := oix_ex hk
  obtain ⟨i11, e11, h2, hk⟩ := hk
  refine j_iast (pc := 11) C (stN_a15 hS) h2 e11 dX5_keep_11 ?_
  obtain rfl := Option.some.inj hk
  exact j_vret (pc := 12) C dX5_keep_12 (Nat.le_of_ble_eq_true rfl) (Nat.le_of_ble_eq_true rfl)
def f_X0_canBe_J47 (F : Nat) (sh : SH) (I : II) : Option (Int32 × II) := bd2 (f_X5_finds F sh I) fun r51 I51 => og (r51 = 0 ∨ r51 = 1) <| some (r51, I51)
def f_X0_canBe (F : Nat) (sh : SH) (x1 : Nat) (x2 : Int32) (x3 : Int32) (x4 : Int32) (I : II) : Option (Int32 × II) := (f_X5_begin F sh (nI 4095) I).bind fun I7 => ock sh x1 23 <| orf (sh.2.2 x1 0) fun t15 => oarw sh t15 100 fun nh3 => oix x2 nh3 fun i19 => (f_X5_keep sh (I7 t15 i19) x3 I7).bind fun I21 => (f_X23_isPair sh x1 x2 I21).bind fun r26 => if r26 = 0 then f_X0_canBe_J47 F sh I21 else orf (sh.2.2 x1 1) fun t37 => oarw sh t37 100 fun nh10 => oix x2 nh10 fun i41 => (f_X5_keep sh (I21 t37 i41) x4 I21).bind fun I44 => f_X0_canBe_J47 F sh I44
abbrev rm_X0_canBe : Room := { frames := 17, cells := 0, slots := 0, locals := 428 }
theorem mv_X0_canBe_ok : callOK yX0_canBe 4 := by decide +kernel
theorem mv_X0_canBe : MV yX0_canBe cX0_canBe 5 (some .boolean) 4 := ⟨q1639, qs42, q91, q1640, mv_X0_canBe_ok⟩
set_option maxHeartbeats 4000000 in
theorem ct_X0_canBe {G : WG} {l : Launch} {sh : SH} (hS : stN sh) {I : II} {F : Nat} {x1 : Nat} {x2 : Int32} {x3 : Int32} {x4 : Int32} {Z : (Int32 × II)} (hk : f_X0_canBe F sh x1 x2 x3 x4 I = some Z) : CT G l yX0_canBe (ws_ yX0_canBe cX0_canBe 5 (some .boolean)) rm_X0_canBe [.ref (wad G 0), .ref (wad G x1), .int x2, .int x3, .int x4] (sh, I) (.returned (some (.int Z.1))) (sh, Z.2) := by
  refine CT.ofJ "NineDemands" rfl (by decide) (Nat.le_of_ble_eq_true rfl) ?_
  intro p e s m args below meth c C
  unfold f_X0_canBe at hk
  refine j_lv (lv' := [some (.ref (wad G 0)), some (.ref (wad G x1)), some (.int x2), some (.int x3), some (.int x4)]) rfl ?_
  refine j_aload_n (pc := 0) C dX0_canBe_0 rfl rfl ?_
  refine x_getR (pc := 1) C fd_0_6 (fl1 C q378) (stN_o0 hS).r (stN_r0_6 hS) dX0_canBe_1 ?_
  refine j_sipush (pc := 4) (v := nI 4095) C dX0_canBe_4 (by decide) ?_
  replace hk := ob_some hk
  obtain ⟨I7, h1, hk⟩ := hk
  refine x_callV (pc := 7) C (ct_X5_begin hS h1) mv_X5_begin (stN_o11 hS).r rfl rfl q1449 dX0_canBe_7 rfl rfl (Nat.le_of_ble_eq_true rfl) rfl ?_
  refine j_aload_n (pc := 10) C dX0_canBe_10 rfl rfl ?_
  refine x_getR (pc := 11) C fd_0_6 (fl1 C q378) (stN_o0 hS).r (stN_r0_6 hS) dX0_canBe_11 ?_
  refine j_aload_n (pc := 14) C dX0_canBe_14 rfl rfl ?_
  replace hk := ock_some hk
  obtain ⟨h2, hk⟩ := hk
  replace hk := orf_some hk
  obtain ⟨t15, et15, hk⟩ := hk
  refine x_getR (pc := 15) C fd_23_0 (fl3 C q1125) h2 et15 dX0_canBe_15 ?_
  refine j_iload_n (pc := 18) C dX0_canBe_18 rfl rfl ?_
  replace hk := oarw_some hk
  obtain ⟨nh3, h3, hk⟩ := hk
  replace hk := oix_ex hk
  obtain ⟨i19, e19, h4, hk⟩ := hk
  refine j_iald (pc := 19) C h3 h4 e19 dX0_canBe_19 ?_
  refine j_iload_n (pc := 20) C dX0_canBe_20 rfl rfl ?_
  replace hk := ob_some hk
  obtain ⟨I21, h5, hk⟩ := hk
  refine x_callV (pc := 21) C (ct_X5_keep hS h5) mv_X5_keep (stN_o11 hS).r rfl rfl q1506 dX0_canBe_21 rfl rfl (Nat.le_of_ble_eq_true rfl) rfl ?_
  refine j_aload_n (pc := 24) C dX0_canBe_24 rfl rfl ?_
  refine j_iload_n (pc := 25) C dX0_canBe_25 rfl rfl ?_
  replace hk := ob_some hk
  obtain ⟨r26, h6, hk⟩ := hk
  refine x_callV (pc := 26) C (ct_X23_isPair hS h6) mv_X23_isPair h2 rfl rfl q1380 dX0_canBe_26 rfl rfl (Nat.le_of_ble_eq_true rfl) rfl ?_
  have Jn47 : ∀ (I : II), f_X0_canBe_J47 F sh I = some Z → J G p l e rm_X0_canBe s m args below meth c 5 (.returned (some (.int Z.1))) (sh, Z.2) (rm_X0_canBe).cells (rm_X0_canBe).slots (sh, I) 0 0 47 [some (.ref (wad G 0)), none, none, none, none] [] := by
    intro I hk
    unfold f_X0_canBe_J47 at hk
    refine j_aload_n (pc := 47) C dX0_canBe_47 rfl rfl ?_
    refine x_getR (pc := 48) C fd_0_6 (fl1 C q378) (stN_o0 hS).r (stN_r0_6 hS) dX0_canBe_48 ?_
    replace hk := bd2_some hk
    obtain ⟨r51, I51, h7, hk⟩ := hk
    refine x_callV (pc := 51) C (ct_X5_finds hS h7) mv_X5_finds (stN_o11 hS).r rfl rfl q1453 dX0_canBe_51 rfl rfl (Nat.le_of_ble_eq_true rfl) rfl ?_
    replace hk := og_some hk
    obtain ⟨h8, hk⟩ := hk
    obtain rfl := Option.some.inj hk
    exact j_zret (pc := 54) C dX0_canBe_54 (Nat.le_of_ble_eq_true rfl) (Nat.le_of_ble_eq_true rfl) (isB.nar h8)
  refine j_if_eq (pc := 29) 47 C dX0_canBe_29 (by decide) (fun h9 => ?_) (fun h9 => ?_)
  · replace hk := it_t h9 hk
    exact j_mask [true, false, false, false, false] (Jn47 _ hk)
  · replace hk := it_f h9 hk
    refine j_aload_n (pc := 32) C dX0_canBe_32 rfl rfl ?_
    refine x_getR (pc := 33) C fd_0_6 (fl1 C q378) (stN_o0 hS).r (stN_r0_6 hS) dX0_canBe_33 ?_
    refine j_aload_n (pc := 36) C dX0_canBe_36 rfl rfl ?_
    replace hk := orf_some hk
    obtain ⟨t37, et37, hk⟩ := hk
    refine x_getR (pc := 37) C fd_23_1 (fl3 C q1131) h2 et37 dX0_canBe_37 ?_
    refine j_iload_n (pc := 40) C dX0_canBe_40 rfl rfl ?_
    replace hk := oarw_some hk
    obtain ⟨nh10, h10, hk⟩ := hk
    replace hk := oix_ex hk
    obtain ⟨i41, e41, h11, hk⟩ := hk
    refine j_iald (pc := 41) C h10 h11 e41 dX0_canBe_41 ?_
    refine j_iload (pc := 42) C dX0_canBe_42 rfl ?_
    replace hk := ob_some hk
    obtain ⟨I44, h12, hk⟩ := hk
    refine x_callV (pc := 44) C (ct_X5_keep hS h12) mv_X5_keep (stN_o11 hS).r rfl rfl q1506 dX0_canBe_44 rfl rfl (Nat.le_of_ble_eq_true rfl) rfl ?_
    exact j_mask [true, false, false, false, false] (Jn47 _ hk)
def f_X0_holds_J55 (F : Nat) (sh : SH) (k10 : Int32 → Int32 → II → Option (Int32 × II)) (k26 : Int32 → Int32 → II → Option (Int32 × II)) (k39 : Int32 → Int32 → II → Option (Int32 × II)) (x1 : Nat) (x2 : Nat) (x4 : Int32) (x5 : Int32) (x3 : Int32) (x6 : Int32) (s0 : Int32) (s1 : Int32) (I : II) : Option (Int32 × II) := if s1 < s0 then k26 x3 (x5 + (nI 1)) I else if x3 = 0 then k26 x3 (x5 + (nI 1)) I else (v_X10_goes sh x1 x4 x5 x6 I).bind fun r69 => if r69 = 0 then bd2 (f_X0_canBe F sh x2 x4 x5 x6 I) fun r83 I83 => if r83 = 0 then k39 (nI 1) (x6 + (nI 1)) I83 else k39 (nI 0) (x6 + (nI 1)) I83 else k39 (nI 1) (x6 + (nI 1)) I
def f_X0_holds_L39 (F : Nat) (sh : SH) (k10 : Int32 → Int32 → II → Option (Int32 × II)) (k26 : Int32 → Int32 → II → Option (Int32 × II)) (x1 : Nat) (x2 : Nat) (x4 : Int32) (x5 : Int32) : Nat → Int32 → Int32 → II → Option (Int32 × II)
  | 0, _, _, _ => none
  | n39 + 1, x3, x6, I => ock sh x2 23 <| (f_X23_isPair sh x2 x4 I).bind fun r44 => if r44 = 0 then f_X0_holds_J55 F sh k10 k26 (f_X0_holds_L39 F sh k10 k26 x1 x2 x4 x5 n39) x1 x2 x4 x5 x3 x6 x6 (nI 1) I else f_X0_holds_J55 F sh k10 k26 (f_X0_holds_L39 F sh k10 k26 x1 x2 x4 x5 n39) x1 x2 x4 x5 x3 x6 x6 (nI 3) I
def f_X0_holds_L26 (F : Nat) (sh : SH) (k10 : Int32 → Int32 → II → Option (Int32 × II)) (x1 : Nat) (x2 : Nat) (x4 : Int32) : Nat → Int32 → Int32 → II → Option (Int32 × II)
  | 0, _, _, _ => none
  | n26 + 1, x3, x5, I => if (nI 3) < x5 then k10 x3 (x4 + (nI 1)) I else if x3 = 0 then k10 x3 (x4 + (nI 1)) I else f_X0_holds_L39 F sh k10 (f_X0_holds_L26 F sh k10 x1 x2 x4 n26) x1 x2 x4 x5 F x3 (nI 1) I
def f_X0_holds_L10 (F : Nat) (sh : SH) (x1 : Nat) (x2 : Nat) : Nat → Int32 → Int32 → II → Option (Int32 × II)
  | 0, _, _, _ => none
  | n10 + 1, x3, x4, I => ock sh x2 23 <| if (I x2 4) ≤ x4 then og (x3 = 0 ∨ x3 = 1) <| some (x3, I) else if x3 = 0 then og (x3 = 0 ∨ x3 = 1) <| some (x3, I) else f_X0_holds_L26 F sh (f_X0_holds_L10 F sh x1 x2 n10) x1 x2 x4 F x3 (nI 1) I
def f_X0_holds (F : Nat) (sh : SH) (x1 : Nat) (I : II) : Option (Int32 × II) := ockD sh x1 <| orf (sh.2.2 x1 4) fun t1 => f_X0_holds_L10 F sh x1 t1 F (nI 1) (nI 0) I
abbrev rm_X0_holds : Room := { frames := 18, cells := 0, slots := 0, locals := 452 }
theorem mv_X0_holds_ok : callOK yX0_holds 1 := by decide +kernel
theorem mv_X0_holds : MV yX0_holds cX0_holds 7 (some .boolean) 1 := ⟨q1635, qs41, q91, q1636, mv_X0_holds_ok⟩
set_option maxHeartbeats 4000000 in
theorem ct_X0_holds {G : WG} {l : Launch} {sh : SH} (hS : stN sh) {I : II} {F : Nat} {x1 : Nat} {Z : (Int32 × II)} (hk : f_X0_holds F sh x1 I = some Z) : CT G l yX0_holds (ws_ yX0_holds cX0_holds 7 (some .boolean)) rm_X0_holds [.ref (wad G 0), .ref (wad G x1)] (sh, I) (.returned (some (.int Z.1))) (sh, Z.2) := by
  refine CT.ofJ "NineDemands" rfl (by decide) (Nat.le_of_ble_eq_true rfl) ?_
  intro p e s m args below meth c C
  unfold f_X0_holds at hk
  refine j_lv (lv' := [some (.ref (wad G 0)), some (.ref (wad G x1)), none, none, none, none, none]) rfl ?_
  refine j_aload_n (pc := 0) C dX0_holds_0 rfl rfl ?_
  replace hk := ockD_some hk
  obtain ⟨ch1, ch1h, h1, hk⟩ := hk
  replace hk := orf_some hk
  obtain ⟨t1, et1, hk⟩ := hk
  refine x_getR (pc := 1) C (fdD_4 ch1h) (fl1 C q580) h1 et1 dX0_holds_1 ?_
  refine j_astore_n (pc := 4) C dX0_holds_4 rfl (Nat.le_of_ble_eq_true rfl) rfl ?_
  refine j_iconst (pc := 5) (v := nI 1) C dX0_holds_5 (by decide) ?_
  refine j_istore_n (pc := 6) C dX0_holds_6 rfl (Nat.le_of_ble_eq_true rfl) rfl ?_
  refine j_iconst (pc := 7) (v := nI 0) C dX0_holds_7 (by decide) ?_
  refine j_istore (pc := 8) C dX0_holds_8 (Nat.le_of_ble_eq_true rfl) rfl ?_
  have L10 : ∀ (x1 : Nat) (x2 : Nat) (n10 : Nat) (x3 : Int32) (x4 : Int32) (I : II), f_X0_holds_L10 F sh x1 x2 n10 x3 x4 I = some Z → J G p l e rm_X0_holds s m args below meth c 7 (.returned (some (.int Z.1))) (sh, Z.2) (rm_X0_holds).cells (rm_X0_holds).slots (sh, I) 0 0 10 [some (.ref (wad G 0)), some (.ref (wad G x1)), some (.ref (wad G x2)), some (.int x3), some (.int x4), none, none] [] := by
    intro x1 x2 n10
    induction n10 with
    | zero => intro x3 x4 I hk; rw [f_X0_holds_L10] at hk; cases hk
    | succ n10 ih10 =>
      intro x3 x4 I hk
      rw [f_X0_holds_L10] at hk
      generalize f_X0_holds_L10 F sh x1 x2 n10 = k10 at ih10 hk
      refine j_iload (pc := 10) C dX0_holds_10 rfl ?_
      refine j_aload_n (pc := 12) C dX0_holds_12 rfl rfl ?_
      replace hk := ock_some hk
      obtain ⟨h2, hk⟩ := hk
      refine x_getI (pc := 13) C fd_23_4 (fl3 C q1142) h2 dX0_holds_13 ?_
      refine j_icmp_ge (pc := 16) 113 C dX0_holds_16 (by decide) (fun h3 => ?_) (fun h3 => ?_)
      · replace hk := it_t h3 hk
        refine j_iload_n (pc := 113) C dX0_holds_113 rfl rfl ?_
        replace hk := og_some hk
        obtain ⟨h4, hk⟩ := hk
        obtain rfl := Option.some.inj hk
        exact j_zret (pc := 114) C dX0_holds_114 (Nat.le_of_ble_eq_true rfl) (Nat.le_of_ble_eq_true rfl) (isB.nar h4)
      · replace hk := it_f h3 hk
        refine j_iload_n (pc := 19) C dX0_holds_19 rfl rfl ?_
        refine j_if_eq (pc := 20) 113 C dX0_holds_20 (by decide) (fun h5 => ?_) (fun h5 => ?_)
        · replace hk := it_t h5 hk
          refine j_iload_n (pc := 113) C dX0_holds_113 rfl rfl ?_
          replace hk := og_some hk
          obtain ⟨h6, hk⟩ := hk
          obtain rfl := Option.some.inj hk
          exact j_zret (pc := 114) C dX0_holds_114 (Nat.le_of_ble_eq_true rfl) (Nat.le_of_ble_eq_true rfl) (isB.nar h6)
        · replace hk := it_f h5 hk
          refine j_iconst (pc := 23) (v := nI 1) C dX0_holds_23 (by decide) ?_
          refine j_istore (pc := 24) C dX0_holds_24 (Nat.le_of_ble_eq_true rfl) rfl ?_
          have L26 : ∀ (x4 : Int32) (n26 : Nat) (x3 : Int32) (x5 : Int32) (I : II), f_X0_holds_L26 F sh k10 x1 x2 x4 n26 x3 x5 I = some Z → J G p l e rm_X0_holds s m args below meth c 7 (.returned (some (.int Z.1))) (sh, Z.2) (rm_X0_holds).cells (rm_X0_holds).slots (sh, I) 0 0 26 [some (.ref (wad G 0)), some (.ref (wad G x1)), some (.ref (wad G x2)), some (.int x3), some (.int x4), some (.int x5), none] [] := by
            intro x4 n26
            induction n26 with
            | zero => intro x3 x5 I hk; rw [f_X0_holds_L26] at hk; cases hk
            | succ n26 ih26 =>
              intro x3 x5 I hk
              rw [f_X0_holds_L26] at hk
              generalize f_X0_holds_L26 F sh k10 x1 x2 x4 n26 = k26 at ih26 hk
              refine j_iload (pc := 26) C dX0_holds_26 rfl ?_
              refine j_iconst (pc := 28) (v := nI 3) C dX0_holds_28 (by decide) ?_
              refine j_icmp_gt (pc := 29) 107 C dX0_holds_29 (by decide) (fun h7 => ?_) (fun h7 => ?_)
              · replace hk := it_t h7 hk
                refine j_iinc (pc := 107) (nI 1) C dX0_holds_107 rfl (by decide) (Nat.le_of_ble_eq_true rfl) rfl ?_
                refine j_goto (pc := 110) 10 C dX0_holds_110 (by decide) ?_
                exact j_mask [true, true, true, true, true, false, false] (ih10 _ _ _ hk)
              · replace hk := it_f h7 hk
                refine j_iload_n (pc := 32) C dX0_holds_32 rfl rfl ?_
                refine j_if_eq (pc := 33) 107 C dX0_holds_33 (by decide) (fun h8 => ?_) (fun h8 => ?_)
                · replace hk := it_t h8 hk
                  refine j_iinc (pc := 107) (nI 1) C dX0_holds_107 rfl (by decide) (Nat.le_of_ble_eq_true rfl) rfl ?_
                  refine j_goto (pc := 110) 10 C dX0_holds_110 (by decide) ?_
                  exact j_mask [true, true, true, true, true, false, false] (ih10 _ _ _ hk)
                · replace hk := it_f h8 hk
                  refine j_iconst (pc := 36) (v := nI 1) C dX0_holds_36 (by decide) ?_
                  refine j_istore (pc := 37) C dX0_holds_37 (Nat.le_of_ble_eq_true rfl) rfl ?_
                  have L39 : ∀ (x5 : Int32) (n39 : Nat) (x3 : Int32) (x6 : Int32) (I : II), f_X0_holds_L39 F sh k10 k26 x1 x2 x4 x5 n39 x3 x6 I = some Z → J G p l e rm_X0_holds s m args below meth c 7 (.returned (some (.int Z.1))) (sh, Z.2) (rm_X0_holds).cells (rm_X0_holds).slots (sh, I) 0 0 39 [some (.ref (wad G 0)), some (.ref (wad G x1)), some (.ref (wad G x2)), some (.int x3), some (.int x4), some (.int x5), some (.int x6)] [] := by
                    intro x5 n39
                    induction n39 with
                    | zero => intro x3 x6 I hk; rw [f_X0_holds_L39] at hk; cases hk
                    | succ n39 ih39 =>
                      intro x3 x6 I hk
                      rw [f_X0_holds_L39] at hk
                      generalize f_X0_holds_L39 F sh k10 k26 x1 x2 x4 x5 n39 = k39 at ih39 hk
                      refine j_iload (pc := 39) C dX0_holds_39 rfl ?_
                      refine j_aload_n (pc := 41) C dX0_holds_41 rfl rfl ?_
                      refine j_iload (pc := 42) C dX0_holds_42 rfl ?_
                      replace hk := ock_some hk
                      obtain ⟨h9, hk⟩ := hk
                      replace hk := ob_some hk
                      obtain ⟨r44, h10, hk⟩ := hk
                      refine x_callV (pc := 44) C (ct_X23_isPair hS h10) mv_X23_isPair h9 rfl rfl q1380 dX0_holds_44 rfl rfl (Nat.le_of_ble_eq_true rfl) rfl ?_
                      have Jn55 : ∀ (x3 : Int32) (x6 : Int32) (s0 : Int32) (s1 : Int32) (I : II), f_X0_holds_J55 F sh k10 k26 k39 x1 x2 x4 x5 x3 x6 s0 s1 I = some Z → J G p l e rm_X0_holds s m args below meth c 7 (.returned (some (.int Z.1))) (sh, Z.2) (rm_X0_holds).cells (rm_X0_holds).slots (sh, I) 0 0 55 [some (.ref (wad G 0)), some (.ref (wad G x1)), some (.ref (wad G x2)), some (.int x3), some (.int x4), some (.int x5), some (.int x6)] [.int s1, .int s0] := by
                        intro x3 x6 s0 s1 I hk
                        unfold f_X0_holds_J55 at hk
                        refine j_icmp_gt (pc := 55) 101 C dX0_holds_55 (by decide) (fun h11 => ?_) (fun h11 => ?_)
                        · replace hk := it_t h11 hk
                          refine j_iinc (pc := 101) (nI 1) C dX0_holds_101 rfl (by decide) (Nat.le_of_ble_eq_true rfl) rfl ?_
                          refine j_goto (pc := 104) 26 C dX0_holds_104 (by decide) ?_
                          exact j_mask [true, true, true, true, true, true, false] (ih26 _ _ _ hk)
                        · replace hk := it_f h11 hk
                          refine j_iload_n (pc := 58) C dX0_holds_58 rfl rfl ?_
                          refine j_if_eq (pc := 59) 101 C dX0_holds_59 (by decide) (fun h12 => ?_) (fun h12 => ?_)
                          · replace hk := it_t h12 hk
                            refine j_iinc (pc := 101) (nI 1) C dX0_holds_101 rfl (by decide) (Nat.le_of_ble_eq_true rfl) rfl ?_
                            refine j_goto (pc := 104) 26 C dX0_holds_104 (by decide) ?_
                            exact j_mask [true, true, true, true, true, true, false] (ih26 _ _ _ hk)
                          · replace hk := it_f h12 hk
                            refine j_aload_n (pc := 62) C dX0_holds_62 rfl rfl ?_
                            refine j_iload (pc := 63) C dX0_holds_63 rfl ?_
                            refine j_iload (pc := 65) C dX0_holds_65 rfl ?_
                            refine j_iload (pc := 67) C dX0_holds_67 rfl ?_
                            replace hk := ob_some hk
                            obtain ⟨r69, h13, hk⟩ := hk
                            refine x_callX (pc := 69) C (vc_X10_goes hS h13) q1388 dX0_holds_69 rfl rfl (Nat.le_of_ble_eq_true rfl) (Nat.le_of_ble_eq_true rfl) (Nat.le_of_ble_eq_true rfl) (Nat.le_of_ble_eq_true rfl) (Nat.le_of_ble_eq_true rfl) ?_
                            refine j_if_ne (pc := 72) 89 C dX0_holds_72 (by decide) (fun h14 => ?_) (fun h14 => ?_)
                            · replace hk := it_f h14 hk
                              refine j_iconst (pc := 89) (v := nI 1) C dX0_holds_89 (by decide) ?_
                              refine j_goto (pc := 90) 94 C dX0_holds_90 (by decide) ?_
                              refine j_istore_n (pc := 94) C dX0_holds_94 rfl (Nat.le_of_ble_eq_true rfl) rfl ?_
                              refine j_iinc (pc := 95) (nI 1) C dX0_holds_95 rfl (by decide) (Nat.le_of_ble_eq_true rfl) rfl ?_
                              refine j_goto (pc := 98) 39 C dX0_holds_98 (by decide) ?_
                              exact j_mask [true, true, true, true, true, true, true] (ih39 _ _ _ hk)
                            · replace hk := it_t h14 hk
                              refine j_aload_n (pc := 75) C dX0_holds_75 rfl rfl ?_
                              refine j_aload_n (pc := 76) C dX0_holds_76 rfl rfl ?_
                              refine j_iload (pc := 77) C dX0_holds_77 rfl ?_
                              refine j_iload (pc := 79) C dX0_holds_79 rfl ?_
                              refine j_iload (pc := 81) C dX0_holds_81 rfl ?_
                              replace hk := bd2_some hk
                              obtain ⟨r83, I83, h15, hk⟩ := hk
                              refine x_callV (pc := 83) C (ct_X0_canBe hS h15) mv_X0_canBe (stN_o0 hS).r rfl rfl q1637 dX0_holds_83 rfl rfl (Nat.le_of_ble_eq_true rfl) rfl ?_
                              refine j_if_ne (pc := 86) 93 C dX0_holds_86 (by decide) (fun h16 => ?_) (fun h16 => ?_)
                              · replace hk := it_f h16 hk
                                refine j_iconst (pc := 93) (v := nI 0) C dX0_holds_93 (by decide) ?_
                                refine j_istore_n (pc := 94) C dX0_holds_94 rfl (Nat.le_of_ble_eq_true rfl) rfl ?_
                                refine j_iinc (pc := 95) (nI 1) C dX0_holds_95 rfl (by decide) (Nat.le_of_ble_eq_true rfl) rfl ?_
                                refine j_goto (pc := 98) 39 C dX0_holds_98 (by decide) ?_
                                exact j_mask [true, true, true, true, true, true, true] (ih39 _ _ _ hk)
                              · replace hk := it_t h16 hk
                                refine j_iconst (pc := 89) (v := nI 1) C dX0_holds_89 (by decide) ?_
                                refine j_goto (pc := 90) 94 C dX0_holds_90 (by decide) ?_
                                refine j_istore_n (pc := 94) C dX0_holds_94 rfl (Nat.le_of_ble_eq_true rfl) rfl ?_
                                refine j_iinc (pc := 95) (nI 1) C dX0_holds_95 rfl (by decide) (Nat.le_of_ble_eq_true rfl) rfl ?_
                                refine j_goto (pc := 98) 39 C dX0_holds_98 (by decide) ?_
                                exact j_mask [true, true, true, true, true, true, true] (ih39 _ _ _ hk)
                      refine j_if_eq (pc := 47) 54 C dX0_holds_47 (by decide) (fun h17 => ?_) (fun h17 => ?_)
                      · replace hk := it_t h17 hk
                        refine j_iconst (pc := 54) (v := nI 1) C dX0_holds_54 (by decide) ?_
                        exact j_mask [true, true, true, true, true, true, true] (Jn55 _ _ _ _ _ hk)
                      · replace hk := it_f h17 hk
                        refine j_iconst (pc := 50) (v := nI 3) C dX0_holds_50 (by decide) ?_
                        refine j_goto (pc := 51) 55 C dX0_holds_51 (by decide) ?_
                        exact j_mask [true, true, true, true, true, true, true] (Jn55 _ _ _ _ _ hk)
                  exact j_mask [true, true, true, true, true, true, true] (L39 _ _ _ _ _ hk)
          exact j_mask [true, true, true, true, true, true, false] (L26 _ _ _ _ _ hk)
  exact j_mask [true, true, true, true, true, false, false] (L10 _ _ _ _ _ _ hk)
def f_X0_isUnder_L10 (F : Nat) (sh : SH) (x1 : Int32) (x2 : Int32) : Nat → Int32 → Int32 → II → Option (Int32 × II)
  | 0, _, _, _ => none
  | n10 + 1, x3, x4, I => orf (sh.2.2 0 1) fun t13 => ock sh t13 2 <| orf (sh.2.2 t13 1) fun t16 => ock sh t16 3 <| (f_J5_size sh t16 I).bind fun r19 => if r19 ≤ x4 then og (x3 = 0 ∨ x3 = 1) <| some (x3, I) else if x3 = 0 then og (x3 = 0 ∨ x3 = 1) <| some (x3, I) else (f_X0_has x1 x4).bind fun r32 => if r32 = 0 then (f_X0_isUnder_L10 F sh x1 x2 n10) (nI 1) (x4 + (nI 1)) I else (f_X0_has x2 x4).bind fun r41 => if r41 = 0 then orf (sh.2.2 0 1) fun t49 => ock sh t49 2 <| orf (sh.2.2 t49 1) fun t52 => ock sh t52 3 <| (f_J5_get sh t52 x4 I).bind fun a57 => ockD sh a57 <| bd2 (f_X0_holds F sh a57 I) fun r63 I63 => if r63 = 0 then (f_X0_isUnder_L10 F sh x1 x2 n10) (nI 0) (x4 + (nI 1)) I63 else (f_X0_isUnder_L10 F sh x1 x2 n10) (nI 1) (x4 + (nI 1)) I63 else (f_X0_isUnder_L10 F sh x1 x2 n10) (nI 1) (x4 + (nI 1)) I
def f_X0_isUnder (F : Nat) (sh : SH) (x1 : Int32) (x2 : Int32) (I : II) : Option (Int32 × II) := (f_X0_weave F sh x2 I).bind fun I2 => f_X0_isUnder_L10 F sh x1 x2 F (nI 1) (nI 0) I2
abbrev rm_X0_isUnder : Room := { frames := 19, cells := 0, slots := 0, locals := 478 }
theorem mv_X0_isUnder_ok : callOK yX0_isUnder 2 := by decide +kernel
theorem mv_X0_isUnder : MV yX0_isUnder cX0_isUnder 5 (some .boolean) 2 := ⟨q1651, qs43, q91, q1652, mv_X0_isUnder_ok⟩
set_option maxHeartbeats 4000000 in
theorem ct_X0_isUnder {G : WG} {l : Launch} {sh : SH} (hS : stN sh) {I : II} {F : Nat} {x1 : Int32} {x2 : Int32} {Z : (Int32 × II)} (hk : f_X0_isUnder F sh x1 x2 I = some Z) : CT G l yX0_isUnder (ws_ yX0_isUnder cX0_isUnder 5 (some .boolean)) rm_X0_isUnder [.ref (wad G 0), .int x1, .int x2] (sh, I) (.returned (some (.int Z.1))) (sh, Z.2) := by
  refine CT.ofJ "NineDemands" rfl (by decide) (Nat.le_of_ble_eq_true rfl) ?_
  intro p e s m args below meth c C
  unfold f_X0_isUnder at hk
  refine j_lv (lv' := [some (.ref (wad G 0)), some (.int x1), some (.int x2), none, none]) rfl ?_
  refine j_aload_n (pc := 0) C dX0_isUnder_0 rfl rfl ?_
  refine j_iload_n (pc := 1) C dX0_isUnder_1 rfl rfl ?_
  replace hk := ob_some hk
  obtain ⟨I2, h1, hk⟩ := hk
  refine x_callV (pc := 2) C (ct_X0_weave hS h1) mv_X0_weave (stN_o0 hS).r rfl rfl q1423 dX0_isUnder_2 rfl rfl (Nat.le_of_ble_eq_true rfl) rfl ?_
  refine j_iconst (pc := 5) (v := nI 1) C dX0_isUnder_5 (by decide) ?_
  refine j_istore_n (pc := 6) C dX0_isUnder_6 rfl (Nat.le_of_ble_eq_true rfl) rfl ?_
  refine j_iconst (pc := 7) (v := nI 0) C dX0_isUnder_7 (by decide) ?_
  refine j_istore (pc := 8) C dX0_isUnder_8 (Nat.le_of_ble_eq_true rfl) rfl ?_
  have L10 : ∀ (x1 : Int32) (x2 : Int32) (n10 : Nat) (x3 : Int32) (x4 : Int32) (I : II), f_X0_isUnder_L10 F sh x1 x2 n10 x3 x4 I = some Z → J G p l e rm_X0_isUnder s m args below meth c 5 (.returned (some (.int Z.1))) (sh, Z.2) (rm_X0_isUnder).cells (rm_X0_isUnder).slots (sh, I) 0 0 10 [some (.ref (wad G 0)), some (.int x1), some (.int x2), some (.int x3), some (.int x4)] [] := by
    intro x1 x2 n10
    induction n10 with
    | zero => intro x3 x4 I hk; rw [f_X0_isUnder_L10] at hk; cases hk
    | succ n10 ih10 =>
      intro x3 x4 I hk
      rw [f_X0_isUnder_L10] at hk
      generalize f_X0_isUnder_L10 F sh x1 x2 n10 = k10 at ih10 hk
      refine j_iload (pc := 10) C dX0_isUnder_10 rfl ?_
      refine j_aload_n (pc := 12) C dX0_isUnder_12 rfl rfl ?_
      replace hk := orf_some hk
      obtain ⟨t13, et13, hk⟩ := hk
      refine x_getR (pc := 13) C fd_0_1 (fl1 C q373) (stN_o0 hS).r et13 dX0_isUnder_13 ?_
      replace hk := ock_some hk
      obtain ⟨h2, hk⟩ := hk
      replace hk := orf_some hk
      obtain ⟨t16, et16, hk⟩ := hk
      refine x_getR (pc := 16) C fd_2_1 (fl3 C q251) h2 et16 dX0_isUnder_16 ?_
      replace hk := ock_some hk
      obtain ⟨h3, hk⟩ := hk
      replace hk := ob_some hk
      obtain ⟨r19, h4, hk⟩ := hk
      refine x_callV (pc := 19) C (ct_J5_size h4) mv_J5_size h3 rfl rfl q514 dX0_isUnder_19 rfl rfl (Nat.le_of_ble_eq_true rfl) rfl ?_
      refine j_icmp_ge (pc := 22) 81 C dX0_isUnder_22 (by decide) (fun h5 => ?_) (fun h5 => ?_)
      · replace hk := it_t h5 hk
        refine j_iload_n (pc := 81) C dX0_isUnder_81 rfl rfl ?_
        replace hk := og_some hk
        obtain ⟨h6, hk⟩ := hk
        obtain rfl := Option.some.inj hk
        exact j_zret (pc := 82) C dX0_isUnder_82 (Nat.le_of_ble_eq_true rfl) (Nat.le_of_ble_eq_true rfl) (isB.nar h6)
      · replace hk := it_f h5 hk
        refine j_iload_n (pc := 25) C dX0_isUnder_25 rfl rfl ?_
        refine j_if_eq (pc := 26) 81 C dX0_isUnder_26 (by decide) (fun h7 => ?_) (fun h7 => ?_)
        · replace hk := it_t h7 hk
          refine j_iload_n (pc := 81) C dX0_isUnder_81 rfl rfl ?_
          replace hk := og_some hk
          obtain ⟨h8, hk⟩ := hk
          obtain rfl := Option.some.inj hk
          exact j_zret (pc := 82) C dX0_isUnder_82 (Nat.le_of_ble_eq_true rfl) (Nat.le_of_ble_eq_true rfl) (isB.nar h8)
        · replace hk := it_f h7 hk
          refine j_iload_n (pc := 29) C dX0_isUnder_29 rfl rfl ?_
          refine j_iload (pc := 30) C dX0_isUnder_30 rfl ?_
          replace hk := ob_some hk
          obtain ⟨r32, h9, hk⟩ := hk
          refine j_callS (pc := 32) C (ct_X0_has h9) ms_X0_has q1431 dX0_isUnder_32 rfl rfl (Nat.le_of_ble_eq_true rfl) rfl ?_
          refine j_if_eq (pc := 35) 69 C dX0_isUnder_35 (by decide) (fun h10 => ?_) (fun h10 => ?_)
          · replace hk := it_t h10 hk
            refine j_iconst (pc := 69) (v := nI 1) C dX0_isUnder_69 (by decide) ?_
            refine j_goto (pc := 70) 74 C dX0_isUnder_70 (by decide) ?_
            refine j_istore_n (pc := 74) C dX0_isUnder_74 rfl (Nat.le_of_ble_eq_true rfl) rfl ?_
            refine j_iinc (pc := 75) (nI 1) C dX0_isUnder_75 rfl (by decide) (Nat.le_of_ble_eq_true rfl) rfl ?_
            refine j_goto (pc := 78) 10 C dX0_isUnder_78 (by decide) ?_
            exact j_mask [true, true, true, true, true] (ih10 _ _ _ hk)
          · replace hk := it_f h10 hk
            refine j_iload_n (pc := 38) C dX0_isUnder_38 rfl rfl ?_
            refine j_iload (pc := 39) C dX0_isUnder_39 rfl ?_
            replace hk := ob_some hk
            obtain ⟨r41, h11, hk⟩ := hk
            refine j_callS (pc := 41) C (ct_X0_has h11) ms_X0_has q1431 dX0_isUnder_41 rfl rfl (Nat.le_of_ble_eq_true rfl) rfl ?_
            refine j_if_ne (pc := 44) 69 C dX0_isUnder_44 (by decide) (fun h12 => ?_) (fun h12 => ?_)
            · replace hk := it_f h12 hk
              refine j_iconst (pc := 69) (v := nI 1) C dX0_isUnder_69 (by decide) ?_
              refine j_goto (pc := 70) 74 C dX0_isUnder_70 (by decide) ?_
              refine j_istore_n (pc := 74) C dX0_isUnder_74 rfl (Nat.le_of_ble_eq_true rfl) rfl ?_
              refine j_iinc (pc := 75) (nI 1) C dX0_isUnder_75 rfl (by decide) (Nat.le_of_ble_eq_true rfl) rfl ?_
              refine j_goto (pc := 78) 10 C dX0_isUnder_78 (by decide) ?_
              exact j_mask [true, true, true, true, true] (ih10 _ _ _ hk)
            · replace hk := it_t h12 hk
              refine j_aload_n (pc := 47) C dX0_isUnder_47 rfl rfl ?_
              refine j_aload_n (pc := 48) C dX0_isUnder_48 rfl rfl ?_
              replace hk := orf_some hk
              obtain ⟨t49, et49, hk⟩ := hk
              refine x_getR (pc := 49) C fd_0_1 (fl1 C q373) (stN_o0 hS).r et49 dX0_isUnder_49 ?_
              replace hk := ock_some hk
              obtain ⟨h13, hk⟩ := hk
              replace hk := orf_some hk
              obtain ⟨t52, et52, hk⟩ := hk
              refine x_getR (pc := 52) C fd_2_1 (fl3 C q251) h13 et52 dX0_isUnder_52 ?_
              refine j_iload (pc := 55) C dX0_isUnder_55 rfl ?_
              replace hk := ock_some hk
              obtain ⟨h14, hk⟩ := hk
              replace hk := ob_some hk
              obtain ⟨a57, h15, hk⟩ := hk
              refine x_callV (pc := 57) C (ct_J5_get h15) mv_J5_get h14 rfl rfl q1329 dX0_isUnder_57 rfl rfl (Nat.le_of_ble_eq_true rfl) rfl ?_
              refine j_stk (st' := [.ref (wad G a57), .ref (wad G 0)]) rfl ?_
              replace hk := ockD_some hk
              obtain ⟨ch16, ch16h, h16, hk⟩ := hk
              obtain ⟨cr60, hcr60, hcs60⟩ := castD_NineDemands_Demand ch16h
              refine x_cast (pc := 60) C h16 hcr60 q640 hcs60 dX0_isUnder_60 ?_
              replace hk := bd2_some hk
              obtain ⟨r63, I63, h17, hk⟩ := hk
              refine x_callV (pc := 63) C (ct_X0_holds hS h17) mv_X0_holds (stN_o0 hS).r rfl rfl q1633 dX0_isUnder_63 rfl rfl (Nat.le_of_ble_eq_true rfl) rfl ?_
              refine j_if_eq (pc := 66) 73 C dX0_isUnder_66 (by decide) (fun h18 => ?_) (fun h18 => ?_)
              · replace hk := it_t h18 hk
                refine j_iconst (pc := 73) (v := nI 0) C dX0_isUnder_73 (by decide) ?_
                refine j_istore_n (pc := 74) C dX0_isUnder_74 rfl (Nat.le_of_ble_eq_true rfl) rfl ?_
                refine j_iinc (pc := 75) (nI 1) C dX0_isUnder_75 rfl (by decide) (Nat.le_of_ble_eq_true rfl) rfl ?_
                refine j_goto (pc := 78) 10 C dX0_isUnder_78 (by decide) ?_
                exact j_mask [true, true, true, true, true] (ih10 _ _ _ hk)
              · replace hk := it_f h18 hk
                refine j_iconst (pc := 69) (v := nI 1) C dX0_isUnder_69 (by decide) ?_
                refine j_goto (pc := 70) 74 C dX0_isUnder_70 (by decide) ?_
                refine j_istore_n (pc := 74) C dX0_isUnder_74 rfl (Nat.le_of_ble_eq_true rfl) rfl ?_
                refine j_iinc (pc := 75) (nI 1) C dX0_isUnder_75 rfl (by decide) (Nat.le_of_ble_eq_true rfl) rfl ?_
                refine j_goto (pc := 78) 10 C dX0_isUnder_78 (by decide) ?_
                exact j_mask [true, true, true, true, true] (ih10 _ _ _ hk)
  exact j_mask [true, true, true, true, true] (L10 _ _ _ _ _ _ hk)
def f_X0_same_J50 (F : Nat) (sh : SH) (s0 : Nat) (I : II) : Option (Int32 × II) := bd2 (f_X0_finds sh s0 I) fun r53 I53 => some (r53, I53)
def f_X0_same_J22 (F : Nat) (sh : SH) (x1 : Int32) (x2 : Int32) (s1 : Int32) (I : II) : Option (Int32 × II) := bd2 (f_X0_need sh s1 (nI 1) I) fun u23 I23 => oex u23 (fun _w23 => bd2 (f_X0_isUnder F sh x1 x2 I23) fun r29 I29 => if r29 = 0 then some ((nI 0), I29) else bd2 (f_X0_isUnder F sh x2 x1 I29) fun r38 I38 => if r38 = 0 then some ((nI 0), I38) else some ((nI 1), I38)) (fun w23 => ock sh w23 1 <| f_X0_same_J50 F sh w23 I23)
def f_X0_same_J21 (F : Nat) (sh : SH) (x1 : Int32) (x2 : Int32) (I : II) : Option (Int32 × II) := f_X0_same_J22 F sh x1 x2 (nI 0) I
def f_X0_same (F : Nat) (sh : SH) (x1 : Int32) (x2 : Int32) (I : II) : Option (Int32 × II) := (f_X0_isSet sh x1 I).bind fun r3 => if r3 = 0 then f_X0_same_J21 F sh x1 x2 I else (f_X0_isSet sh x2 I).bind fun r11 => if r11 = 0 then f_X0_same_J21 F sh x1 x2 I else f_X0_same_J22 F sh x1 x2 (nI 1) I
abbrev rm_X0_same : Room := { frames := 20, cells := 0, slots := 0, locals := 502 }
theorem mv_X0_same_ok : callOK yX0_same 2 := by decide +kernel
theorem mw_X0_same : MW yX0_same cX0_same 4 (some .int) [(0, 49, 50, 8)] 2 := ⟨q1646, q1647, q91, q1648, mv_X0_same_ok⟩
set_option maxHeartbeats 4000000 in
theorem ct_X0_same {G : WG} {l : Launch} {sh : SH} (hS : stN sh) {I : II} {F : Nat} {x1 : Int32} {x2 : Int32} {Z : (Int32 × II)} (hk : f_X0_same F sh x1 x2 I = some Z) : CT G l yX0_same (wsW_ yX0_same cX0_same 4 (some .int) [(0, 49, 50, 8)]) rm_X0_same [.ref (wad G 0), .int x1, .int x2] (sh, I) (.returned (some (.int Z.1))) (sh, Z.2) := by
  refine CT.ofJW "NineDemands" rfl (by decide) (Nat.le_of_ble_eq_true rfl) ?_
  intro p e s m args below meth c C
  unfold f_X0_same at hk
  refine j_lv (lv' := [some (.ref (wad G 0)), some (.int x1), some (.int x2), none]) rfl ?_
  refine j_aload_n (pc := 0) C dX0_same_0 rfl rfl ?_
  refine j_aload_n (pc := 1) C dX0_same_1 rfl rfl ?_
  refine j_iload_n (pc := 2) C dX0_same_2 rfl rfl ?_
  replace hk := ob_some hk
  obtain ⟨r3, h1, hk⟩ := hk
  refine x_callV (pc := 3) C (ct_X0_isSet hS h1) mv_X0_isSet (stN_o0 hS).r rfl rfl q1415 dX0_same_3 rfl rfl (Nat.le_of_ble_eq_true rfl) rfl ?_
  have Jn22 : ∀ (x1 : Int32) (x2 : Int32) (s1 : Int32) (I : II), f_X0_same_J22 F sh x1 x2 s1 I = some Z → J G p l e rm_X0_same s m args below meth c 4 (.returned (some (.int Z.1))) (sh, Z.2) (rm_X0_same).cells (rm_X0_same).slots (sh, I) 0 0 22 [some (.ref (wad G 0)), some (.int x1), some (.int x2), none] [.int s1, .ref (wad G 0)] := by
    intro x1 x2 s1 I hk
    unfold f_X0_same_J22 at hk
    refine j_iconst (pc := 22) (v := nI 1) C dX0_same_22 (by decide) ?_
    have Jn50 : ∀ (s0 : Nat) (I : II), f_X0_same_J50 F sh s0 I = some Z → J G p l e rm_X0_same s m args below meth c 4 (.returned (some (.int Z.1))) (sh, Z.2) (rm_X0_same).cells (rm_X0_same).slots (sh, I) 0 0 50 [some (.ref (wad G 0)), none, none, none] [.ref (wad G s0)] := by
      intro s0 I hk
      unfold f_X0_same_J50 at hk
      refine j_astore_n (pc := 50) C dX0_same_50 rfl (Nat.le_of_ble_eq_true rfl) rfl ?_
      refine j_aload_n (pc := 51) C dX0_same_51 rfl rfl ?_
      refine j_aload_n (pc := 52) C dX0_same_52 rfl rfl ?_
      replace hk := bd2_some hk
      obtain ⟨r53, I53, h2, hk⟩ := hk
      refine x_callV (pc := 53) C (ct_X0_finds hS h2) mv_X0_finds (stN_o0 hS).r rfl rfl q433 dX0_same_53 rfl rfl (Nat.le_of_ble_eq_true rfl) rfl ?_
      obtain rfl := Option.some.inj hk
      exact j_iret (pc := 56) C dX0_same_56 (Nat.le_of_ble_eq_true rfl) (Nat.le_of_ble_eq_true rfl)
    replace hk := bd2_some hk
    obtain ⟨u23, I23, h3, hk⟩ := hk
    cases u23 with
    | inr w23 =>
      replace hk := oex_r hk
      replace hk := ock_some hk
      obtain ⟨h5, hk⟩ := hk
      refine x_callVC [] [] (0, 49, 50, 8) (pc := 23) C (ct_X0_need hS h3) mv_X0_need (stN_o0 hS).r rfl rfl q416 dX0_same_23 rfl rfl (Nat.le_of_ble_eq_true rfl) rfl rfl h5 rfl (by decide) (by decide) q146 (fun z hz => by cases hz) ?_
      exact j_mask [true, false, false, false] (Jn50 _ _ hk)
    | inl _w23 =>
      replace hk := oex_l hk
      refine x_callV (pc := 23) C (ct_X0_need hS h3) mv_X0_need (stN_o0 hS).r rfl rfl q416 dX0_same_23 rfl rfl (Nat.le_of_ble_eq_true rfl) rfl ?_
      refine j_aload_n (pc := 26) C dX0_same_26 rfl rfl ?_
      refine j_iload_n (pc := 27) C dX0_same_27 rfl rfl ?_
      refine j_iload_n (pc := 28) C dX0_same_28 rfl rfl ?_
      replace hk := bd2_some hk
      obtain ⟨r29, I29, h6, hk⟩ := hk
      refine x_callV (pc := 29) C (ct_X0_isUnder hS h6) mv_X0_isUnder (stN_o0 hS).r rfl rfl q1649 dX0_same_29 rfl rfl (Nat.le_of_ble_eq_true rfl) rfl ?_
      refine j_if_eq (pc := 32) 48 C dX0_same_32 (by decide) (fun h7 => ?_) (fun h7 => ?_)
      · replace hk := it_t h7 hk
        refine j_iconst (pc := 48) (v := nI 0) C dX0_same_48 (by decide) ?_
        obtain rfl := Option.some.inj hk
        exact j_iret (pc := 49) C dX0_same_49 (Nat.le_of_ble_eq_true rfl) (Nat.le_of_ble_eq_true rfl)
      · replace hk := it_f h7 hk
        refine j_aload_n (pc := 35) C dX0_same_35 rfl rfl ?_
        refine j_iload_n (pc := 36) C dX0_same_36 rfl rfl ?_
        refine j_iload_n (pc := 37) C dX0_same_37 rfl rfl ?_
        replace hk := bd2_some hk
        obtain ⟨r38, I38, h8, hk⟩ := hk
        refine x_callV (pc := 38) C (ct_X0_isUnder hS h8) mv_X0_isUnder (stN_o0 hS).r rfl rfl q1649 dX0_same_38 rfl rfl (Nat.le_of_ble_eq_true rfl) rfl ?_
        refine j_if_eq (pc := 41) 48 C dX0_same_41 (by decide) (fun h9 => ?_) (fun h9 => ?_)
        · replace hk := it_t h9 hk
          refine j_iconst (pc := 48) (v := nI 0) C dX0_same_48 (by decide) ?_
          obtain rfl := Option.some.inj hk
          exact j_iret (pc := 49) C dX0_same_49 (Nat.le_of_ble_eq_true rfl) (Nat.le_of_ble_eq_true rfl)
        · replace hk := it_f h9 hk
          refine j_iconst (pc := 44) (v := nI 1) C dX0_same_44 (by decide) ?_
          refine j_goto (pc := 45) 49 C dX0_same_45 (by decide) ?_
          obtain rfl := Option.some.inj hk
          exact j_iret (pc := 49) C dX0_same_49 (Nat.le_of_ble_eq_true rfl) (Nat.le_of_ble_eq_true rfl)
  have Jn21 : ∀ (x1 : Int32) (x2 : Int32) (I : II), f_X0_same_J21 F sh x1 x2 I = some Z → J G p l e rm_X0_same s m args below meth c 4 (.returned (some (.int Z.1))) (sh, Z.2) (rm_X0_same).cells (rm_X0_same).slots (sh, I) 0 0 21 [some (.ref (wad G 0)), some (.int x1), some (.int x2), none] [.ref (wad G 0)] := by
    intro x1 x2 I hk
    unfold f_X0_same_J21 at hk
    refine j_iconst (pc := 21) (v := nI 0) C dX0_same_21 (by decide) ?_
    exact j_mask [true, true, true, false] (Jn22 _ _ _ _ hk)
  refine j_if_eq (pc := 6) 21 C dX0_same_6 (by decide) (fun h10 => ?_) (fun h10 => ?_)
  · replace hk := it_t h10 hk
    exact j_mask [true, true, true, false] (Jn21 _ _ _ hk)
  · replace hk := it_f h10 hk
    refine j_aload_n (pc := 9) C dX0_same_9 rfl rfl ?_
    refine j_iload_n (pc := 10) C dX0_same_10 rfl rfl ?_
    replace hk := ob_some hk
    obtain ⟨r11, h11, hk⟩ := hk
    refine x_callV (pc := 11) C (ct_X0_isSet hS h11) mv_X0_isSet (stN_o0 hS).r rfl rfl q1415 dX0_same_11 rfl rfl (Nat.le_of_ble_eq_true rfl) rfl ?_
    refine j_if_eq (pc := 14) 21 C dX0_same_14 (by decide) (fun h12 => ?_) (fun h12 => ?_)
    · replace hk := it_t h12 hk
      exact j_mask [true, true, true, false] (Jn21 _ _ _ hk)
    · replace hk := it_f h12 hk
      refine j_iconst (pc := 17) (v := nI 1) C dX0_same_17 (by decide) ?_
      refine j_goto (pc := 18) 22 C dX0_same_18 (by decide) ?_
      exact j_mask [true, true, true, false] (Jn22 _ _ _ _ hk)
def f_X0_spare_J84 (F : Nat) (sh : SH) (s0 : Nat) (I : II) : Option (Int32 × II) := bd2 (f_X0_finds sh s0 I) fun r87 I87 => some (r87, I87)
def f_X0_spare_L14 (F : Nat) (sh : SH) (x1 : Int32) : Nat → Int32 → Int32 → II → Option (Int32 × II)
  | 0, _, _, _ => none
  | n14 + 1, x2, x3, I => orf (sh.2.2 0 1) fun t16 => ock sh t16 2 <| orf (sh.2.2 t16 1) fun t19 => ock sh t19 3 <| (f_J5_size sh t19 I).bind fun r22 => if r22 ≤ x3 then some (x2, I) else (f_X0_has x1 x3).bind fun r30 => if r30 = 0 then (f_X0_spare_L14 F sh x1 n14) x2 (x3 + (nI 1)) I else (f_X0_weave F sh (x1 ^^^ ((nI 1) <<< (x3 &&& 31))) I).bind fun I42 => orf (sh.2.2 0 1) fun t48 => ock sh t48 2 <| orf (sh.2.2 t48 1) fun t51 => ock sh t51 3 <| (f_J5_get sh t51 x3 I42).bind fun a55 => ockD sh a55 <| bd2 (f_X0_holds F sh a55 I42) fun r61 I61 => if r61 = 0 then (f_X0_spare_L14 F sh x1 n14) (x2 ||| (nI 0)) (x3 + (nI 1)) I61 else (f_X0_spare_L14 F sh x1 n14) (x2 ||| ((nI 1) <<< (x3 &&& 31))) (x3 + (nI 1)) I61
def f_X0_spare (F : Nat) (sh : SH) (x1 : Int32) (I : II) : Option (Int32 × II) := (f_X0_isSet sh x1 I).bind fun r3 => bd2 (f_X0_need sh r3 (nI 1) I) fun u7 I7 => oex u7 (fun _w7 => f_X0_spare_L14 F sh x1 F (nI 0) (nI 0) I7) (fun w7 => ock sh w7 1 <| f_X0_spare_J84 F sh w7 I7)
abbrev rm_X0_spare : Room := { frames := 19, cells := 0, slots := 0, locals := 478 }
theorem mv_X0_spare_ok : callOK yX0_spare 1 := by decide +kernel
theorem mw_X0_spare : MW yX0_spare cX0_spare 4 (some .int) [(0, 83, 84, 8)] 1 := ⟨q1642, q1643, q91, q1644, mv_X0_spare_ok⟩
set_option maxHeartbeats 4000000 in
theorem ct_X0_spare {G : WG} {l : Launch} {sh : SH} (hS : stN sh) {I : II} {F : Nat} {x1 : Int32} {Z : (Int32 × II)} (hk : f_X0_spare F sh x1 I = some Z) : CT G l yX0_spare (wsW_ yX0_spare cX0_spare 4 (some .int) [(0, 83, 84, 8)]) rm_X0_spare [.ref (wad G 0), .int x1] (sh, I) (.returned (some (.int Z.1))) (sh, Z.2) := by
  refine CT.ofJW "NineDemands" rfl (by decide) (Nat.le_of_ble_eq_true rfl) ?_
  intro p e s m args below meth c C
  unfold f_X0_spare at hk
  refine j_lv (lv' := [some (.ref (wad G 0)), some (.int x1), none, none]) rfl ?_
  refine j_aload_n (pc := 0) C dX0_spare_0 rfl rfl ?_
  refine j_aload_n (pc := 1) C dX0_spare_1 rfl rfl ?_
  refine j_iload_n (pc := 2) C dX0_spare_2 rfl rfl ?_
  replace hk := ob_some hk
  obtain ⟨r3, h1, hk⟩ := hk
  refine x_callV (pc := 3) C (ct_X0_isSet hS h1) mv_X0_isSet (stN_o0 hS).r rfl rfl q1415 dX0_spare_3 rfl rfl (Nat.le_of_ble_eq_true rfl) rfl ?_
  refine j_iconst (pc := 6) (v := nI 1) C dX0_spare_6 (by decide) ?_
  have Jn84 : ∀ (s0 : Nat) (I : II), f_X0_spare_J84 F sh s0 I = some Z → J G p l e rm_X0_spare s m args below meth c 4 (.returned (some (.int Z.1))) (sh, Z.2) (rm_X0_spare).cells (rm_X0_spare).slots (sh, I) 0 0 84 [some (.ref (wad G 0)), none, none, none] [.ref (wad G s0)] := by
    intro s0 I hk
    unfold f_X0_spare_J84 at hk
    refine j_astore_n (pc := 84) C dX0_spare_84 rfl (Nat.le_of_ble_eq_true rfl) rfl ?_
    refine j_aload_n (pc := 85) C dX0_spare_85 rfl rfl ?_
    refine j_aload_n (pc := 86) C dX0_spare_86 rfl rfl ?_
    replace hk := bd2_some hk
    obtain ⟨r87, I87, h2, hk⟩ := hk
    refine x_callV (pc := 87) C (ct_X0_finds hS h2) mv_X0_finds (stN_o0 hS).r rfl rfl q433 dX0_spare_87 rfl rfl (Nat.le_of_ble_eq_true rfl) rfl ?_
    obtain rfl := Option.some.inj hk
    exact j_iret (pc := 90) C dX0_spare_90 (Nat.le_of_ble_eq_true rfl) (Nat.le_of_ble_eq_true rfl)
  replace hk := bd2_some hk
  obtain ⟨u7, I7, h3, hk⟩ := hk
  cases u7 with
  | inr w7 =>
    replace hk := oex_r hk
    replace hk := ock_some hk
    obtain ⟨h5, hk⟩ := hk
    refine x_callVC [] [] (0, 83, 84, 8) (pc := 7) C (ct_X0_need hS h3) mv_X0_need (stN_o0 hS).r rfl rfl q416 dX0_spare_7 rfl rfl (Nat.le_of_ble_eq_true rfl) rfl rfl h5 rfl (by decide) (by decide) q146 (fun z hz => by cases hz) ?_
    exact j_mask [true, false, false, false] (Jn84 _ _ hk)
  | inl _w7 =>
    replace hk := oex_l hk
    refine x_callV (pc := 7) C (ct_X0_need hS h3) mv_X0_need (stN_o0 hS).r rfl rfl q416 dX0_spare_7 rfl rfl (Nat.le_of_ble_eq_true rfl) rfl ?_
    refine j_iconst (pc := 10) (v := nI 0) C dX0_spare_10 (by decide) ?_
    refine j_istore_n (pc := 11) C dX0_spare_11 rfl (Nat.le_of_ble_eq_true rfl) rfl ?_
    refine j_iconst (pc := 12) (v := nI 0) C dX0_spare_12 (by decide) ?_
    refine j_istore_n (pc := 13) C dX0_spare_13 rfl (Nat.le_of_ble_eq_true rfl) rfl ?_
    have L14 : ∀ (x1 : Int32) (n14 : Nat) (x2 : Int32) (x3 : Int32) (I : II), f_X0_spare_L14 F sh x1 n14 x2 x3 I = some Z → J G p l e rm_X0_spare s m args below meth c 4 (.returned (some (.int Z.1))) (sh, Z.2) (rm_X0_spare).cells (rm_X0_spare).slots (sh, I) 0 0 14 [some (.ref (wad G 0)), some (.int x1), some (.int x2), some (.int x3)] [] := by
      intro x1 n14
      induction n14 with
      | zero => intro x2 x3 I hk; rw [f_X0_spare_L14] at hk; cases hk
      | succ n14 ih14 =>
        intro x2 x3 I hk
        rw [f_X0_spare_L14] at hk
        generalize f_X0_spare_L14 F sh x1 n14 = k14 at ih14 hk
        refine j_iload_n (pc := 14) C dX0_spare_14 rfl rfl ?_
        refine j_aload_n (pc := 15) C dX0_spare_15 rfl rfl ?_
        replace hk := orf_some hk
        obtain ⟨t16, et16, hk⟩ := hk
        refine x_getR (pc := 16) C fd_0_1 (fl1 C q373) (stN_o0 hS).r et16 dX0_spare_16 ?_
        replace hk := ock_some hk
        obtain ⟨h6, hk⟩ := hk
        replace hk := orf_some hk
        obtain ⟨t19, et19, hk⟩ := hk
        refine x_getR (pc := 19) C fd_2_1 (fl3 C q251) h6 et19 dX0_spare_19 ?_
        replace hk := ock_some hk
        obtain ⟨h7, hk⟩ := hk
        replace hk := ob_some hk
        obtain ⟨r22, h8, hk⟩ := hk
        refine x_callV (pc := 22) C (ct_J5_size h8) mv_J5_size h7 rfl rfl q514 dX0_spare_22 rfl rfl (Nat.le_of_ble_eq_true rfl) rfl ?_
        refine j_icmp_ge (pc := 25) 82 C dX0_spare_25 (by decide) (fun h9 => ?_) (fun h9 => ?_)
        · replace hk := it_t h9 hk
          refine j_iload_n (pc := 82) C dX0_spare_82 rfl rfl ?_
          obtain rfl := Option.some.inj hk
          exact j_iret (pc := 83) C dX0_spare_83 (Nat.le_of_ble_eq_true rfl) (Nat.le_of_ble_eq_true rfl)
        · replace hk := it_f h9 hk
          refine j_iload_n (pc := 28) C dX0_spare_28 rfl rfl ?_
          refine j_iload_n (pc := 29) C dX0_spare_29 rfl rfl ?_
          replace hk := ob_some hk
          obtain ⟨r30, h10, hk⟩ := hk
          refine j_callS (pc := 30) C (ct_X0_has h10) ms_X0_has q1431 dX0_spare_30 rfl rfl (Nat.le_of_ble_eq_true rfl) rfl ?_
          refine j_if_eq (pc := 33) 76 C dX0_spare_33 (by decide) (fun h11 => ?_) (fun h11 => ?_)
          · replace hk := it_t h11 hk
            refine j_iinc (pc := 76) (nI 1) C dX0_spare_76 rfl (by decide) (Nat.le_of_ble_eq_true rfl) rfl ?_
            refine j_goto (pc := 79) 14 C dX0_spare_79 (by decide) ?_
            exact j_mask [true, true, true, true] (ih14 _ _ _ hk)
          · replace hk := it_f h11 hk
            refine j_aload_n (pc := 36) C dX0_spare_36 rfl rfl ?_
            refine j_iload_n (pc := 37) C dX0_spare_37 rfl rfl ?_
            refine j_iconst (pc := 38) (v := nI 1) C dX0_spare_38 (by decide) ?_
            refine j_iload_n (pc := 39) C dX0_spare_39 rfl rfl ?_
            refine j_ishl (pc := 40) C dX0_spare_40 ?_
            refine j_ixor (pc := 41) C dX0_spare_41 ?_
            replace hk := ob_some hk
            obtain ⟨I42, h12, hk⟩ := hk
            refine x_callV (pc := 42) C (ct_X0_weave hS h12) mv_X0_weave (stN_o0 hS).r rfl rfl q1423 dX0_spare_42 rfl rfl (Nat.le_of_ble_eq_true rfl) rfl ?_
            refine j_iload_n (pc := 45) C dX0_spare_45 rfl rfl ?_
            refine j_aload_n (pc := 46) C dX0_spare_46 rfl rfl ?_
            refine j_aload_n (pc := 47) C dX0_spare_47 rfl rfl ?_
            replace hk := orf_some hk
            obtain ⟨t48, et48, hk⟩ := hk
            refine x_getR (pc := 48) C fd_0_1 (fl1 C q373) (stN_o0 hS).r et48 dX0_spare_48 ?_
            replace hk := ock_some hk
            obtain ⟨h13, hk⟩ := hk
            replace hk := orf_some hk
            obtain ⟨t51, et51, hk⟩ := hk
            refine x_getR (pc := 51) C fd_2_1 (fl3 C q251) h13 et51 dX0_spare_51 ?_
            refine j_iload_n (pc := 54) C dX0_spare_54 rfl rfl ?_
            replace hk := ock_some hk
            obtain ⟨h14, hk⟩ := hk
            replace hk := ob_some hk
            obtain ⟨a55, h15, hk⟩ := hk
            refine x_callV (pc := 55) C (ct_J5_get h15) mv_J5_get h14 rfl rfl q1329 dX0_spare_55 rfl rfl (Nat.le_of_ble_eq_true rfl) rfl ?_
            refine j_stk (st' := [.ref (wad G a55), .ref (wad G 0), .int x2]) rfl ?_
            replace hk := ockD_some hk
            obtain ⟨ch16, ch16h, h16, hk⟩ := hk
            obtain ⟨cr58, hcr58, hcs58⟩ := castD_NineDemands_Demand ch16h
            refine x_cast (pc := 58) C h16 hcr58 q640 hcs58 dX0_spare_58 ?_
            replace hk := bd2_some hk
            obtain ⟨r61, I61, h17, hk⟩ := hk
            refine x_callV (pc := 61) C (ct_X0_holds hS h17) mv_X0_holds (stN_o0 hS).r rfl rfl q1633 dX0_spare_61 rfl rfl (Nat.le_of_ble_eq_true rfl) rfl ?_
            refine j_if_eq (pc := 64) 73 C dX0_spare_64 (by decide) (fun h18 => ?_) (fun h18 => ?_)
            · replace hk := it_t h18 hk
              refine j_iconst (pc := 73) (v := nI 0) C dX0_spare_73 (by decide) ?_
              refine j_ior (pc := 74) C dX0_spare_74 ?_
              refine j_istore_n (pc := 75) C dX0_spare_75 rfl (Nat.le_of_ble_eq_true rfl) rfl ?_
              refine j_iinc (pc := 76) (nI 1) C dX0_spare_76 rfl (by decide) (Nat.le_of_ble_eq_true rfl) rfl ?_
              refine j_goto (pc := 79) 14 C dX0_spare_79 (by decide) ?_
              exact j_mask [true, true, true, true] (ih14 _ _ _ hk)
            · replace hk := it_f h18 hk
              refine j_iconst (pc := 67) (v := nI 1) C dX0_spare_67 (by decide) ?_
              refine j_iload_n (pc := 68) C dX0_spare_68 rfl rfl ?_
              refine j_ishl (pc := 69) C dX0_spare_69 ?_
              refine j_goto (pc := 70) 74 C dX0_spare_70 (by decide) ?_
              refine j_ior (pc := 74) C dX0_spare_74 ?_
              refine j_istore_n (pc := 75) C dX0_spare_75 rfl (Nat.le_of_ble_eq_true rfl) rfl ?_
              refine j_iinc (pc := 76) (nI 1) C dX0_spare_76 rfl (by decide) (Nat.le_of_ble_eq_true rfl) rfl ?_
              refine j_goto (pc := 79) 14 C dX0_spare_79 (by decide) ?_
              exact j_mask [true, true, true, true] (ih14 _ _ _ hk)
    exact j_mask [true, true, true, true] (L14 _ _ _ _ _ hk)
def f_X0_follows_J58 (F : Nat) (sh : SH) (s0 : Nat) (I : II) : Option (Int32 × II) := bd2 (f_X0_finds sh s0 I) fun r61 I61 => some (r61, I61)
def f_X0_follows_J22 (F : Nat) (sh : SH) (x1 : Int32) (x2 : Int32) (s1 : Int32) (I : II) : Option (Int32 × II) := bd2 (f_X0_need sh s1 (nI 1) I) fun u23 I23 => oex u23 (fun _w23 => (f_X0_weave F sh x1 I23).bind fun I28 => orf (sh.2.2 0 1) fun t33 => ock sh t33 2 <| orf (sh.2.2 t33 1) fun t36 => ock sh t36 3 <| (f_J5_get sh t36 x2 I28).bind fun a40 => ockD sh a40 <| bd2 (f_X0_holds F sh a40 I28) fun r46 I46 => if r46 = 0 then some ((nI 0), I46) else some ((nI 1), I46)) (fun w23 => ock sh w23 1 <| f_X0_follows_J58 F sh w23 I23)
def f_X0_follows_J21 (F : Nat) (sh : SH) (x1 : Int32) (x2 : Int32) (I : II) : Option (Int32 × II) := f_X0_follows_J22 F sh x1 x2 (nI 0) I
def f_X0_follows (F : Nat) (sh : SH) (x1 : Int32) (x2 : Int32) (I : II) : Option (Int32 × II) := (f_X0_isSet sh x1 I).bind fun r3 => if r3 = 0 then f_X0_follows_J21 F sh x1 x2 I else (f_X0_isLaw sh x2 I).bind fun r11 => if r11 = 0 then f_X0_follows_J21 F sh x1 x2 I else f_X0_follows_J22 F sh x1 x2 (nI 1) I
abbrev rm_X0_follows : Room := { frames := 19, cells := 0, slots := 0, locals := 478 }
theorem mv_X0_follows_ok : callOK yX0_follows 2 := by decide +kernel
theorem mw_X0_follows : MW yX0_follows cX0_follows 4 (some .int) [(0, 57, 58, 8)] 2 := ⟨q1630, q1631, q91, q1632, mv_X0_follows_ok⟩
set_option maxHeartbeats 4000000 in
theorem ct_X0_follows {G : WG} {l : Launch} {sh : SH} (hS : stN sh) {I : II} {F : Nat} {x1 : Int32} {x2 : Int32} {Z : (Int32 × II)} (hk : f_X0_follows F sh x1 x2 I = some Z) : CT G l yX0_follows (wsW_ yX0_follows cX0_follows 4 (some .int) [(0, 57, 58, 8)]) rm_X0_follows [.ref (wad G 0), .int x1, .int x2] (sh, I) (.returned (some (.int Z.1))) (sh, Z.2) := by
  refine CT.ofJW "NineDemands" rfl (by decide) (Nat.le_of_ble_eq_true rfl) ?_
  intro p e s m args below meth c C
  unfold f_X0_follows at hk
  refine j_lv (lv' := [some (.ref (wad G 0)), some (.int x1), some (.int x2), none]) rfl ?_
  refine j_aload_n (pc := 0) C dX0_follows_0 rfl rfl ?_
  refine j_aload_n (pc := 1) C dX0_follows_1 rfl rfl ?_
  refine j_iload_n (pc := 2) C dX0_follows_2 rfl rfl ?_
  replace hk := ob_some hk
  obtain ⟨r3, h1, hk⟩ := hk
  refine x_callV (pc := 3) C (ct_X0_isSet hS h1) mv_X0_isSet (stN_o0 hS).r rfl rfl q1415 dX0_follows_3 rfl rfl (Nat.le_of_ble_eq_true rfl) rfl ?_
  have Jn22 : ∀ (x1 : Int32) (x2 : Int32) (s1 : Int32) (I : II), f_X0_follows_J22 F sh x1 x2 s1 I = some Z → J G p l e rm_X0_follows s m args below meth c 4 (.returned (some (.int Z.1))) (sh, Z.2) (rm_X0_follows).cells (rm_X0_follows).slots (sh, I) 0 0 22 [some (.ref (wad G 0)), some (.int x1), some (.int x2), none] [.int s1, .ref (wad G 0)] := by
    intro x1 x2 s1 I hk
    unfold f_X0_follows_J22 at hk
    refine j_iconst (pc := 22) (v := nI 1) C dX0_follows_22 (by decide) ?_
    have Jn58 : ∀ (s0 : Nat) (I : II), f_X0_follows_J58 F sh s0 I = some Z → J G p l e rm_X0_follows s m args below meth c 4 (.returned (some (.int Z.1))) (sh, Z.2) (rm_X0_follows).cells (rm_X0_follows).slots (sh, I) 0 0 58 [some (.ref (wad G 0)), none, none, none] [.ref (wad G s0)] := by
      intro s0 I hk
      unfold f_X0_follows_J58 at hk
      refine j_astore_n (pc := 58) C dX0_follows_58 rfl (Nat.le_of_ble_eq_true rfl) rfl ?_
      refine j_aload_n (pc := 59) C dX0_follows_59 rfl rfl ?_
      refine j_aload_n (pc := 60) C dX0_follows_60 rfl rfl ?_
      replace hk := bd2_some hk
      obtain ⟨r61, I61, h2, hk⟩ := hk
      refine x_callV (pc := 61) C (ct_X0_finds hS h2) mv_X0_finds (stN_o0 hS).r rfl rfl q433 dX0_follows_61 rfl rfl (Nat.le_of_ble_eq_true rfl) rfl ?_
      obtain rfl := Option.some.inj hk
      exact j_iret (pc := 64) C dX0_follows_64 (Nat.le_of_ble_eq_true rfl) (Nat.le_of_ble_eq_true rfl)
    replace hk := bd2_some hk
    obtain ⟨u23, I23, h3, hk⟩ := hk
    cases u23 with
    | inr w23 =>
      replace hk := oex_r hk
      replace hk := ock_some hk
      obtain ⟨h5, hk⟩ := hk
      refine x_callVC [] [] (0, 57, 58, 8) (pc := 23) C (ct_X0_need hS h3) mv_X0_need (stN_o0 hS).r rfl rfl q416 dX0_follows_23 rfl rfl (Nat.le_of_ble_eq_true rfl) rfl rfl h5 rfl (by decide) (by decide) q146 (fun z hz => by cases hz) ?_
      exact j_mask [true, false, false, false] (Jn58 _ _ hk)
    | inl _w23 =>
      replace hk := oex_l hk
      refine x_callV (pc := 23) C (ct_X0_need hS h3) mv_X0_need (stN_o0 hS).r rfl rfl q416 dX0_follows_23 rfl rfl (Nat.le_of_ble_eq_true rfl) rfl ?_
      refine j_aload_n (pc := 26) C dX0_follows_26 rfl rfl ?_
      refine j_iload_n (pc := 27) C dX0_follows_27 rfl rfl ?_
      replace hk := ob_some hk
      obtain ⟨I28, h6, hk⟩ := hk
      refine x_callV (pc := 28) C (ct_X0_weave hS h6) mv_X0_weave (stN_o0 hS).r rfl rfl q1423 dX0_follows_28 rfl rfl (Nat.le_of_ble_eq_true rfl) rfl ?_
      refine j_aload_n (pc := 31) C dX0_follows_31 rfl rfl ?_
      refine j_aload_n (pc := 32) C dX0_follows_32 rfl rfl ?_
      replace hk := orf_some hk
      obtain ⟨t33, et33, hk⟩ := hk
      refine x_getR (pc := 33) C fd_0_1 (fl1 C q373) (stN_o0 hS).r et33 dX0_follows_33 ?_
      replace hk := ock_some hk
      obtain ⟨h7, hk⟩ := hk
      replace hk := orf_some hk
      obtain ⟨t36, et36, hk⟩ := hk
      refine x_getR (pc := 36) C fd_2_1 (fl3 C q251) h7 et36 dX0_follows_36 ?_
      refine j_iload_n (pc := 39) C dX0_follows_39 rfl rfl ?_
      replace hk := ock_some hk
      obtain ⟨h8, hk⟩ := hk
      replace hk := ob_some hk
      obtain ⟨a40, h9, hk⟩ := hk
      refine x_callV (pc := 40) C (ct_J5_get h9) mv_J5_get h8 rfl rfl q1329 dX0_follows_40 rfl rfl (Nat.le_of_ble_eq_true rfl) rfl ?_
      refine j_stk (st' := [.ref (wad G a40), .ref (wad G 0)]) rfl ?_
      replace hk := ockD_some hk
      obtain ⟨ch10, ch10h, h10, hk⟩ := hk
      obtain ⟨cr43, hcr43, hcs43⟩ := castD_NineDemands_Demand ch10h
      refine x_cast (pc := 43) C h10 hcr43 q640 hcs43 dX0_follows_43 ?_
      replace hk := bd2_some hk
      obtain ⟨r46, I46, h11, hk⟩ := hk
      refine x_callV (pc := 46) C (ct_X0_holds hS h11) mv_X0_holds (stN_o0 hS).r rfl rfl q1633 dX0_follows_46 rfl rfl (Nat.le_of_ble_eq_true rfl) rfl ?_
      refine j_if_eq (pc := 49) 56 C dX0_follows_49 (by decide) (fun h12 => ?_) (fun h12 => ?_)
      · replace hk := it_t h12 hk
        refine j_iconst (pc := 56) (v := nI 0) C dX0_follows_56 (by decide) ?_
        obtain rfl := Option.some.inj hk
        exact j_iret (pc := 57) C dX0_follows_57 (Nat.le_of_ble_eq_true rfl) (Nat.le_of_ble_eq_true rfl)
      · replace hk := it_f h12 hk
        refine j_iconst (pc := 52) (v := nI 1) C dX0_follows_52 (by decide) ?_
        refine j_goto (pc := 53) 57 C dX0_follows_53 (by decide) ?_
        obtain rfl := Option.some.inj hk
        exact j_iret (pc := 57) C dX0_follows_57 (Nat.le_of_ble_eq_true rfl) (Nat.le_of_ble_eq_true rfl)
  have Jn21 : ∀ (x1 : Int32) (x2 : Int32) (I : II), f_X0_follows_J21 F sh x1 x2 I = some Z → J G p l e rm_X0_follows s m args below meth c 4 (.returned (some (.int Z.1))) (sh, Z.2) (rm_X0_follows).cells (rm_X0_follows).slots (sh, I) 0 0 21 [some (.ref (wad G 0)), some (.int x1), some (.int x2), none] [.ref (wad G 0)] := by
    intro x1 x2 I hk
    unfold f_X0_follows_J21 at hk
    refine j_iconst (pc := 21) (v := nI 0) C dX0_follows_21 (by decide) ?_
    exact j_mask [true, true, true, false] (Jn22 _ _ _ _ hk)
  refine j_if_eq (pc := 6) 21 C dX0_follows_6 (by decide) (fun h13 => ?_) (fun h13 => ?_)
  · replace hk := it_t h13 hk
    exact j_mask [true, true, true, false] (Jn21 _ _ _ hk)
  · replace hk := it_f h13 hk
    refine j_aload_n (pc := 9) C dX0_follows_9 rfl rfl ?_
    refine j_iload_n (pc := 10) C dX0_follows_10 rfl rfl ?_
    replace hk := ob_some hk
    obtain ⟨r11, h14, hk⟩ := hk
    refine x_callV (pc := 11) C (ct_X0_isLaw hS h14) mv_X0_isLaw (stN_o0 hS).r rfl rfl q1325 dX0_follows_11 rfl rfl (Nat.le_of_ble_eq_true rfl) rfl ?_
    refine j_if_eq (pc := 14) 21 C dX0_follows_14 (by decide) (fun h15 => ?_) (fun h15 => ?_)
    · replace hk := it_t h15 hk
      exact j_mask [true, true, true, false] (Jn21 _ _ _ hk)
    · replace hk := it_f h15 hk
      refine j_iconst (pc := 17) (v := nI 1) C dX0_follows_17 (by decide) ?_
      refine j_goto (pc := 18) 22 C dX0_follows_18 (by decide) ?_
      exact j_mask [true, true, true, false] (Jn22 _ _ _ _ hk)
def f_J17_bitCount (x0 : Int32) : Option Int32 := some ((((((((x0 - ((UInt32.toInt32 (Int32.toUInt32 x0 >>> (Int32.toUInt32 (nI 1) &&& Int32.toUInt32 31))) &&& (nI 1431655765))) &&& (nI 858993459)) + ((UInt32.toInt32 (Int32.toUInt32 (x0 - ((UInt32.toInt32 (Int32.toUInt32 x0 >>> (Int32.toUInt32 (nI 1) &&& Int32.toUInt32 31))) &&& (nI 1431655765))) >>> (Int32.toUInt32 (nI 2) &&& Int32.toUInt32 31))) &&& (nI 858993459))) + (UInt32.toInt32 (Int32.toUInt32 (((x0 - ((UInt32.toInt32 (Int32.toUInt32 x0 >>> (Int32.toUInt32 (nI 1) &&& Int32.toUInt32 31))) &&& (nI 1431655765))) &&& (nI 858993459)) + ((UInt32.toInt32 (Int32.toUInt32 (x0 - ((UInt32.toInt32 (Int32.toUInt32 x0 >>> (Int32.toUInt32 (nI 1) &&& Int32.toUInt32 31))) &&& (nI 1431655765))) >>> (Int32.toUInt32 (nI 2) &&& Int32.toUInt32 31))) &&& (nI 858993459))) >>> (Int32.toUInt32 (nI 4) &&& Int32.toUInt32 31)))) &&& (nI 252645135)) + (UInt32.toInt32 (Int32.toUInt32 (((((x0 - ((UInt32.toInt32 (Int32.toUInt32 x0 >>> (Int32.toUInt32 (nI 1) &&& Int32.toUInt32 31))) &&& (nI 1431655765))) &&& (nI 858993459)) + ((UInt32.toInt32 (Int32.toUInt32 (x0 - ((UInt32.toInt32 (Int32.toUInt32 x0 >>> (Int32.toUInt32 (nI 1) &&& Int32.toUInt32 31))) &&& (nI 1431655765))) >>> (Int32.toUInt32 (nI 2) &&& Int32.toUInt32 31))) &&& (nI 858993459))) + (UInt32.toInt32 (Int32.toUInt32 (((x0 - ((UInt32.toInt32 (Int32.toUInt32 x0 >>> (Int32.toUInt32 (nI 1) &&& Int32.toUInt32 31))) &&& (nI 1431655765))) &&& (nI 858993459)) + ((UInt32.toInt32 (Int32.toUInt32 (x0 - ((UInt32.toInt32 (Int32.toUInt32 x0 >>> (Int32.toUInt32 (nI 1) &&& Int32.toUInt32 31))) &&& (nI 1431655765))) >>> (Int32.toUInt32 (nI 2) &&& Int32.toUInt32 31))) &&& (nI 858993459))) >>> (Int32.toUInt32 (nI 4) &&& Int32.toUInt32 31)))) &&& (nI 252645135)) >>> (Int32.toUInt32 (nI 8) &&& Int32.toUInt32 31)))) + (UInt32.toInt32 (Int32.toUInt32 ((((((x0 - ((UInt32.toInt32 (Int32.toUInt32 x0 >>> (Int32.toUInt32 (nI 1) &&& Int32.toUInt32 31))) &&& (nI 1431655765))) &&& (nI 858993459)) + ((UInt32.toInt32 (Int32.toUInt32 (x0 - ((UInt32.toInt32 (Int32.toUInt32 x0 >>> (Int32.toUInt32 (nI 1) &&& Int32.toUInt32 31))) &&& (nI 1431655765))) >>> (Int32.toUInt32 (nI 2) &&& Int32.toUInt32 31))) &&& (nI 858993459))) + (UInt32.toInt32 (Int32.toUInt32 (((x0 - ((UInt32.toInt32 (Int32.toUInt32 x0 >>> (Int32.toUInt32 (nI 1) &&& Int32.toUInt32 31))) &&& (nI 1431655765))) &&& (nI 858993459)) + ((UInt32.toInt32 (Int32.toUInt32 (x0 - ((UInt32.toInt32 (Int32.toUInt32 x0 >>> (Int32.toUInt32 (nI 1) &&& Int32.toUInt32 31))) &&& (nI 1431655765))) >>> (Int32.toUInt32 (nI 2) &&& Int32.toUInt32 31))) &&& (nI 858993459))) >>> (Int32.toUInt32 (nI 4) &&& Int32.toUInt32 31)))) &&& (nI 252645135)) + (UInt32.toInt32 (Int32.toUInt32 (((((x0 - ((UInt32.toInt32 (Int32.toUInt32 x0 >>> (Int32.toUInt32 (nI 1) &&& Int32.toUInt32 31))) &&& (nI 1431655765))) &&& (nI 858993459)) + ((UInt32.toInt32 (Int32.toUInt32 (x0 - ((UInt32.toInt32 (Int32.toUInt32 x0 >>> (Int32.toUInt32 (nI 1) &&& Int32.toUInt32 31))) &&& (nI 1431655765))) >>> (Int32.toUInt32 (nI 2) &&& Int32.toUInt32 31))) &&& (nI 858993459))) + (UInt32.toInt32 (Int32.toUInt32 (((x0 - ((UInt32.toInt32 (Int32.toUInt32 x0 >>> (Int32.toUInt32 (nI 1) &&& Int32.toUInt32 31))) &&& (nI 1431655765))) &&& (nI 858993459)) + ((UInt32.toInt32 (Int32.toUInt32 (x0 - ((UInt32.toInt32 (Int32.toUInt32 x0 >>> (Int32.toUInt32 (nI 1) &&& Int32.toUInt32 31))) &&& (nI 1431655765))) >>> (Int32.toUInt32 (nI 2) &&& Int32.toUInt32 31))) &&& (nI 858993459))) >>> (Int32.toUInt32 (nI 4) &&& Int32.toUInt32 31)))) &&& (nI 252645135)) >>> (Int32.toUInt32 (nI 8) &&& Int32.toUInt32 31)))) >>> (Int32.toUInt32 (nI 16) &&& Int32.toUInt32 31)))) &&& (nI 63))
abbrev rm_J17_bitCount : Room := { frames := 0, cells := 0, slots := 0, locals := 0 }
theorem ms_J17_bitCount : MS yJ17_bitCount cJ17_bitCount 1 (some .int) 1 := ⟨q1604, q133, q1605, by decide +kernel⟩
set_option maxHeartbeats 4000000 in
theorem ct_J17_bitCount {G : WG} {l : Launch} {sh : SH} {I : II} {x0 : Int32} {Z : Int32} (hk : f_J17_bitCount x0 = some Z) : CT G l yJ17_bitCount (ws_ yJ17_bitCount cJ17_bitCount 1 (some .int)) rm_J17_bitCount [.int x0] (sh, I) (.returned (some (.int Z))) (sh, I) := by
  refine CT.ofJ "java/lang/Integer" rfl (by decide) (Nat.le_of_ble_eq_true rfl) ?_
  intro p e s m args below meth c C
  unfold f_J17_bitCount at hk
  refine j_lv (lv' := [some (.int x0)]) rfl ?_
  refine j_iload_n (pc := 0) C dJ17_bitCount_0 rfl rfl ?_
  refine j_iload_n (pc := 1) C dJ17_bitCount_1 rfl rfl ?_
  refine j_iconst (pc := 2) (v := nI 1) C dJ17_bitCount_2 (by decide) ?_
  refine j_iushr (pc := 3) C dJ17_bitCount_3 ?_
  refine j_ldcw (pc := 4) (v := nI 1431655765) C q1606 dJ17_bitCount_4 ?_
  refine j_iand (pc := 7) C dJ17_bitCount_7 ?_
  refine j_isub (pc := 8) C dJ17_bitCount_8 ?_
  refine j_istore_n (pc := 9) C dJ17_bitCount_9 rfl (Nat.le_of_ble_eq_true rfl) rfl ?_
  refine j_iload_n (pc := 10) C dJ17_bitCount_10 rfl rfl ?_
  refine j_ldcw (pc := 11) (v := nI 858993459) C q1607 dJ17_bitCount_11 ?_
  refine j_iand (pc := 14) C dJ17_bitCount_14 ?_
  refine j_iload_n (pc := 15) C dJ17_bitCount_15 rfl rfl ?_
  refine j_iconst (pc := 16) (v := nI 2) C dJ17_bitCount_16 (by decide) ?_
  refine j_iushr (pc := 17) C dJ17_bitCount_17 ?_
  refine j_ldcw (pc := 18) (v := nI 858993459) C q1607 dJ17_bitCount_18 ?_
  refine j_iand (pc := 21) C dJ17_bitCount_21 ?_
  refine j_iadd (pc := 22) C dJ17_bitCount_22 ?_
  refine j_istore_n (pc := 23) C dJ17_bitCount_23 rfl (Nat.le_of_ble_eq_true rfl) rfl ?_
  refine j_iload_n (pc := 24) C dJ17_bitCount_24 rfl rfl ?_
  refine j_iload_n (pc := 25) C dJ17_bitCount_25 rfl rfl ?_
  refine j_iconst (pc := 26) (v := nI 4) C dJ17_bitCount_26 (by decide) ?_
  refine j_iushr (pc := 27) C dJ17_bitCount_27 ?_
  refine j_iadd (pc := 28) C dJ17_bitCount_28 ?_
  refine j_ldcw (pc := 29) (v := nI 252645135) C q1608 dJ17_bitCount_29 ?_
  refine j_iand (pc := 32) C dJ17_bitCount_32 ?_
  refine j_istore_n (pc := 33) C dJ17_bitCount_33 rfl (Nat.le_of_ble_eq_true rfl) rfl ?_
  refine j_iload_n (pc := 34) C dJ17_bitCount_34 rfl rfl ?_
  refine j_iload_n (pc := 35) C dJ17_bitCount_35 rfl rfl ?_
  refine j_bipush (pc := 36) (v := nI 8) C dJ17_bitCount_36 (by decide) ?_
  refine j_iushr (pc := 38) C dJ17_bitCount_38 ?_
  refine j_iadd (pc := 39) C dJ17_bitCount_39 ?_
  refine j_istore_n (pc := 40) C dJ17_bitCount_40 rfl (Nat.le_of_ble_eq_true rfl) rfl ?_
  refine j_iload_n (pc := 41) C dJ17_bitCount_41 rfl rfl ?_
  refine j_iload_n (pc := 42) C dJ17_bitCount_42 rfl rfl ?_
  refine j_bipush (pc := 43) (v := nI 16) C dJ17_bitCount_43 (by decide) ?_
  refine j_iushr (pc := 45) C dJ17_bitCount_45 ?_
  refine j_iadd (pc := 46) C dJ17_bitCount_46 ?_
  refine j_istore_n (pc := 47) C dJ17_bitCount_47 rfl (Nat.le_of_ble_eq_true rfl) rfl ?_
  refine j_iload_n (pc := 48) C dJ17_bitCount_48 rfl rfl ?_
  refine j_bipush (pc := 49) (v := nI 63) C dJ17_bitCount_49 (by decide) ?_
  refine j_iand (pc := 51) C dJ17_bitCount_51 ?_
  obtain rfl := Option.some.inj hk
  exact j_iret (pc := 52) C dJ17_bitCount_52 (Nat.le_of_ble_eq_true rfl) (Nat.le_of_ble_eq_true rfl)
