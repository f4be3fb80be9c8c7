/-! the reference: walks -/
set_option maxRecDepth 100000
def f_X9_codes (x1 : Int32) (I : II) : Option II := if (I 27 12) = 0 then oix (I 27 14) 60 fun i16 => some (up2 (up2 I 35 i16 x1) 27 14 (((up2 I 35 i16 x1) 27 14) + (nI 1))) else some I
abbrev rm_X9_codes : Room := { frames := 0, cells := 0, slots := 0, locals := 0 }
theorem mv_X9_codes : MV yX9_codes cX9_codes 2 none 1 := ⟨q2191, qs54, q106, q2192, by decide +kernel⟩
set_option maxHeartbeats 4000000 in
theorem ct_X9_codes {G : WG} {l : Launch} {sh : SH} (hS : StM sh) {I : II} {x1 : Int32} {I9 : II} (hk : f_X9_codes x1 I = some I9) : CT G l yX9_codes (ws_ yX9_codes cX9_codes 2 none) rm_X9_codes [.ref (wad G 27), .int x1] (sh, I) (.returned none) (sh, I9) := by
  refine CT.ofJ "NineDemandsModel" rfl (by decide) (Nat.le_of_ble_eq_true rfl) ?_
  intro p e s m args below meth c C
  unfold f_X9_codes at hk
  refine j_lv (lv' := [some (.ref (wad G 27)), some (.int x1)]) rfl ?_
  refine j_aload_n (pc := 0) C dX9_codes_0 rfl rfl ?_
  refine j_getI (pc := 1) C fd_10_12 q2012 (stM_o hS) dX9_codes_1 ?_
  refine j_if_ne (pc := 4) 27 C dX9_codes_4 (by decide) (fun h1 => ?_) (fun h1 => ?_)
  · have hk := it_f h1 hk
    exact j_vretW (pc := 27) C dX9_codes_27 (Nat.le_of_ble_eq_true rfl) (Nat.le_of_ble_eq_true rfl) hk
  · have hk := it_t h1 hk
    refine j_aload_n (pc := 7) C dX9_codes_7 rfl rfl ?_
    refine j_getR (pc := 8) C fd_10_13 q2013 (stM_o hS) (stM_r13 hS) dX9_codes_8 ?_
    refine j_aload_n (pc := 11) C dX9_codes_11 rfl rfl ?_
    refine j_getI (pc := 12) C fd_10_14 q2014 (stM_o hS) dX9_codes_12 ?_
    refine j_iload_n (pc := 15) C dX9_codes_15 rfl rfl ?_
    obtain ⟨i16, e16, h2, hk⟩ := oix_ex hk
    refine j_iast (pc := 16) C (stM_a35 hS) h2 e16 dX9_codes_16 ?_
    refine j_aload_n (pc := 17) C dX9_codes_17 rfl rfl ?_
    refine j_dup (pc := 18) C dX9_codes_18 rfl ?_
    refine j_getI (pc := 19) C fd_10_14 q2014 (stM_o hS) dX9_codes_19 ?_
    refine j_iconst (pc := 22) (v := nI 1) C dX9_codes_22 (by decide) ?_
    refine j_iadd (pc := 23) C dX9_codes_23 ?_
    refine j_putI (pc := 24) C fd_10_14 (C.2.2.2.2.1 _ q2014) (stM_o hS) rfl rfl dX9_codes_24 ?_
    exact j_vretW (pc := 27) C dX9_codes_27 (Nat.le_of_ble_eq_true rfl) (Nat.le_of_ble_eq_true rfl) hk
def f_X9_here (I : II) : Option Int32 := if (I 27 12) = 0 then oix (nI 1) 366 fun i16 => if (I 28 i16) ≤ (I 27 9) then some (-1) else oix ((nI 40) + (I 27 9)) 366 fun i31 => some (I 28 i31) else some (-1)
abbrev rm_X9_here : Room := { frames := 0, cells := 0, slots := 0, locals := 0 }
theorem mv_X9_here : MV yX9_here cX9_here 1 (some .int) 0 := ⟨q2187, qs53, q106, q2188, by decide +kernel⟩
set_option maxHeartbeats 4000000 in
theorem ct_X9_here {G : WG} {l : Launch} {sh : SH} (hS : StM sh) {I : II}  {r : Int32} (hk : f_X9_here I = some r) : CT G l yX9_here (ws_ yX9_here cX9_here 1 (some .int)) rm_X9_here [.ref (wad G 27)] (sh, I) (.returned (some (.int r))) (sh, I) := by
  refine CT.ofJ "NineDemandsModel" rfl (by decide) (Nat.le_of_ble_eq_true rfl) ?_
  intro p e s m args below meth c C
  unfold f_X9_here at hk
  refine j_lv (lv' := [some (.ref (wad G 27))]) rfl ?_
  refine j_aload_n (pc := 0) C dX9_here_0 rfl rfl ?_
  refine j_getI (pc := 1) C fd_10_12 q2012 (stM_o hS) dX9_here_1 ?_
  refine j_if_ne (pc := 4) 35 C dX9_here_4 (by decide) (fun h1 => ?_) (fun h1 => ?_)
  · have hk := it_f h1 hk
    refine j_iconst (pc := 35) (v := (-1)) C dX9_here_35 (by decide) ?_
    exact j_iretR (pc := 36) C dX9_here_36 (Nat.le_of_ble_eq_true rfl) (Nat.le_of_ble_eq_true rfl) hk
  · have hk := it_t h1 hk
    refine j_aload_n (pc := 7) C dX9_here_7 rfl rfl ?_
    refine j_getI (pc := 8) C fd_10_9 q2009 (stM_o hS) dX9_here_8 ?_
    refine j_aload_n (pc := 11) C dX9_here_11 rfl rfl ?_
    refine j_getR (pc := 12) C fd_10_0 q2000 (stM_o hS) (stM_r0 hS) dX9_here_12 ?_
    refine j_iconst (pc := 15) (v := nI 1) C dX9_here_15 (by decide) ?_
    obtain ⟨i16, e16, h2, hk⟩ := oix_ex hk
    refine j_iald (pc := 16) C (stM_a28 hS) h2 e16 dX9_here_16 ?_
    refine j_icmp_ge (pc := 17) 35 C dX9_here_17 (by decide) (fun h3 => ?_) (fun h3 => ?_)
    · have hk := it_t h3 hk
      refine j_iconst (pc := 35) (v := (-1)) C dX9_here_35 (by decide) ?_
      exact j_iretR (pc := 36) C dX9_here_36 (Nat.le_of_ble_eq_true rfl) (Nat.le_of_ble_eq_true rfl) hk
    · have hk := it_f h3 hk
      refine j_aload_n (pc := 20) C dX9_here_20 rfl rfl ?_
      refine j_getR (pc := 21) C fd_10_0 q2000 (stM_o hS) (stM_r0 hS) dX9_here_21 ?_
      refine j_bipush (pc := 24) (v := nI 40) C dX9_here_24 (by decide) ?_
      refine j_aload_n (pc := 26) C dX9_here_26 rfl rfl ?_
      refine j_getI (pc := 27) C fd_10_9 q2009 (stM_o hS) dX9_here_27 ?_
      refine j_iadd (pc := 30) C dX9_here_30 ?_
      obtain ⟨i31, e31, h4, hk⟩ := oix_ex hk
      refine j_iald (pc := 31) C (stM_a28 hS) h4 e31 dX9_here_31 ?_
      refine j_goto (pc := 32) 36 C dX9_here_32 (by decide) ?_
      exact j_iretR (pc := 36) C dX9_here_36 (Nat.le_of_ble_eq_true rfl) (Nat.le_of_ble_eq_true rfl) hk
def f_X9_nameOf (x0 : Int32) : Option Int32 := if x0 = nI 97 then some (nI 0) else if x0 = nI 98 then some (nI 1) else if x0 = nI 99 then some (nI 2) else if x0 = nI 100 then some (nI 7) else if x0 = nI 101 then some (-1) else if x0 = nI 102 then some (-1) else if x0 = nI 103 then some (-1) else if x0 = nI 104 then some (-1) else if x0 = nI 105 then some (nI 9) else if x0 = nI 106 then some (-1) else if x0 = nI 107 then some (-1) else if x0 = nI 108 then some (-1) else if x0 = nI 109 then some (-1) else if x0 = nI 110 then some (-1) else if x0 = nI 111 then some (-1) else if x0 = nI 112 then some (nI 4) else if x0 = nI 113 then some (nI 5) else if x0 = nI 114 then some (nI 6) else if x0 = nI 115 then some (nI 3) else if x0 = nI 116 then some (-1) else if x0 = nI 117 then some (-1) else if x0 = nI 118 then some (-1) else if x0 = nI 119 then some (nI 8) else some (-1)
abbrev rm_X9_nameOf : Room := { frames := 0, cells := 0, slots := 0, locals := 0 }
theorem ms_X9_nameOf : MS yX9_nameOf cX9_nameOf 1 (some .int) 1 := ⟨q2198, q106, q2199, by decide +kernel⟩
set_option maxHeartbeats 4000000 in
theorem ct_X9_nameOf {G : WG} {l : Launch} {sh : SH} {I : II} {x0 : Int32} {r : Int32} (hk : f_X9_nameOf x0 = some r) : CT G l yX9_nameOf (ws_ yX9_nameOf cX9_nameOf 1 (some .int)) rm_X9_nameOf [.int x0] (sh, I) (.returned (some (.int r))) (sh, I) := by
  refine CT.ofJ "NineDemandsModel" rfl (by decide) (Nat.le_of_ble_eq_true rfl) ?_
  intro p e s m args below meth c C
  unfold f_X9_nameOf at hk
  refine j_lv (lv' := [some (.int x0)]) rfl ?_
  refine j_iload_n (pc := 0) C dX9_nameOf_0 rfl rfl ?_
  by_cases h1 : x0 = nI 97
  · have hk := it_t h1 hk
    refine j_tableIn (pc := 1) 108 97 C dX9_nameOf_1 (sw_in h1 (by decide)) (by decide) (by decide) rfl (by decide) ?_
    refine j_iconst (pc := 108) (v := nI 0) C dX9_nameOf_108 (by decide) ?_
    exact j_iretR (pc := 109) C dX9_nameOf_109 (Nat.le_of_ble_eq_true rfl) (Nat.le_of_ble_eq_true rfl) hk
  have hk := it_f h1 hk
  by_cases h2 : x0 = nI 98
  · have hk := it_t h2 hk
    refine j_tableIn (pc := 1) 110 98 C dX9_nameOf_1 (sw_in h2 (by decide)) (by decide) (by decide) rfl (by decide) ?_
    refine j_iconst (pc := 110) (v := nI 1) C dX9_nameOf_110 (by decide) ?_
    exact j_iretR (pc := 111) C dX9_nameOf_111 (Nat.le_of_ble_eq_true rfl) (Nat.le_of_ble_eq_true rfl) hk
  have hk := it_f h2 hk
  by_cases h3 : x0 = nI 99
  · have hk := it_t h3 hk
    refine j_tableIn (pc := 1) 112 99 C dX9_nameOf_1 (sw_in h3 (by decide)) (by decide) (by decide) rfl (by decide) ?_
    refine j_iconst (pc := 112) (v := nI 2) C dX9_nameOf_112 (by decide) ?_
    exact j_iretR (pc := 113) C dX9_nameOf_113 (Nat.le_of_ble_eq_true rfl) (Nat.le_of_ble_eq_true rfl) hk
  have hk := it_f h3 hk
  by_cases h4 : x0 = nI 100
  · have hk := it_t h4 hk
    refine j_tableIn (pc := 1) 123 100 C dX9_nameOf_1 (sw_in h4 (by decide)) (by decide) (by decide) rfl (by decide) ?_
    refine j_bipush (pc := 123) (v := nI 7) C dX9_nameOf_123 (by decide) ?_
    exact j_iretR (pc := 125) C dX9_nameOf_125 (Nat.le_of_ble_eq_true rfl) (Nat.le_of_ble_eq_true rfl) hk
  have hk := it_f h4 hk
  by_cases h5 : x0 = nI 101
  · have hk := it_t h5 hk
    refine j_tableIn (pc := 1) 132 101 C dX9_nameOf_1 (sw_in h5 (by decide)) (by decide) (by decide) rfl (by decide) ?_
    refine j_iconst (pc := 132) (v := (-1)) C dX9_nameOf_132 (by decide) ?_
    exact j_iretR (pc := 133) C dX9_nameOf_133 (Nat.le_of_ble_eq_true rfl) (Nat.le_of_ble_eq_true rfl) hk
  have hk := it_f h5 hk
  by_cases h6 : x0 = nI 102
  · have hk := it_t h6 hk
    refine j_tableIn (pc := 1) 132 102 C dX9_nameOf_1 (sw_in h6 (by decide)) (by decide) (by decide) rfl (by decide) ?_
    refine j_iconst (pc := 132) (v := (-1)) C dX9_nameOf_132 (by decide) ?_
    exact j_iretR (pc := 133) C dX9_nameOf_133 (Nat.le_of_ble_eq_true rfl) (Nat.le_of_ble_eq_true rfl) hk
  have hk := it_f h6 hk
  by_cases h7 : x0 = nI 103
  · have hk := it_t h7 hk
    refine j_tableIn (pc := 1) 132 103 C dX9_nameOf_1 (sw_in h7 (by decide)) (by decide) (by decide) rfl (by decide) ?_
    refine j_iconst (pc := 132) (v := (-1)) C dX9_nameOf_132 (by decide) ?_
    exact j_iretR (pc := 133) C dX9_nameOf_133 (Nat.le_of_ble_eq_true rfl) (Nat.le_of_ble_eq_true rfl) hk
  have hk := it_f h7 hk
  by_cases h8 : x0 = nI 104
  · have hk := it_t h8 hk
    refine j_tableIn (pc := 1) 132 104 C dX9_nameOf_1 (sw_in h8 (by decide)) (by decide) (by decide) rfl (by decide) ?_
    refine j_iconst (pc := 132) (v := (-1)) C dX9_nameOf_132 (by decide) ?_
    exact j_iretR (pc := 133) C dX9_nameOf_133 (Nat.le_of_ble_eq_true rfl) (Nat.le_of_ble_eq_true rfl) hk
  have hk := it_f h8 hk
  by_cases h9 : x0 = nI 105
  · have hk := it_t h9 hk
    refine j_tableIn (pc := 1) 129 105 C dX9_nameOf_1 (sw_in h9 (by decide)) (by decide) (by decide) rfl (by decide) ?_
    refine j_bipush (pc := 129) (v := nI 9) C dX9_nameOf_129 (by decide) ?_
    exact j_iretR (pc := 131) C dX9_nameOf_131 (Nat.le_of_ble_eq_true rfl) (Nat.le_of_ble_eq_true rfl) hk
  have hk := it_f h9 hk
  by_cases h10 : x0 = nI 106
  · have hk := it_t h10 hk
    refine j_tableIn (pc := 1) 132 106 C dX9_nameOf_1 (sw_in h10 (by decide)) (by decide) (by decide) rfl (by decide) ?_
    refine j_iconst (pc := 132) (v := (-1)) C dX9_nameOf_132 (by decide) ?_
    exact j_iretR (pc := 133) C dX9_nameOf_133 (Nat.le_of_ble_eq_true rfl) (Nat.le_of_ble_eq_true rfl) hk
  have hk := it_f h10 hk
  by_cases h11 : x0 = nI 107
  · have hk := it_t h11 hk
    refine j_tableIn (pc := 1) 132 107 C dX9_nameOf_1 (sw_in h11 (by decide)) (by decide) (by decide) rfl (by decide) ?_
    refine j_iconst (pc := 132) (v := (-1)) C dX9_nameOf_132 (by decide) ?_
    exact j_iretR (pc := 133) C dX9_nameOf_133 (Nat.le_of_ble_eq_true rfl) (Nat.le_of_ble_eq_true rfl) hk
  have hk := it_f h11 hk
  by_cases h12 : x0 = nI 108
  · have hk := it_t h12 hk
    refine j_tableIn (pc := 1) 132 108 C dX9_nameOf_1 (sw_in h12 (by decide)) (by decide) (by decide) rfl (by decide) ?_
    refine j_iconst (pc := 132) (v := (-1)) C dX9_nameOf_132 (by decide) ?_
    exact j_iretR (pc := 133) C dX9_nameOf_133 (Nat.le_of_ble_eq_true rfl) (Nat.le_of_ble_eq_true rfl) hk
  have hk := it_f h12 hk
  by_cases h13 : x0 = nI 109
  · have hk := it_t h13 hk
    refine j_tableIn (pc := 1) 132 109 C dX9_nameOf_1 (sw_in h13 (by decide)) (by decide) (by decide) rfl (by decide) ?_
    refine j_iconst (pc := 132) (v := (-1)) C dX9_nameOf_132 (by decide) ?_
    exact j_iretR (pc := 133) C dX9_nameOf_133 (Nat.le_of_ble_eq_true rfl) (Nat.le_of_ble_eq_true rfl) hk
  have hk := it_f h13 hk
  by_cases h14 : x0 = nI 110
  · have hk := it_t h14 hk
    refine j_tableIn (pc := 1) 132 110 C dX9_nameOf_1 (sw_in h14 (by decide)) (by decide) (by decide) rfl (by decide) ?_
    refine j_iconst (pc := 132) (v := (-1)) C dX9_nameOf_132 (by decide) ?_
    exact j_iretR (pc := 133) C dX9_nameOf_133 (Nat.le_of_ble_eq_true rfl) (Nat.le_of_ble_eq_true rfl) hk
  have hk := it_f h14 hk
  by_cases h15 : x0 = nI 111
  · have hk := it_t h15 hk
    refine j_tableIn (pc := 1) 132 111 C dX9_nameOf_1 (sw_in h15 (by decide)) (by decide) (by decide) rfl (by decide) ?_
    refine j_iconst (pc := 132) (v := (-1)) C dX9_nameOf_132 (by decide) ?_
    exact j_iretR (pc := 133) C dX9_nameOf_133 (Nat.le_of_ble_eq_true rfl) (Nat.le_of_ble_eq_true rfl) hk
  have hk := it_f h15 hk
  by_cases h16 : x0 = nI 112
  · have hk := it_t h16 hk
    refine j_tableIn (pc := 1) 116 112 C dX9_nameOf_1 (sw_in h16 (by decide)) (by decide) (by decide) rfl (by decide) ?_
    refine j_iconst (pc := 116) (v := nI 4) C dX9_nameOf_116 (by decide) ?_
    exact j_iretR (pc := 117) C dX9_nameOf_117 (Nat.le_of_ble_eq_true rfl) (Nat.le_of_ble_eq_true rfl) hk
  have hk := it_f h16 hk
  by_cases h17 : x0 = nI 113
  · have hk := it_t h17 hk
    refine j_tableIn (pc := 1) 118 113 C dX9_nameOf_1 (sw_in h17 (by decide)) (by decide) (by decide) rfl (by decide) ?_
    refine j_iconst (pc := 118) (v := nI 5) C dX9_nameOf_118 (by decide) ?_
    exact j_iretR (pc := 119) C dX9_nameOf_119 (Nat.le_of_ble_eq_true rfl) (Nat.le_of_ble_eq_true rfl) hk
  have hk := it_f h17 hk
  by_cases h18 : x0 = nI 114
  · have hk := it_t h18 hk
    refine j_tableIn (pc := 1) 120 114 C dX9_nameOf_1 (sw_in h18 (by decide)) (by decide) (by decide) rfl (by decide) ?_
    refine j_bipush (pc := 120) (v := nI 6) C dX9_nameOf_120 (by decide) ?_
    exact j_iretR (pc := 122) C dX9_nameOf_122 (Nat.le_of_ble_eq_true rfl) (Nat.le_of_ble_eq_true rfl) hk
  have hk := it_f h18 hk
  by_cases h19 : x0 = nI 115
  · have hk := it_t h19 hk
    refine j_tableIn (pc := 1) 114 115 C dX9_nameOf_1 (sw_in h19 (by decide)) (by decide) (by decide) rfl (by decide) ?_
    refine j_iconst (pc := 114) (v := nI 3) C dX9_nameOf_114 (by decide) ?_
    exact j_iretR (pc := 115) C dX9_nameOf_115 (Nat.le_of_ble_eq_true rfl) (Nat.le_of_ble_eq_true rfl) hk
  have hk := it_f h19 hk
  by_cases h20 : x0 = nI 116
  · have hk := it_t h20 hk
    refine j_tableIn (pc := 1) 132 116 C dX9_nameOf_1 (sw_in h20 (by decide)) (by decide) (by decide) rfl (by decide) ?_
    refine j_iconst (pc := 132) (v := (-1)) C dX9_nameOf_132 (by decide) ?_
    exact j_iretR (pc := 133) C dX9_nameOf_133 (Nat.le_of_ble_eq_true rfl) (Nat.le_of_ble_eq_true rfl) hk
  have hk := it_f h20 hk
  by_cases h21 : x0 = nI 117
  · have hk := it_t h21 hk
    refine j_tableIn (pc := 1) 132 117 C dX9_nameOf_1 (sw_in h21 (by decide)) (by decide) (by decide) rfl (by decide) ?_
    refine j_iconst (pc := 132) (v := (-1)) C dX9_nameOf_132 (by decide) ?_
    exact j_iretR (pc := 133) C dX9_nameOf_133 (Nat.le_of_ble_eq_true rfl) (Nat.le_of_ble_eq_true rfl) hk
  have hk := it_f h21 hk
  by_cases h22 : x0 = nI 118
  · have hk := it_t h22 hk
    refine j_tableIn (pc := 1) 132 118 C dX9_nameOf_1 (sw_in h22 (by decide)) (by decide) (by decide) rfl (by decide) ?_
    refine j_iconst (pc := 132) (v := (-1)) C dX9_nameOf_132 (by decide) ?_
    exact j_iretR (pc := 133) C dX9_nameOf_133 (Nat.le_of_ble_eq_true rfl) (Nat.le_of_ble_eq_true rfl) hk
  have hk := it_f h22 hk
  by_cases h23 : x0 = nI 119
  · have hk := it_t h23 hk
    refine j_tableIn (pc := 1) 126 119 C dX9_nameOf_1 (sw_in h23 (by decide)) (by decide) (by decide) rfl (by decide) ?_
    refine j_bipush (pc := 126) (v := nI 8) C dX9_nameOf_126 (by decide) ?_
    exact j_iretR (pc := 128) C dX9_nameOf_128 (Nat.le_of_ble_eq_true rfl) (Nat.le_of_ble_eq_true rfl) hk
  have hk := it_f h23 hk
  refine j_tableOut (pc := 1) 132 C dX9_nameOf_1 (sw_out (lo := 97) (hi := 119) (by decide) (fun j a1 a2 => by
    have a3 : j = 97 ∨ j = 98 ∨ j = 99 ∨ j = 100 ∨ j = 101 ∨ j = 102 ∨ j = 103 ∨ j = 104 ∨ j = 105 ∨ j = 106 ∨ j = 107 ∨ j = 108 ∨ j = 109 ∨ j = 110 ∨ j = 111 ∨ j = 112 ∨ j = 113 ∨ j = 114 ∨ j = 115 ∨ j = 116 ∨ j = 117 ∨ j = 118 ∨ j = 119 := by omega
    rcases a3 with rfl | rfl | rfl | rfl | rfl | rfl | rfl | rfl | rfl | rfl | rfl | rfl | rfl | rfl | rfl | rfl | rfl | rfl | rfl | rfl | rfl | rfl | rfl
    · exact h1
    · exact h2
    · exact h3
    · exact h4
    · exact h5
    · exact h6
    · exact h7
    · exact h8
    · exact h9
    · exact h10
    · exact h11
    · exact h12
    · exact h13
    · exact h14
    · exact h15
    · exact h16
    · exact h17
    · exact h18
    · exact h19
    · exact h20
    · exact h21
    · exact h22
    · exact h23)) (by decide) ?_
  refine j_iconst (pc := 132) (v := (-1)) C dX9_nameOf_132 (by decide) ?_
  exact j_iretR (pc := 133) C dX9_nameOf_133 (Nat.le_of_ble_eq_true rfl) (Nat.le_of_ble_eq_true rfl) hk
def f_X9_takes_J28 (x2 : Int32) (s1 : Int32) (s2 : Int32) (I : II) : Option (Int32 × II) := og (x2 = 0 ∨ x2 = 1) (some (x2, up2 I 27 9 (s1 + s2)))
def f_X9_takes_J13 (s0 : Int32) (I : II) : Option (Int32 × II) := if s0 = 0 then f_X9_takes_J28 s0 (I 27 9) (nI 0) I else f_X9_takes_J28 s0 (I 27 9) (nI 1) I
def f_X9_takes (x1 : Int32) (I : II) : Option (Int32 × II) := (f_X9_here I).bind fun r1 => if r1 = x1 then f_X9_takes_J13 (nI 1) I else f_X9_takes_J13 (nI 0) I
abbrev rm_X9_takes : Room := { frames := 1, cells := 0, slots := 0, locals := 20 }
theorem mv_X9_takes : MV yX9_takes cX9_takes 3 (some .boolean) 1 := ⟨q2195, qs55, q106, q2196, by decide +kernel⟩
set_option maxHeartbeats 4000000 in
theorem ct_X9_takes {G : WG} {l : Launch} {sh : SH} (hS : StM sh) {I : II} {x1 : Int32} {r : Int32} {I9 : II} (hk : f_X9_takes x1 I = some (r, I9)) : CT G l yX9_takes (ws_ yX9_takes cX9_takes 3 (some .boolean)) rm_X9_takes [.ref (wad G 27), .int x1] (sh, I) (.returned (some (.int r))) (sh, I9) := by
  refine CT.ofJ "NineDemandsModel" rfl (by decide) (Nat.le_of_ble_eq_true rfl) ?_
  intro p e s m args below meth c C
  unfold f_X9_takes at hk
  refine j_lv (lv' := [some (.ref (wad G 27)), some (.int x1), none]) rfl ?_
  refine j_aload_n (pc := 0) C dX9_takes_0 rfl rfl ?_
  obtain ⟨r1, h1, hk⟩ := ob_some hk
  refine j_callV (pc := 1) C (ct_X9_here hS h1) mv_X9_here (stM_o hS) rfl rfl q2185 dX9_takes_1 rfl rfl (Nat.le_of_ble_eq_true rfl) rfl ?_
  refine j_iload_n (pc := 4) C dX9_takes_4 rfl rfl ?_
  have Jn13 : ∀ (s0 : Int32) (I : II), f_X9_takes_J13 s0 I = some (r, I9) → J G p l e rm_X9_takes s m args below meth c 3 (.returned (some (.int r))) (sh, I9) (rm_X9_takes).cells (rm_X9_takes).slots (sh, I) 0 0 13 [some (.ref (wad G 27)), none, none] [.int s0] := by
    intro s0 I hk
    unfold f_X9_takes_J13 at hk
    refine j_istore_n (pc := 13) C dX9_takes_13 rfl (Nat.le_of_ble_eq_true rfl) rfl ?_
    refine j_aload_n (pc := 14) C dX9_takes_14 rfl rfl ?_
    refine j_dup (pc := 15) C dX9_takes_15 rfl ?_
    refine j_getI (pc := 16) C fd_10_9 q2009 (stM_o hS) dX9_takes_16 ?_
    refine j_iload_n (pc := 19) C dX9_takes_19 rfl rfl ?_
    have Jn28 : ∀ (x2 : Int32) (s1 : Int32) (s2 : Int32) (I : II), f_X9_takes_J28 x2 s1 s2 I = some (r, I9) → J G p l e rm_X9_takes s m args below meth c 3 (.returned (some (.int r))) (sh, I9) (rm_X9_takes).cells (rm_X9_takes).slots (sh, I) 0 0 28 [none, none, some (.int x2)] [.int s2, .int s1, .ref (wad G 27)] := by
      intro x2 s1 s2 I hk
      unfold f_X9_takes_J28 at hk
      refine j_iadd (pc := 28) C dX9_takes_28 ?_
      refine j_putI (pc := 29) C fd_10_9 (C.2.2.2.2.1 _ q2009) (stM_o hS) rfl rfl dX9_takes_29 ?_
      refine j_iload_n (pc := 32) C dX9_takes_32 rfl rfl ?_
      obtain ⟨h2, hk⟩ := og_some hk
      exact j_zretW (pc := 33) C dX9_takes_33 (Nat.le_of_ble_eq_true rfl) (Nat.le_of_ble_eq_true rfl) (isB.nar h2) hk
    refine j_if_eq (pc := 20) 27 C dX9_takes_20 (by decide) (fun h3 => ?_) (fun h3 => ?_)
    · have hk := it_t h3 hk
      refine j_iconst (pc := 27) (v := nI 0) C dX9_takes_27 (by decide) ?_
      exact j_mask [false, false, true] (Jn28 _ _ _ _ hk)
    · have hk := it_f h3 hk
      refine j_iconst (pc := 23) (v := nI 1) C dX9_takes_23 (by decide) ?_
      refine j_goto (pc := 24) 28 C dX9_takes_24 (by decide) ?_
      exact j_mask [false, false, true] (Jn28 _ _ _ _ hk)
  refine j_icmp_ne (pc := 5) 12 C dX9_takes_5 (by decide) (fun h4 => ?_) (fun h4 => ?_)
  · have hk := it_f h4 hk
    refine j_iconst (pc := 12) (v := nI 0) C dX9_takes_12 (by decide) ?_
    exact j_mask [true, false, false] (Jn13 _ _ hk)
  · have hk := it_t h4 hk
    refine j_iconst (pc := 8) (v := nI 1) C dX9_takes_8 (by decide) ?_
    refine j_goto (pc := 9) 13 C dX9_takes_9 (by decide) ?_
    exact j_mask [true, false, false] (Jn13 _ _ hk)
def f_X9_both_L4 (F : Nat) (c_X9_compared : II → Option II) : Nat → II → Option II
  | 0, _ => none
  | n4 + 1, I => bd2 (f_X9_takes (nI 38) I) fun r7 I7 => if r7 = 0 then some I7 else (c_X9_compared I7).bind fun I14 => (f_X9_codes (nI 20001) I14).bind fun I21 => (f_X9_both_L4 F c_X9_compared n4) I21
def fb_X9_both (F : Nat) (c_X9_compared : II → Option II) (I : II) : Option II := (c_X9_compared I).bind fun I1 => f_X9_both_L4 F c_X9_compared F I1
theorem mv_X9_both : MV yX9_both cX9_both 1 none 0 := ⟨q2167, qs48, q106, q2168, by decide +kernel⟩
def f_X9_compared_J50 (F : Nat) (c_X9_sum : II → Option II) (s0 : Int32) (I : II) : Option II := if s0 ≤ 0 then some I else (c_X9_sum I).bind fun I56 => (f_X9_codes s0 I56).bind fun I61 => some I61
def fb_X9_compared (F : Nat) (c_X9_sum : II → Option II) (I : II) : Option II := (c_X9_sum I).bind fun I1 => bd2 (f_X9_takes (nI 60) I1) fun r7 I7 => if r7 = 0 then bd2 (f_X9_takes (nI 61) I7) fun r22 I22 => if r22 = 0 then bd2 (f_X9_takes (nI 62) I22) fun r37 I37 => if r37 = 0 then f_X9_compared_J50 F c_X9_sum (nI 0) I37 else f_X9_compared_J50 F c_X9_sum (nI 20004) I37 else f_X9_compared_J50 F c_X9_sum (nI 20003) I22 else f_X9_compared_J50 F c_X9_sum (nI 20002) I7
theorem mv_X9_compared : MV yX9_compared cX9_compared 2 none 0 := ⟨q2171, qs49, q106, q2172, by decide +kernel⟩
def f_X9_either_L4 (F : Nat) (c_X9_both : II → Option II) : Nat → II → Option II
  | 0, _ => none
  | n4 + 1, I => bd2 (f_X9_takes (nI 124) I) fun r7 I7 => if r7 = 0 then some I7 else (c_X9_both I7).bind fun I14 => (f_X9_codes (nI 20000) I14).bind fun I21 => (f_X9_either_L4 F c_X9_both n4) I21
def fb_X9_either (F : Nat) (c_X9_both : II → Option II) (I : II) : Option II := (c_X9_both I).bind fun I1 => f_X9_either_L4 F c_X9_both F I1
theorem mv_X9_either : MV yX9_either cX9_either 1 none 0 := ⟨q2163, qs47, q106, q2164, by decide +kernel⟩
def f_X9_one_J103 (F : Nat) (c_X9_either : II → Option II) (c_X9_one : II → Option II) (I : II) : Option II := some (up2 I 27 10 ((I 27 10) - (nI 1)))
def f_X9_one_J100 (F : Nat) (c_X9_either : II → Option II) (c_X9_one : II → Option II) (s1 : Int32) (I : II) : Option II := og (s1 = 0 ∨ s1 = 1) <| f_X9_one_J103 F c_X9_either c_X9_one (up2 I 27 12 s1)
def f_X9_one_J31 (F : Nat) (c_X9_either : II → Option II) (c_X9_one : II → Option II) (x1 : Int32) (s1 : Int32) (I : II) : Option II := og (s1 = 0 ∨ s1 = 1) <| if ((up2 I 27 12 s1) 27 12) = 0 then if x1 = (nI 33) then (c_X9_one (up2 (up2 (up2 I 27 12 s1) 27 10 (((up2 I 27 12 s1) 27 10) + (nI 1))) 27 9 (((up2 (up2 I 27 12 s1) 27 10 (((up2 I 27 12 s1) 27 10) + (nI 1))) 27 9) + (nI 1)))).bind fun I68 => (f_X9_codes (nI 20010) I68).bind fun I75 => f_X9_one_J103 F c_X9_either c_X9_one I75 else (c_X9_either (up2 (up2 (up2 I 27 12 s1) 27 10 (((up2 I 27 12 s1) 27 10) + (nI 1))) 27 9 (((up2 (up2 I 27 12 s1) 27 10 (((up2 I 27 12 s1) 27 10) + (nI 1))) 27 9) + (nI 1)))).bind fun I82 => bd2 (f_X9_takes (nI 41) I82) fun r89 I89 => if r89 = 0 then f_X9_one_J100 F c_X9_either c_X9_one (nI 1) I89 else f_X9_one_J100 F c_X9_either c_X9_one (nI 0) I89 else some (up2 I 27 12 s1)
def f_X9_one_J17 (F : Nat) (c_X9_either : II → Option II) (c_X9_one : II → Option II) (x1 : Int32) (I : II) : Option II := if (I 27 10) = (nI 5) then f_X9_one_J31 F c_X9_either c_X9_one x1 (nI 1) I else f_X9_one_J31 F c_X9_either c_X9_one x1 (nI 0) I
def f_X9_one_J227 (F : Nat) (c_X9_either : II → Option II) (c_X9_one : II → Option II) (x2 : Int32) (s1 : Int32) (I : II) : Option II := og (s1 = 0 ∨ s1 = 1) <| if ((up2 I 27 12 s1) 27 12) = 0 then (f_X9_codes ((nI 10000) + x2) (up2 I 27 12 s1)).bind fun I243 => some (up2 I243 27 9 ((I243 27 9) + (nI 1))) else some (up2 I 27 12 s1)
def f_X9_one_J222 (F : Nat) (c_X9_either : II → Option II) (c_X9_one : II → Option II) (x2 : Int32) (I : II) : Option II := f_X9_one_J227 F c_X9_either c_X9_one x2 (nI 1) I
def f_X9_one_J199 (F : Nat) (c_X9_either : II → Option II) (c_X9_one : II → Option II) (s0 : Int32) (I : II) : Option II := if (I 27 12) = 0 then (f_X9_within s0 (nI 0) ((I 27 11) - (nI 1))).bind fun r216 => if r216 = 0 then f_X9_one_J222 F c_X9_either c_X9_one s0 I else f_X9_one_J227 F c_X9_either c_X9_one s0 (nI 0) I else f_X9_one_J222 F c_X9_either c_X9_one s0 I
def f_X9_one_J179 (F : Nat) (c_X9_either : II → Option II) (c_X9_one : II → Option II) (x2 : Int32) (I : II) : Option II := (f_X9_codes x2 I).bind fun I181 => some I181
def f_X9_one_L131 (F : Nat) (c_X9_either : II → Option II) (c_X9_one : II → Option II) : Nat → Int32 → Int32 → II → Option II
  | 0, _, _, _ => none
  | n131 + 1, x2, x3, I => if (nI 4) ≤ x3 then f_X9_one_J179 F c_X9_either c_X9_one x2 I else (f_X9_here I).bind fun r137 => (f_X9_within r137 (nI 48) (nI 57)).bind fun r144 => if r144 = 0 then f_X9_one_J179 F c_X9_either c_X9_one x2 I else (f_X9_here I).bind fun r155 => (f_X9_one_L131 F c_X9_either c_X9_one n131) ((((nI 10) * x2) + r155) - (nI 48)) (x3 + (nI 1)) (up2 I 27 9 ((I 27 9) + (nI 1)))
def fb_X9_one (F : Nat) (c_X9_either : II → Option II) (c_X9_one : II → Option II) (I : II) : Option II := (f_X9_here I).bind fun r1 => if r1 = (nI 33) then f_X9_one_J17 F c_X9_either c_X9_one r1 I else if r1 = (nI 40) then f_X9_one_J17 F c_X9_either c_X9_one r1 I else (f_X9_within r1 (nI 48) (nI 57)).bind fun r121 => if r121 = 0 then if 0 ≤ r1 then (f_X9_nameOf r1).bind fun r196 => f_X9_one_J199 F c_X9_either c_X9_one r196 I else f_X9_one_J199 F c_X9_either c_X9_one (-1) I else f_X9_one_L131 F c_X9_either c_X9_one F (nI 0) (nI 0) I
theorem mv_X9_one : MV yX9_one cX9_one 4 none 0 := ⟨q2183, qs52, q106, q2184, by decide +kernel⟩
def f_X9_product_L51 (F : Nat) (c_X9_one : II → Option II) : Nat → Int32 → II → Option II
  | 0, _, _ => none
  | n51 + 1, x1, I => if x1 ≤ 0 then some I else (c_X9_one I).bind fun I56 => (f_X9_codes x1 I56).bind fun I61 => bd2 (f_X9_takes (nI 42) I61) fun r67 I67 => if r67 = 0 then bd2 (f_X9_takes (nI 47) I67) fun r82 I82 => if r82 = 0 then bd2 (f_X9_takes (nI 37) I82) fun r97 I97 => if r97 = 0 then (f_X9_product_L51 F c_X9_one n51) (nI 0) I97 else (f_X9_product_L51 F c_X9_one n51) (nI 20009) I97 else (f_X9_product_L51 F c_X9_one n51) (nI 20008) I82 else (f_X9_product_L51 F c_X9_one n51) (nI 20007) I67
def fb_X9_product (F : Nat) (c_X9_one : II → Option II) (I : II) : Option II := (c_X9_one I).bind fun I1 => bd2 (f_X9_takes (nI 42) I1) fun r7 I7 => if r7 = 0 then bd2 (f_X9_takes (nI 47) I7) fun r22 I22 => if r22 = 0 then bd2 (f_X9_takes (nI 37) I22) fun r37 I37 => if r37 = 0 then f_X9_product_L51 F c_X9_one F (nI 0) I37 else f_X9_product_L51 F c_X9_one F (nI 20009) I37 else f_X9_product_L51 F c_X9_one F (nI 20008) I22 else f_X9_product_L51 F c_X9_one F (nI 20007) I7
theorem mv_X9_product : MV yX9_product cX9_product 2 none 0 := ⟨q2179, qs51, q106, q2180, by decide +kernel⟩
def f_X9_sum_L36 (F : Nat) (c_X9_product : II → Option II) : Nat → Int32 → II → Option II
  | 0, _, _ => none
  | n36 + 1, x1, I => if x1 ≤ 0 then some I else (c_X9_product I).bind fun I41 => (f_X9_codes x1 I41).bind fun I46 => bd2 (f_X9_takes (nI 43) I46) fun r52 I52 => if r52 = 0 then bd2 (f_X9_takes (nI 45) I52) fun r67 I67 => if r67 = 0 then (f_X9_sum_L36 F c_X9_product n36) (nI 0) I67 else (f_X9_sum_L36 F c_X9_product n36) (nI 20006) I67 else (f_X9_sum_L36 F c_X9_product n36) (nI 20005) I52
def fb_X9_sum (F : Nat) (c_X9_product : II → Option II) (I : II) : Option II := (c_X9_product I).bind fun I1 => bd2 (f_X9_takes (nI 43) I1) fun r7 I7 => if r7 = 0 then bd2 (f_X9_takes (nI 45) I7) fun r22 I22 => if r22 = 0 then f_X9_sum_L36 F c_X9_product F (nI 0) I22 else f_X9_sum_L36 F c_X9_product F (nI 20006) I22 else f_X9_sum_L36 F c_X9_product F (nI 20005) I7
theorem mv_X9_sum : MV yX9_sum cX9_sum 2 none 0 := ⟨q2175, qs50, q106, q2176, by decide +kernel⟩
set_option maxHeartbeats 4000000 in
theorem ctb_X9_both {G : WG} {l : Launch} {sh : SH} (hS : StM sh) {Rf Rl : Nat} {fc_X9_compared lc_X9_compared : Nat} {c_X9_compared : II → Option II} {F : Nat} (hc_X9_compared : ∀ {I : II} {I9 : II}, c_X9_compared I = some I9 → CT G l yX9_compared (ws_ yX9_compared cX9_compared 2 none) (rmZ fc_X9_compared lc_X9_compared) [.ref (wad G 27)] (sh, I) (.returned none) (sh, I9)) (hr_X9_compared : rmOK (rmZ fc_X9_compared lc_X9_compared) (rmZ Rf Rl) 2 0 0 = true) (hr_X9_takes : rmOK rm_X9_takes (rmZ Rf Rl) 3 0 0 = true) (hr_X9_codes : rmOK rm_X9_codes (rmZ Rf Rl) 2 0 0 = true) {I : II}  {I9 : II} (hk : fb_X9_both F c_X9_compared I = some I9) : CT G l yX9_both (ws_ yX9_both cX9_both 1 none) (rmZ Rf Rl) [.ref (wad G 27)] (sh, I) (.returned none) (sh, I9) := by
  refine CT.ofJ "NineDemandsModel" rfl (by decide) (Nat.le_of_ble_eq_true rfl) ?_
  intro p e s m args below meth c C
  unfold fb_X9_both at hk
  refine j_lv (lv' := [some (.ref (wad G 27))]) rfl ?_
  refine j_aload_n (pc := 0) C dX9_both_0 rfl rfl ?_
  obtain ⟨I1, h1, hk⟩ := ob_some hk
  refine j_callV (pc := 1) C (hc_X9_compared h1) mv_X9_compared (stM_o hS) rfl rfl q2169 dX9_both_1 rfl rfl (Nat.le_of_ble_eq_true rfl) hr_X9_compared ?_
  have L4 : ∀  (n4 : Nat) (I : II), f_X9_both_L4 F c_X9_compared n4 I = some I9 → J G p l e (rmZ Rf Rl) s m args below meth c 1 (.returned none) (sh, I9) (rmZ Rf Rl).cells (rmZ Rf Rl).slots (sh, I) 0 0 4 [some (.ref (wad G 27))] [] := by
    intro  n4
    induction n4 with
    | zero => intro I hk; rw [f_X9_both_L4] at hk; cases hk
    | succ n4 ih4 =>
      intro I hk
      rw [f_X9_both_L4] at hk
      generalize f_X9_both_L4 F c_X9_compared n4 = k4 at ih4 hk
      refine j_aload_n (pc := 4) C dX9_both_4 rfl rfl ?_
      refine j_bipush (pc := 5) (v := nI 38) C dX9_both_5 (by decide) ?_
      obtain ⟨r7, I7, h2, hk⟩ := bd2_some hk
      refine j_callV (pc := 7) C (ct_X9_takes hS h2) mv_X9_takes (stM_o hS) rfl rfl q2193 dX9_both_7 rfl rfl (Nat.le_of_ble_eq_true rfl) hr_X9_takes ?_
      refine j_if_eq (pc := 10) 27 C dX9_both_10 (by decide) (fun h3 => ?_) (fun h3 => ?_)
      · have hk := it_t h3 hk
        exact j_vretW (pc := 27) C dX9_both_27 (Nat.zero_le _) (Nat.zero_le _) hk
      · have hk := it_f h3 hk
        refine j_aload_n (pc := 13) C dX9_both_13 rfl rfl ?_
        obtain ⟨I14, h4, hk⟩ := ob_some hk
        refine j_callV (pc := 14) C (hc_X9_compared h4) mv_X9_compared (stM_o hS) rfl rfl q2169 dX9_both_14 rfl rfl (Nat.le_of_ble_eq_true rfl) hr_X9_compared ?_
        refine j_aload_n (pc := 17) C dX9_both_17 rfl rfl ?_
        refine j_sipush (pc := 18) (v := nI 20001) C dX9_both_18 (by decide) ?_
        obtain ⟨I21, h5, hk⟩ := ob_some hk
        refine j_callV (pc := 21) C (ct_X9_codes hS h5) mv_X9_codes (stM_o hS) rfl rfl q2189 dX9_both_21 rfl rfl (Nat.le_of_ble_eq_true rfl) hr_X9_codes ?_
        refine j_goto (pc := 24) 4 C dX9_both_24 (by decide) ?_
        exact j_mask [true] (ih4 _ hk)
  exact j_mask [true] (L4  _ _ hk)
set_option maxHeartbeats 4000000 in
theorem ctb_X9_compared {G : WG} {l : Launch} {sh : SH} (hS : StM sh) {Rf Rl : Nat} {fc_X9_sum lc_X9_sum : Nat} {c_X9_sum : II → Option II} {F : Nat} (hc_X9_sum : ∀ {I : II} {I9 : II}, c_X9_sum I = some I9 → CT G l yX9_sum (ws_ yX9_sum cX9_sum 2 none) (rmZ fc_X9_sum lc_X9_sum) [.ref (wad G 27)] (sh, I) (.returned none) (sh, I9)) (hr_X9_sum : rmOK (rmZ fc_X9_sum lc_X9_sum) (rmZ Rf Rl) 2 0 0 = true) (hr_X9_takes : rmOK rm_X9_takes (rmZ Rf Rl) 3 0 0 = true) (hr_X9_codes : rmOK rm_X9_codes (rmZ Rf Rl) 2 0 0 = true) {I : II}  {I9 : II} (hk : fb_X9_compared F c_X9_sum I = some I9) : CT G l yX9_compared (ws_ yX9_compared cX9_compared 2 none) (rmZ Rf Rl) [.ref (wad G 27)] (sh, I) (.returned none) (sh, I9) := by
  refine CT.ofJ "NineDemandsModel" rfl (by decide) (Nat.le_of_ble_eq_true rfl) ?_
  intro p e s m args below meth c C
  unfold fb_X9_compared at hk
  refine j_lv (lv' := [some (.ref (wad G 27)), none]) rfl ?_
  refine j_aload_n (pc := 0) C dX9_compared_0 rfl rfl ?_
  obtain ⟨I1, h1, hk⟩ := ob_some hk
  refine j_callV (pc := 1) C (hc_X9_sum h1) mv_X9_sum (stM_o hS) rfl rfl q2173 dX9_compared_1 rfl rfl (Nat.le_of_ble_eq_true rfl) hr_X9_sum ?_
  refine j_aload_n (pc := 4) C dX9_compared_4 rfl rfl ?_
  refine j_bipush (pc := 5) (v := nI 60) C dX9_compared_5 (by decide) ?_
  obtain ⟨r7, I7, h2, hk⟩ := bd2_some hk
  refine j_callV (pc := 7) C (ct_X9_takes hS h2) mv_X9_takes (stM_o hS) rfl rfl q2193 dX9_compared_7 rfl rfl (Nat.le_of_ble_eq_true rfl) hr_X9_takes ?_
  have Jn50 : ∀ (s0 : Int32) (I : II), f_X9_compared_J50 F c_X9_sum s0 I = some I9 → J G p l e (rmZ Rf Rl) s m args below meth c 2 (.returned none) (sh, I9) (rmZ Rf Rl).cells (rmZ Rf Rl).slots (sh, I) 0 0 50 [some (.ref (wad G 27)), none] [.int s0] := by
    intro s0 I hk
    unfold f_X9_compared_J50 at hk
    refine j_istore_n (pc := 50) C dX9_compared_50 rfl (Nat.le_of_ble_eq_true rfl) rfl ?_
    refine j_iload_n (pc := 51) C dX9_compared_51 rfl rfl ?_
    refine j_if_le (pc := 52) 64 C dX9_compared_52 (by decide) (fun h3 => ?_) (fun h3 => ?_)
    · have hk := it_t h3 hk
      exact j_vretW (pc := 64) C dX9_compared_64 (Nat.zero_le _) (Nat.zero_le _) hk
    · have hk := it_f h3 hk
      refine j_aload_n (pc := 55) C dX9_compared_55 rfl rfl ?_
      obtain ⟨I56, h4, hk⟩ := ob_some hk
      refine j_callV (pc := 56) C (hc_X9_sum h4) mv_X9_sum (stM_o hS) rfl rfl q2173 dX9_compared_56 rfl rfl (Nat.le_of_ble_eq_true rfl) hr_X9_sum ?_
      refine j_aload_n (pc := 59) C dX9_compared_59 rfl rfl ?_
      refine j_iload_n (pc := 60) C dX9_compared_60 rfl rfl ?_
      obtain ⟨I61, h5, hk⟩ := ob_some hk
      refine j_callV (pc := 61) C (ct_X9_codes hS h5) mv_X9_codes (stM_o hS) rfl rfl q2189 dX9_compared_61 rfl rfl (Nat.le_of_ble_eq_true rfl) hr_X9_codes ?_
      exact j_vretW (pc := 64) C dX9_compared_64 (Nat.zero_le _) (Nat.zero_le _) hk
  refine j_if_eq (pc := 10) 19 C dX9_compared_10 (by decide) (fun h6 => ?_) (fun h6 => ?_)
  · have hk := it_t h6 hk
    refine j_aload_n (pc := 19) C dX9_compared_19 rfl rfl ?_
    refine j_bipush (pc := 20) (v := nI 61) C dX9_compared_20 (by decide) ?_
    obtain ⟨r22, I22, h7, hk⟩ := bd2_some hk
    refine j_callV (pc := 22) C (ct_X9_takes hS h7) mv_X9_takes (stM_o hS) rfl rfl q2193 dX9_compared_22 rfl rfl (Nat.le_of_ble_eq_true rfl) hr_X9_takes ?_
    refine j_if_eq (pc := 25) 34 C dX9_compared_25 (by decide) (fun h8 => ?_) (fun h8 => ?_)
    · have hk := it_t h8 hk
      refine j_aload_n (pc := 34) C dX9_compared_34 rfl rfl ?_
      refine j_bipush (pc := 35) (v := nI 62) C dX9_compared_35 (by decide) ?_
      obtain ⟨r37, I37, h9, hk⟩ := bd2_some hk
      refine j_callV (pc := 37) C (ct_X9_takes hS h9) mv_X9_takes (stM_o hS) rfl rfl q2193 dX9_compared_37 rfl rfl (Nat.le_of_ble_eq_true rfl) hr_X9_takes ?_
      refine j_if_eq (pc := 40) 49 C dX9_compared_40 (by decide) (fun h10 => ?_) (fun h10 => ?_)
      · have hk := it_t h10 hk
        refine j_iconst (pc := 49) (v := nI 0) C dX9_compared_49 (by decide) ?_
        exact j_mask [true, false] (Jn50 _ _ hk)
      · have hk := it_f h10 hk
        refine j_sipush (pc := 43) (v := nI 20004) C dX9_compared_43 (by decide) ?_
        refine j_goto (pc := 46) 50 C dX9_compared_46 (by decide) ?_
        exact j_mask [true, false] (Jn50 _ _ hk)
    · have hk := it_f h8 hk
      refine j_sipush (pc := 28) (v := nI 20003) C dX9_compared_28 (by decide) ?_
      refine j_goto (pc := 31) 50 C dX9_compared_31 (by decide) ?_
      exact j_mask [true, false] (Jn50 _ _ hk)
  · have hk := it_f h6 hk
    refine j_sipush (pc := 13) (v := nI 20002) C dX9_compared_13 (by decide) ?_
    refine j_goto (pc := 16) 50 C dX9_compared_16 (by decide) ?_
    exact j_mask [true, false] (Jn50 _ _ hk)
set_option maxHeartbeats 4000000 in
theorem ctb_X9_either {G : WG} {l : Launch} {sh : SH} (hS : StM sh) {Rf Rl : Nat} {fc_X9_both lc_X9_both : Nat} {c_X9_both : II → Option II} {F : Nat} (hc_X9_both : ∀ {I : II} {I9 : II}, c_X9_both I = some I9 → CT G l yX9_both (ws_ yX9_both cX9_both 1 none) (rmZ fc_X9_both lc_X9_both) [.ref (wad G 27)] (sh, I) (.returned none) (sh, I9)) (hr_X9_both : rmOK (rmZ fc_X9_both lc_X9_both) (rmZ Rf Rl) 1 0 0 = true) (hr_X9_takes : rmOK rm_X9_takes (rmZ Rf Rl) 3 0 0 = true) (hr_X9_codes : rmOK rm_X9_codes (rmZ Rf Rl) 2 0 0 = true) {I : II}  {I9 : II} (hk : fb_X9_either F c_X9_both I = some I9) : CT G l yX9_either (ws_ yX9_either cX9_either 1 none) (rmZ Rf Rl) [.ref (wad G 27)] (sh, I) (.returned none) (sh, I9) := by
  refine CT.ofJ "NineDemandsModel" rfl (by decide) (Nat.le_of_ble_eq_true rfl) ?_
  intro p e s m args below meth c C
  unfold fb_X9_either at hk
  refine j_lv (lv' := [some (.ref (wad G 27))]) rfl ?_
  refine j_aload_n (pc := 0) C dX9_either_0 rfl rfl ?_
  obtain ⟨I1, h1, hk⟩ := ob_some hk
  refine j_callV (pc := 1) C (hc_X9_both h1) mv_X9_both (stM_o hS) rfl rfl q2165 dX9_either_1 rfl rfl (Nat.le_of_ble_eq_true rfl) hr_X9_both ?_
  have L4 : ∀  (n4 : Nat) (I : II), f_X9_either_L4 F c_X9_both n4 I = some I9 → J G p l e (rmZ Rf Rl) s m args below meth c 1 (.returned none) (sh, I9) (rmZ Rf Rl).cells (rmZ Rf Rl).slots (sh, I) 0 0 4 [some (.ref (wad G 27))] [] := by
    intro  n4
    induction n4 with
    | zero => intro I hk; rw [f_X9_either_L4] at hk; cases hk
    | succ n4 ih4 =>
      intro I hk
      rw [f_X9_either_L4] at hk
      generalize f_X9_either_L4 F c_X9_both n4 = k4 at ih4 hk
      refine j_aload_n (pc := 4) C dX9_either_4 rfl rfl ?_
      refine j_bipush (pc := 5) (v := nI 124) C dX9_either_5 (by decide) ?_
      obtain ⟨r7, I7, h2, hk⟩ := bd2_some hk
      refine j_callV (pc := 7) C (ct_X9_takes hS h2) mv_X9_takes (stM_o hS) rfl rfl q2193 dX9_either_7 rfl rfl (Nat.le_of_ble_eq_true rfl) hr_X9_takes ?_
      refine j_if_eq (pc := 10) 27 C dX9_either_10 (by decide) (fun h3 => ?_) (fun h3 => ?_)
      · have hk := it_t h3 hk
        exact j_vretW (pc := 27) C dX9_either_27 (Nat.zero_le _) (Nat.zero_le _) hk
      · have hk := it_f h3 hk
        refine j_aload_n (pc := 13) C dX9_either_13 rfl rfl ?_
        obtain ⟨I14, h4, hk⟩ := ob_some hk
        refine j_callV (pc := 14) C (hc_X9_both h4) mv_X9_both (stM_o hS) rfl rfl q2165 dX9_either_14 rfl rfl (Nat.le_of_ble_eq_true rfl) hr_X9_both ?_
        refine j_aload_n (pc := 17) C dX9_either_17 rfl rfl ?_
        refine j_sipush (pc := 18) (v := nI 20000) C dX9_either_18 (by decide) ?_
        obtain ⟨I21, h5, hk⟩ := ob_some hk
        refine j_callV (pc := 21) C (ct_X9_codes hS h5) mv_X9_codes (stM_o hS) rfl rfl q2189 dX9_either_21 rfl rfl (Nat.le_of_ble_eq_true rfl) hr_X9_codes ?_
        refine j_goto (pc := 24) 4 C dX9_either_24 (by decide) ?_
        exact j_mask [true] (ih4 _ hk)
  exact j_mask [true] (L4  _ _ hk)
set_option maxHeartbeats 4000000 in
theorem ctb_X9_one {G : WG} {l : Launch} {sh : SH} (hS : StM sh) {Rf Rl : Nat} {fc_X9_either lc_X9_either : Nat} {fc_X9_one lc_X9_one : Nat} {c_X9_either : II → Option II} {c_X9_one : II → Option II} {F : Nat} (hc_X9_either : ∀ {I : II} {I9 : II}, c_X9_either I = some I9 → CT G l yX9_either (ws_ yX9_either cX9_either 1 none) (rmZ fc_X9_either lc_X9_either) [.ref (wad G 27)] (sh, I) (.returned none) (sh, I9)) (hc_X9_one : ∀ {I : II} {I9 : II}, c_X9_one I = some I9 → CT G l yX9_one (ws_ yX9_one cX9_one 4 none) (rmZ fc_X9_one lc_X9_one) [.ref (wad G 27)] (sh, I) (.returned none) (sh, I9)) (hr_X9_here : rmOK rm_X9_here (rmZ Rf Rl) 1 0 0 = true) (hr_X9_either : rmOK (rmZ fc_X9_either lc_X9_either) (rmZ Rf Rl) 1 0 0 = true) (hr_X9_takes : rmOK rm_X9_takes (rmZ Rf Rl) 3 0 0 = true) (hr_X9_one : rmOK (rmZ fc_X9_one lc_X9_one) (rmZ Rf Rl) 4 0 0 = true) (hr_X9_codes : rmOK rm_X9_codes (rmZ Rf Rl) 2 0 0 = true) (hr_X9_within : rmOK rm_X9_within (rmZ Rf Rl) 3 0 0 = true) (hr_X9_nameOf : rmOK rm_X9_nameOf (rmZ Rf Rl) 1 0 0 = true) {I : II}  {I9 : II} (hk : fb_X9_one F c_X9_either c_X9_one I = some I9) : CT G l yX9_one (ws_ yX9_one cX9_one 4 none) (rmZ Rf Rl) [.ref (wad G 27)] (sh, I) (.returned none) (sh, I9) := by
  refine CT.ofJ "NineDemandsModel" rfl (by decide) (Nat.le_of_ble_eq_true rfl) ?_
  intro p e s m args below meth c C
  unfold fb_X9_one at hk
  refine j_lv (lv' := [some (.ref (wad G 27)), none, none, none]) rfl ?_
  refine j_aload_n (pc := 0) C dX9_one_0 rfl rfl ?_
  obtain ⟨r1, h1, hk⟩ := ob_some hk
  refine j_callV (pc := 1) C (ct_X9_here hS h1) mv_X9_here (stM_o hS) rfl rfl q2185 dX9_one_1 rfl rfl (Nat.le_of_ble_eq_true rfl) hr_X9_here ?_
  refine j_istore_n (pc := 4) C dX9_one_4 rfl (Nat.le_of_ble_eq_true rfl) rfl ?_
  refine j_iload_n (pc := 5) C dX9_one_5 rfl rfl ?_
  refine j_bipush (pc := 6) (v := nI 33) C dX9_one_6 (by decide) ?_
  have Jn17 : ∀ (x1 : Int32) (I : II), f_X9_one_J17 F c_X9_either c_X9_one x1 I = some I9 → J G p l e (rmZ Rf Rl) s m args below meth c 4 (.returned none) (sh, I9) (rmZ Rf Rl).cells (rmZ Rf Rl).slots (sh, I) 0 0 17 [some (.ref (wad G 27)), some (.int x1), none, none] [] := by
    intro x1 I hk
    unfold f_X9_one_J17 at hk
    refine j_aload_n (pc := 17) C dX9_one_17 rfl rfl ?_
    refine j_aload_n (pc := 18) C dX9_one_18 rfl rfl ?_
    refine j_getI (pc := 19) C fd_10_10 q2010 (stM_o hS) dX9_one_19 ?_
    refine j_iconst (pc := 22) (v := nI 5) C dX9_one_22 (by decide) ?_
    have Jn31 : ∀ (x1 : Int32) (s1 : Int32) (I : II), f_X9_one_J31 F c_X9_either c_X9_one x1 s1 I = some I9 → J G p l e (rmZ Rf Rl) s m args below meth c 4 (.returned none) (sh, I9) (rmZ Rf Rl).cells (rmZ Rf Rl).slots (sh, I) 0 0 31 [some (.ref (wad G 27)), some (.int x1), none, none] [.int s1, .ref (wad G 27)] := by
      intro x1 s1 I hk
      unfold f_X9_one_J31 at hk
      obtain ⟨h2, hk⟩ := og_some hk
      refine j_putI (pc := 31) C fd_10_12 (C.2.2.2.2.1 _ q2012) (stM_o hS) (isB.nar h2) (isB.fit h2) dX9_one_31 ?_
      refine j_aload_n (pc := 34) C dX9_one_34 rfl rfl ?_
      refine j_getI (pc := 35) C fd_10_12 q2012 (stM_o hS) dX9_one_35 ?_
      refine j_if_ne (pc := 38) 256 C dX9_one_38 (by decide) (fun h3 => ?_) (fun h3 => ?_)
      · have hk := it_f h3 hk
        exact j_vretW (pc := 256) C dX9_one_256 (Nat.zero_le _) (Nat.zero_le _) hk
      · have hk := it_t h3 hk
        refine j_aload_n (pc := 41) C dX9_one_41 rfl rfl ?_
        refine j_dup (pc := 42) C dX9_one_42 rfl ?_
        refine j_getI (pc := 43) C fd_10_10 q2010 (stM_o hS) dX9_one_43 ?_
        refine j_iconst (pc := 46) (v := nI 1) C dX9_one_46 (by decide) ?_
        refine j_iadd (pc := 47) C dX9_one_47 ?_
        refine j_putI (pc := 48) C fd_10_10 (C.2.2.2.2.1 _ q2010) (stM_o hS) rfl rfl dX9_one_48 ?_
        refine j_aload_n (pc := 51) C dX9_one_51 rfl rfl ?_
        refine j_dup (pc := 52) C dX9_one_52 rfl ?_
        refine j_getI (pc := 53) C fd_10_9 q2009 (stM_o hS) dX9_one_53 ?_
        refine j_iconst (pc := 56) (v := nI 1) C dX9_one_56 (by decide) ?_
        refine j_iadd (pc := 57) C dX9_one_57 ?_
        refine j_putI (pc := 58) C fd_10_9 (C.2.2.2.2.1 _ q2009) (stM_o hS) rfl rfl dX9_one_58 ?_
        refine j_iload_n (pc := 61) C dX9_one_61 rfl rfl ?_
        refine j_bipush (pc := 62) (v := nI 33) C dX9_one_62 (by decide) ?_
        have Jn103 : ∀ (I : II), f_X9_one_J103 F c_X9_either c_X9_one I = some I9 → J G p l e (rmZ Rf Rl) s m args below meth c 4 (.returned none) (sh, I9) (rmZ Rf Rl).cells (rmZ Rf Rl).slots (sh, I) 0 0 103 [some (.ref (wad G 27)), none, none, none] [] := by
          intro I hk
          unfold f_X9_one_J103 at hk
          refine j_aload_n (pc := 103) C dX9_one_103 rfl rfl ?_
          refine j_dup (pc := 104) C dX9_one_104 rfl ?_
          refine j_getI (pc := 105) C fd_10_10 q2010 (stM_o hS) dX9_one_105 ?_
          refine j_iconst (pc := 108) (v := nI 1) C dX9_one_108 (by decide) ?_
          refine j_isub (pc := 109) C dX9_one_109 ?_
          refine j_putI (pc := 110) C fd_10_10 (C.2.2.2.2.1 _ q2010) (stM_o hS) rfl rfl dX9_one_110 ?_
          refine j_goto (pc := 113) 256 C dX9_one_113 (by decide) ?_
          exact j_vretW (pc := 256) C dX9_one_256 (Nat.zero_le _) (Nat.zero_le _) hk
        refine j_icmp_ne (pc := 64) 81 C dX9_one_64 (by decide) (fun h4 => ?_) (fun h4 => ?_)
        · have hk := it_f h4 hk
          refine j_aload_n (pc := 81) C dX9_one_81 rfl rfl ?_
          obtain ⟨I82, h5, hk⟩ := ob_some hk
          refine j_callV (pc := 82) C (hc_X9_either h5) mv_X9_either (stM_o hS) rfl rfl q2161 dX9_one_82 rfl rfl (Nat.le_of_ble_eq_true rfl) hr_X9_either ?_
          refine j_aload_n (pc := 85) C dX9_one_85 rfl rfl ?_
          refine j_aload_n (pc := 86) C dX9_one_86 rfl rfl ?_
          refine j_bipush (pc := 87) (v := nI 41) C dX9_one_87 (by decide) ?_
          obtain ⟨r89, I89, h6, hk⟩ := bd2_some hk
          refine j_callV (pc := 89) C (ct_X9_takes hS h6) mv_X9_takes (stM_o hS) rfl rfl q2193 dX9_one_89 rfl rfl (Nat.le_of_ble_eq_true rfl) hr_X9_takes ?_
          have Jn100 : ∀ (s1 : Int32) (I : II), f_X9_one_J100 F c_X9_either c_X9_one s1 I = some I9 → J G p l e (rmZ Rf Rl) s m args below meth c 4 (.returned none) (sh, I9) (rmZ Rf Rl).cells (rmZ Rf Rl).slots (sh, I) 0 0 100 [some (.ref (wad G 27)), none, none, none] [.int s1, .ref (wad G 27)] := by
            intro s1 I hk
            unfold f_X9_one_J100 at hk
            obtain ⟨h7, hk⟩ := og_some hk
            refine j_putI (pc := 100) C fd_10_12 (C.2.2.2.2.1 _ q2012) (stM_o hS) (isB.nar h7) (isB.fit h7) dX9_one_100 ?_
            exact j_mask [true, false, false, false] (Jn103 _ hk)
          refine j_if_ne (pc := 92) 99 C dX9_one_92 (by decide) (fun h8 => ?_) (fun h8 => ?_)
          · have hk := it_f h8 hk
            refine j_iconst (pc := 99) (v := nI 0) C dX9_one_99 (by decide) ?_
            exact j_mask [true, false, false, false] (Jn100 _ _ hk)
          · have hk := it_t h8 hk
            refine j_iconst (pc := 95) (v := nI 1) C dX9_one_95 (by decide) ?_
            refine j_goto (pc := 96) 100 C dX9_one_96 (by decide) ?_
            exact j_mask [true, false, false, false] (Jn100 _ _ hk)
        · have hk := it_t h4 hk
          refine j_aload_n (pc := 67) C dX9_one_67 rfl rfl ?_
          obtain ⟨I68, h9, hk⟩ := ob_some hk
          refine j_callV (pc := 68) C (hc_X9_one h9) mv_X9_one (stM_o hS) rfl rfl q2181 dX9_one_68 rfl rfl (Nat.le_of_ble_eq_true rfl) hr_X9_one ?_
          refine j_aload_n (pc := 71) C dX9_one_71 rfl rfl ?_
          refine j_sipush (pc := 72) (v := nI 20010) C dX9_one_72 (by decide) ?_
          obtain ⟨I75, h10, hk⟩ := ob_some hk
          refine j_callV (pc := 75) C (ct_X9_codes hS h10) mv_X9_codes (stM_o hS) rfl rfl q2189 dX9_one_75 rfl rfl (Nat.le_of_ble_eq_true rfl) hr_X9_codes ?_
          refine j_goto (pc := 78) 103 C dX9_one_78 (by decide) ?_
          exact j_mask [true, false, false, false] (Jn103 _ hk)
    refine j_icmp_ne (pc := 23) 30 C dX9_one_23 (by decide) (fun h11 => ?_) (fun h11 => ?_)
    · have hk := it_f h11 hk
      refine j_iconst (pc := 30) (v := nI 0) C dX9_one_30 (by decide) ?_
      exact j_mask [true, true, false, false] (Jn31 _ _ _ hk)
    · have hk := it_t h11 hk
      refine j_iconst (pc := 26) (v := nI 1) C dX9_one_26 (by decide) ?_
      refine j_goto (pc := 27) 31 C dX9_one_27 (by decide) ?_
      exact j_mask [true, true, false, false] (Jn31 _ _ _ hk)
  refine j_icmp_eq (pc := 8) 17 C dX9_one_8 (by decide) (fun h12 => ?_) (fun h12 => ?_)
  · have hk := it_t h12 hk
    exact j_mask [true, true, false, false] (Jn17 _ _ hk)
  · have hk := it_f h12 hk
    refine j_iload_n (pc := 11) C dX9_one_11 rfl rfl ?_
    refine j_bipush (pc := 12) (v := nI 40) C dX9_one_12 (by decide) ?_
    refine j_icmp_ne (pc := 14) 116 C dX9_one_14 (by decide) (fun h13 => ?_) (fun h13 => ?_)
    · have hk := it_f h13 hk
      refine j_iload_n (pc := 116) C dX9_one_116 rfl rfl ?_
      refine j_bipush (pc := 117) (v := nI 48) C dX9_one_117 (by decide) ?_
      refine j_bipush (pc := 119) (v := nI 57) C dX9_one_119 (by decide) ?_
      obtain ⟨r121, h14, hk⟩ := ob_some hk
      refine j_callS (pc := 121) C (ct_X9_within h14) ms_X9_within q2107 dX9_one_121 rfl rfl (Nat.le_of_ble_eq_true rfl) hr_X9_within ?_
      refine j_if_eq (pc := 124) 187 C dX9_one_124 (by decide) (fun h15 => ?_) (fun h15 => ?_)
      · have hk := it_t h15 hk
        refine j_iload_n (pc := 187) C dX9_one_187 rfl rfl ?_
        have Jn199 : ∀ (s0 : Int32) (I : II), f_X9_one_J199 F c_X9_either c_X9_one s0 I = some I9 → J G p l e (rmZ Rf Rl) s m args below meth c 4 (.returned none) (sh, I9) (rmZ Rf Rl).cells (rmZ Rf Rl).slots (sh, I) 0 0 199 [some (.ref (wad G 27)), none, none, none] [.int s0] := by
          intro s0 I hk
          unfold f_X9_one_J199 at hk
          refine j_istore_n (pc := 199) C dX9_one_199 rfl (Nat.le_of_ble_eq_true rfl) rfl ?_
          refine j_aload_n (pc := 200) C dX9_one_200 rfl rfl ?_
          refine j_aload_n (pc := 201) C dX9_one_201 rfl rfl ?_
          refine j_getI (pc := 202) C fd_10_12 q2012 (stM_o hS) dX9_one_202 ?_
          have Jn227 : ∀ (x2 : Int32) (s1 : Int32) (I : II), f_X9_one_J227 F c_X9_either c_X9_one x2 s1 I = some I9 → J G p l e (rmZ Rf Rl) s m args below meth c 4 (.returned none) (sh, I9) (rmZ Rf Rl).cells (rmZ Rf Rl).slots (sh, I) 0 0 227 [some (.ref (wad G 27)), none, some (.int x2), none] [.int s1, .ref (wad G 27)] := by
            intro x2 s1 I hk
            unfold f_X9_one_J227 at hk
            obtain ⟨h16, hk⟩ := og_some hk
            refine j_putI (pc := 227) C fd_10_12 (C.2.2.2.2.1 _ q2012) (stM_o hS) (isB.nar h16) (isB.fit h16) dX9_one_227 ?_
            refine j_aload_n (pc := 230) C dX9_one_230 rfl rfl ?_
            refine j_getI (pc := 231) C fd_10_12 q2012 (stM_o hS) dX9_one_231 ?_
            refine j_if_ne (pc := 234) 256 C dX9_one_234 (by decide) (fun h17 => ?_) (fun h17 => ?_)
            · have hk := it_f h17 hk
              exact j_vretW (pc := 256) C dX9_one_256 (Nat.zero_le _) (Nat.zero_le _) hk
            · have hk := it_t h17 hk
              refine j_aload_n (pc := 237) C dX9_one_237 rfl rfl ?_
              refine j_sipush (pc := 238) (v := nI 10000) C dX9_one_238 (by decide) ?_
              refine j_iload_n (pc := 241) C dX9_one_241 rfl rfl ?_
              refine j_iadd (pc := 242) C dX9_one_242 ?_
              obtain ⟨I243, h18, hk⟩ := ob_some hk
              refine j_callV (pc := 243) C (ct_X9_codes hS h18) mv_X9_codes (stM_o hS) rfl rfl q2189 dX9_one_243 rfl rfl (Nat.le_of_ble_eq_true rfl) hr_X9_codes ?_
              refine j_aload_n (pc := 246) C dX9_one_246 rfl rfl ?_
              refine j_dup (pc := 247) C dX9_one_247 rfl ?_
              refine j_getI (pc := 248) C fd_10_9 q2009 (stM_o hS) dX9_one_248 ?_
              refine j_iconst (pc := 251) (v := nI 1) C dX9_one_251 (by decide) ?_
              refine j_iadd (pc := 252) C dX9_one_252 ?_
              refine j_putI (pc := 253) C fd_10_9 (C.2.2.2.2.1 _ q2009) (stM_o hS) rfl rfl dX9_one_253 ?_
              exact j_vretW (pc := 256) C dX9_one_256 (Nat.zero_le _) (Nat.zero_le _) hk
          have Jn222 : ∀ (x2 : Int32) (I : II), f_X9_one_J222 F c_X9_either c_X9_one x2 I = some I9 → J G p l e (rmZ Rf Rl) s m args below meth c 4 (.returned none) (sh, I9) (rmZ Rf Rl).cells (rmZ Rf Rl).slots (sh, I) 0 0 222 [some (.ref (wad G 27)), none, some (.int x2), none] [.ref (wad G 27)] := by
            intro x2 I hk
            unfold f_X9_one_J222 at hk
            refine j_iconst (pc := 222) (v := nI 1) C dX9_one_222 (by decide) ?_
            refine j_goto (pc := 223) 227 C dX9_one_223 (by decide) ?_
            exact j_mask [true, false, true, false] (Jn227 _ _ _ hk)
          refine j_if_ne (pc := 205) 222 C dX9_one_205 (by decide) (fun h19 => ?_) (fun h19 => ?_)
          · have hk := it_f h19 hk
            exact j_mask [true, false, true, false] (Jn222 _ _ hk)
          · have hk := it_t h19 hk
            refine j_iload_n (pc := 208) C dX9_one_208 rfl rfl ?_
            refine j_iconst (pc := 209) (v := nI 0) C dX9_one_209 (by decide) ?_
            refine j_aload_n (pc := 210) C dX9_one_210 rfl rfl ?_
            refine j_getI (pc := 211) C fd_10_11 q2011 (stM_o hS) dX9_one_211 ?_
            refine j_iconst (pc := 214) (v := nI 1) C dX9_one_214 (by decide) ?_
            refine j_isub (pc := 215) C dX9_one_215 ?_
            obtain ⟨r216, h20, hk⟩ := ob_some hk
            refine j_callS (pc := 216) C (ct_X9_within h20) ms_X9_within q2107 dX9_one_216 rfl rfl (Nat.le_of_ble_eq_true rfl) hr_X9_within ?_
            refine j_if_ne (pc := 219) 226 C dX9_one_219 (by decide) (fun h21 => ?_) (fun h21 => ?_)
            · have hk := it_f h21 hk
              refine j_iconst (pc := 226) (v := nI 0) C dX9_one_226 (by decide) ?_
              exact j_mask [true, false, true, false] (Jn227 _ _ _ hk)
            · have hk := it_t h21 hk
              exact j_mask [true, false, true, false] (Jn222 _ _ hk)
        refine j_if_ge (pc := 188) 195 C dX9_one_188 (by decide) (fun h22 => ?_) (fun h22 => ?_)
        · have hk := it_t h22 hk
          refine j_iload_n (pc := 195) C dX9_one_195 rfl rfl ?_
          obtain ⟨r196, h23, hk⟩ := ob_some hk
          refine j_callS (pc := 196) C (ct_X9_nameOf h23) ms_X9_nameOf q2197 dX9_one_196 rfl rfl (Nat.le_of_ble_eq_true rfl) hr_X9_nameOf ?_
          exact j_mask [true, false, false, false] (Jn199 _ _ hk)
        · have hk := it_f h22 hk
          refine j_iconst (pc := 191) (v := (-1)) C dX9_one_191 (by decide) ?_
          refine j_goto (pc := 192) 199 C dX9_one_192 (by decide) ?_
          exact j_mask [true, false, false, false] (Jn199 _ _ hk)
      · have hk := it_f h15 hk
        refine j_iconst (pc := 127) (v := nI 0) C dX9_one_127 (by decide) ?_
        refine j_istore_n (pc := 128) C dX9_one_128 rfl (Nat.le_of_ble_eq_true rfl) rfl ?_
        refine j_iconst (pc := 129) (v := nI 0) C dX9_one_129 (by decide) ?_
        refine j_istore_n (pc := 130) C dX9_one_130 rfl (Nat.le_of_ble_eq_true rfl) rfl ?_
        have L131 : ∀  (n131 : Nat) (x2 : Int32) (x3 : Int32) (I : II), f_X9_one_L131 F c_X9_either c_X9_one n131 x2 x3 I = some I9 → J G p l e (rmZ Rf Rl) s m args below meth c 4 (.returned none) (sh, I9) (rmZ Rf Rl).cells (rmZ Rf Rl).slots (sh, I) 0 0 131 [some (.ref (wad G 27)), none, some (.int x2), some (.int x3)] [] := by
          intro  n131
          induction n131 with
          | zero => intro x2 x3 I hk; rw [f_X9_one_L131] at hk; cases hk
          | succ n131 ih131 =>
            intro x2 x3 I hk
            rw [f_X9_one_L131] at hk
            generalize f_X9_one_L131 F c_X9_either c_X9_one n131 = k131 at ih131 hk
            refine j_iload_n (pc := 131) C dX9_one_131 rfl rfl ?_
            refine j_iconst (pc := 132) (v := nI 4) C dX9_one_132 (by decide) ?_
            have Jn179 : ∀ (x2 : Int32) (I : II), f_X9_one_J179 F c_X9_either c_X9_one x2 I = some I9 → J G p l e (rmZ Rf Rl) s m args below meth c 4 (.returned none) (sh, I9) (rmZ Rf Rl).cells (rmZ Rf Rl).slots (sh, I) 0 0 179 [some (.ref (wad G 27)), none, some (.int x2), none] [] := by
              intro x2 I hk
              unfold f_X9_one_J179 at hk
              refine j_aload_n (pc := 179) C dX9_one_179 rfl rfl ?_
              refine j_iload_n (pc := 180) C dX9_one_180 rfl rfl ?_
              obtain ⟨I181, h24, hk⟩ := ob_some hk
              refine j_callV (pc := 181) C (ct_X9_codes hS h24) mv_X9_codes (stM_o hS) rfl rfl q2189 dX9_one_181 rfl rfl (Nat.le_of_ble_eq_true rfl) hr_X9_codes ?_
              refine j_goto (pc := 184) 256 C dX9_one_184 (by decide) ?_
              exact j_vretW (pc := 256) C dX9_one_256 (Nat.zero_le _) (Nat.zero_le _) hk
            refine j_icmp_ge (pc := 133) 179 C dX9_one_133 (by decide) (fun h25 => ?_) (fun h25 => ?_)
            · have hk := it_t h25 hk
              exact j_mask [true, false, true, false] (Jn179 _ _ hk)
            · have hk := it_f h25 hk
              refine j_aload_n (pc := 136) C dX9_one_136 rfl rfl ?_
              obtain ⟨r137, h26, hk⟩ := ob_some hk
              refine j_callV (pc := 137) C (ct_X9_here hS h26) mv_X9_here (stM_o hS) rfl rfl q2185 dX9_one_137 rfl rfl (Nat.le_of_ble_eq_true rfl) hr_X9_here ?_
              refine j_bipush (pc := 140) (v := nI 48) C dX9_one_140 (by decide) ?_
              refine j_bipush (pc := 142) (v := nI 57) C dX9_one_142 (by decide) ?_
              obtain ⟨r144, h27, hk⟩ := ob_some hk
              refine j_callS (pc := 144) C (ct_X9_within h27) ms_X9_within q2107 dX9_one_144 rfl rfl (Nat.le_of_ble_eq_true rfl) hr_X9_within ?_
              refine j_if_eq (pc := 147) 179 C dX9_one_147 (by decide) (fun h28 => ?_) (fun h28 => ?_)
              · have hk := it_t h28 hk
                exact j_mask [true, false, true, false] (Jn179 _ _ hk)
              · have hk := it_f h28 hk
                refine j_bipush (pc := 150) (v := nI 10) C dX9_one_150 (by decide) ?_
                refine j_iload_n (pc := 152) C dX9_one_152 rfl rfl ?_
                refine j_imul (pc := 153) C dX9_one_153 ?_
                refine j_aload_n (pc := 154) C dX9_one_154 rfl rfl ?_
                obtain ⟨r155, h29, hk⟩ := ob_some hk
                refine j_callV (pc := 155) C (ct_X9_here hS h29) mv_X9_here (stM_o hS) rfl rfl q2185 dX9_one_155 rfl rfl (Nat.le_of_ble_eq_true rfl) hr_X9_here ?_
                refine j_iadd (pc := 158) C dX9_one_158 ?_
                refine j_bipush (pc := 159) (v := nI 48) C dX9_one_159 (by decide) ?_
                refine j_isub (pc := 161) C dX9_one_161 ?_
                refine j_istore_n (pc := 162) C dX9_one_162 rfl (Nat.le_of_ble_eq_true rfl) rfl ?_
                refine j_aload_n (pc := 163) C dX9_one_163 rfl rfl ?_
                refine j_dup (pc := 164) C dX9_one_164 rfl ?_
                refine j_getI (pc := 165) C fd_10_9 q2009 (stM_o hS) dX9_one_165 ?_
                refine j_iconst (pc := 168) (v := nI 1) C dX9_one_168 (by decide) ?_
                refine j_iadd (pc := 169) C dX9_one_169 ?_
                refine j_putI (pc := 170) C fd_10_9 (C.2.2.2.2.1 _ q2009) (stM_o hS) rfl rfl dX9_one_170 ?_
                refine j_iinc (pc := 173) (nI 1) C dX9_one_173 rfl (by decide) (Nat.le_of_ble_eq_true rfl) rfl ?_
                refine j_goto (pc := 176) 131 C dX9_one_176 (by decide) ?_
                exact j_mask [true, false, true, true] (ih131 _ _ _ hk)
        exact j_mask [true, false, true, true] (L131  _ _ _ _ hk)
    · have hk := it_t h13 hk
      exact j_mask [true, true, false, false] (Jn17 _ _ hk)
set_option maxHeartbeats 4000000 in
theorem ctb_X9_product {G : WG} {l : Launch} {sh : SH} (hS : StM sh) {Rf Rl : Nat} {fc_X9_one lc_X9_one : Nat} {c_X9_one : II → Option II} {F : Nat} (hc_X9_one : ∀ {I : II} {I9 : II}, c_X9_one I = some I9 → CT G l yX9_one (ws_ yX9_one cX9_one 4 none) (rmZ fc_X9_one lc_X9_one) [.ref (wad G 27)] (sh, I) (.returned none) (sh, I9)) (hr_X9_one : rmOK (rmZ fc_X9_one lc_X9_one) (rmZ Rf Rl) 4 0 0 = true) (hr_X9_takes : rmOK rm_X9_takes (rmZ Rf Rl) 3 0 0 = true) (hr_X9_codes : rmOK rm_X9_codes (rmZ Rf Rl) 2 0 0 = true) {I : II}  {I9 : II} (hk : fb_X9_product F c_X9_one I = some I9) : CT G l yX9_product (ws_ yX9_product cX9_product 2 none) (rmZ Rf Rl) [.ref (wad G 27)] (sh, I) (.returned none) (sh, I9) := by
  refine CT.ofJ "NineDemandsModel" rfl (by decide) (Nat.le_of_ble_eq_true rfl) ?_
  intro p e s m args below meth c C
  unfold fb_X9_product at hk
  refine j_lv (lv' := [some (.ref (wad G 27)), none]) rfl ?_
  refine j_aload_n (pc := 0) C dX9_product_0 rfl rfl ?_
  obtain ⟨I1, h1, hk⟩ := ob_some hk
  refine j_callV (pc := 1) C (hc_X9_one h1) mv_X9_one (stM_o hS) rfl rfl q2181 dX9_product_1 rfl rfl (Nat.le_of_ble_eq_true rfl) hr_X9_one ?_
  refine j_aload_n (pc := 4) C dX9_product_4 rfl rfl ?_
  refine j_bipush (pc := 5) (v := nI 42) C dX9_product_5 (by decide) ?_
  obtain ⟨r7, I7, h2, hk⟩ := bd2_some hk
  refine j_callV (pc := 7) C (ct_X9_takes hS h2) mv_X9_takes (stM_o hS) rfl rfl q2193 dX9_product_7 rfl rfl (Nat.le_of_ble_eq_true rfl) hr_X9_takes ?_
  refine j_if_eq (pc := 10) 19 C dX9_product_10 (by decide) (fun h3 => ?_) (fun h3 => ?_)
  · have hk := it_t h3 hk
    refine j_aload_n (pc := 19) C dX9_product_19 rfl rfl ?_
    refine j_bipush (pc := 20) (v := nI 47) C dX9_product_20 (by decide) ?_
    obtain ⟨r22, I22, h4, hk⟩ := bd2_some hk
    refine j_callV (pc := 22) C (ct_X9_takes hS h4) mv_X9_takes (stM_o hS) rfl rfl q2193 dX9_product_22 rfl rfl (Nat.le_of_ble_eq_true rfl) hr_X9_takes ?_
    refine j_if_eq (pc := 25) 34 C dX9_product_25 (by decide) (fun h5 => ?_) (fun h5 => ?_)
    · have hk := it_t h5 hk
      refine j_aload_n (pc := 34) C dX9_product_34 rfl rfl ?_
      refine j_bipush (pc := 35) (v := nI 37) C dX9_product_35 (by decide) ?_
      obtain ⟨r37, I37, h6, hk⟩ := bd2_some hk
      refine j_callV (pc := 37) C (ct_X9_takes hS h6) mv_X9_takes (stM_o hS) rfl rfl q2193 dX9_product_37 rfl rfl (Nat.le_of_ble_eq_true rfl) hr_X9_takes ?_
      refine j_if_eq (pc := 40) 49 C dX9_product_40 (by decide) (fun h7 => ?_) (fun h7 => ?_)
      · have hk := it_t h7 hk
        refine j_iconst (pc := 49) (v := nI 0) C dX9_product_49 (by decide) ?_
        refine j_istore_n (pc := 50) C dX9_product_50 rfl (Nat.le_of_ble_eq_true rfl) rfl ?_
        have L51 : ∀  (n51 : Nat) (x1 : Int32) (I : II), f_X9_product_L51 F c_X9_one n51 x1 I = some I9 → J G p l e (rmZ Rf Rl) s m args below meth c 2 (.returned none) (sh, I9) (rmZ Rf Rl).cells (rmZ Rf Rl).slots (sh, I) 0 0 51 [some (.ref (wad G 27)), some (.int x1)] [] := by
          intro  n51
          induction n51 with
          | zero => intro x1 I hk; rw [f_X9_product_L51] at hk; cases hk
          | succ n51 ih51 =>
            intro x1 I hk
            rw [f_X9_product_L51] at hk
            generalize f_X9_product_L51 F c_X9_one n51 = k51 at ih51 hk
            refine j_iload_n (pc := 51) C dX9_product_51 rfl rfl ?_
            refine j_if_le (pc := 52) 114 C dX9_product_52 (by decide) (fun h8 => ?_) (fun h8 => ?_)
            · have hk := it_t h8 hk
              exact j_vretW (pc := 114) C dX9_product_114 (Nat.zero_le _) (Nat.zero_le _) hk
            · have hk := it_f h8 hk
              refine j_aload_n (pc := 55) C dX9_product_55 rfl rfl ?_
              obtain ⟨I56, h9, hk⟩ := ob_some hk
              refine j_callV (pc := 56) C (hc_X9_one h9) mv_X9_one (stM_o hS) rfl rfl q2181 dX9_product_56 rfl rfl (Nat.le_of_ble_eq_true rfl) hr_X9_one ?_
              refine j_aload_n (pc := 59) C dX9_product_59 rfl rfl ?_
              refine j_iload_n (pc := 60) C dX9_product_60 rfl rfl ?_
              obtain ⟨I61, h10, hk⟩ := ob_some hk
              refine j_callV (pc := 61) C (ct_X9_codes hS h10) mv_X9_codes (stM_o hS) rfl rfl q2189 dX9_product_61 rfl rfl (Nat.le_of_ble_eq_true rfl) hr_X9_codes ?_
              refine j_aload_n (pc := 64) C dX9_product_64 rfl rfl ?_
              refine j_bipush (pc := 65) (v := nI 42) C dX9_product_65 (by decide) ?_
              obtain ⟨r67, I67, h11, hk⟩ := bd2_some hk
              refine j_callV (pc := 67) C (ct_X9_takes hS h11) mv_X9_takes (stM_o hS) rfl rfl q2193 dX9_product_67 rfl rfl (Nat.le_of_ble_eq_true rfl) hr_X9_takes ?_
              refine j_if_eq (pc := 70) 79 C dX9_product_70 (by decide) (fun h12 => ?_) (fun h12 => ?_)
              · have hk := it_t h12 hk
                refine j_aload_n (pc := 79) C dX9_product_79 rfl rfl ?_
                refine j_bipush (pc := 80) (v := nI 47) C dX9_product_80 (by decide) ?_
                obtain ⟨r82, I82, h13, hk⟩ := bd2_some hk
                refine j_callV (pc := 82) C (ct_X9_takes hS h13) mv_X9_takes (stM_o hS) rfl rfl q2193 dX9_product_82 rfl rfl (Nat.le_of_ble_eq_true rfl) hr_X9_takes ?_
                refine j_if_eq (pc := 85) 94 C dX9_product_85 (by decide) (fun h14 => ?_) (fun h14 => ?_)
                · have hk := it_t h14 hk
                  refine j_aload_n (pc := 94) C dX9_product_94 rfl rfl ?_
                  refine j_bipush (pc := 95) (v := nI 37) C dX9_product_95 (by decide) ?_
                  obtain ⟨r97, I97, h15, hk⟩ := bd2_some hk
                  refine j_callV (pc := 97) C (ct_X9_takes hS h15) mv_X9_takes (stM_o hS) rfl rfl q2193 dX9_product_97 rfl rfl (Nat.le_of_ble_eq_true rfl) hr_X9_takes ?_
                  refine j_if_eq (pc := 100) 109 C dX9_product_100 (by decide) (fun h16 => ?_) (fun h16 => ?_)
                  · have hk := it_t h16 hk
                    refine j_iconst (pc := 109) (v := nI 0) C dX9_product_109 (by decide) ?_
                    refine j_istore_n (pc := 110) C dX9_product_110 rfl (Nat.le_of_ble_eq_true rfl) rfl ?_
                    refine j_goto (pc := 111) 51 C dX9_product_111 (by decide) ?_
                    exact j_mask [true, true] (ih51 _ _ hk)
                  · have hk := it_f h16 hk
                    refine j_sipush (pc := 103) (v := nI 20009) C dX9_product_103 (by decide) ?_
                    refine j_goto (pc := 106) 110 C dX9_product_106 (by decide) ?_
                    refine j_istore_n (pc := 110) C dX9_product_110 rfl (Nat.le_of_ble_eq_true rfl) rfl ?_
                    refine j_goto (pc := 111) 51 C dX9_product_111 (by decide) ?_
                    exact j_mask [true, true] (ih51 _ _ hk)
                · have hk := it_f h14 hk
                  refine j_sipush (pc := 88) (v := nI 20008) C dX9_product_88 (by decide) ?_
                  refine j_goto (pc := 91) 110 C dX9_product_91 (by decide) ?_
                  refine j_istore_n (pc := 110) C dX9_product_110 rfl (Nat.le_of_ble_eq_true rfl) rfl ?_
                  refine j_goto (pc := 111) 51 C dX9_product_111 (by decide) ?_
                  exact j_mask [true, true] (ih51 _ _ hk)
              · have hk := it_f h12 hk
                refine j_sipush (pc := 73) (v := nI 20007) C dX9_product_73 (by decide) ?_
                refine j_goto (pc := 76) 110 C dX9_product_76 (by decide) ?_
                refine j_istore_n (pc := 110) C dX9_product_110 rfl (Nat.le_of_ble_eq_true rfl) rfl ?_
                refine j_goto (pc := 111) 51 C dX9_product_111 (by decide) ?_
                exact j_mask [true, true] (ih51 _ _ hk)
        exact j_mask [true, true] (L51  _ _ _ hk)
      · have hk := it_f h7 hk
        refine j_sipush (pc := 43) (v := nI 20009) C dX9_product_43 (by decide) ?_
        refine j_goto (pc := 46) 50 C dX9_product_46 (by decide) ?_
        refine j_istore_n (pc := 50) C dX9_product_50 rfl (Nat.le_of_ble_eq_true rfl) rfl ?_
        have L51 : ∀  (n51 : Nat) (x1 : Int32) (I : II), f_X9_product_L51 F c_X9_one n51 x1 I = some I9 → J G p l e (rmZ Rf Rl) s m args below meth c 2 (.returned none) (sh, I9) (rmZ Rf Rl).cells (rmZ Rf Rl).slots (sh, I) 0 0 51 [some (.ref (wad G 27)), some (.int x1)] [] := by
          intro  n51
          induction n51 with
          | zero => intro x1 I hk; rw [f_X9_product_L51] at hk; cases hk
          | succ n51 ih51 =>
            intro x1 I hk
            rw [f_X9_product_L51] at hk
            generalize f_X9_product_L51 F c_X9_one n51 = k51 at ih51 hk
            refine j_iload_n (pc := 51) C dX9_product_51 rfl rfl ?_
            refine j_if_le (pc := 52) 114 C dX9_product_52 (by decide) (fun h17 => ?_) (fun h17 => ?_)
            · have hk := it_t h17 hk
              exact j_vretW (pc := 114) C dX9_product_114 (Nat.zero_le _) (Nat.zero_le _) hk
            · have hk := it_f h17 hk
              refine j_aload_n (pc := 55) C dX9_product_55 rfl rfl ?_
              obtain ⟨I56, h18, hk⟩ := ob_some hk
              refine j_callV (pc := 56) C (hc_X9_one h18) mv_X9_one (stM_o hS) rfl rfl q2181 dX9_product_56 rfl rfl (Nat.le_of_ble_eq_true rfl) hr_X9_one ?_
              refine j_aload_n (pc := 59) C dX9_product_59 rfl rfl ?_
              refine j_iload_n (pc := 60) C dX9_product_60 rfl rfl ?_
              obtain ⟨I61, h19, hk⟩ := ob_some hk
              refine j_callV (pc := 61) C (ct_X9_codes hS h19) mv_X9_codes (stM_o hS) rfl rfl q2189 dX9_product_61 rfl rfl (Nat.le_of_ble_eq_true rfl) hr_X9_codes ?_
              refine j_aload_n (pc := 64) C dX9_product_64 rfl rfl ?_
              refine j_bipush (pc := 65) (v := nI 42) C dX9_product_65 (by decide) ?_
              obtain ⟨r67, I67, h20, hk⟩ := bd2_some hk
              refine j_callV (pc := 67) C (ct_X9_takes hS h20) mv_X9_takes (stM_o hS) rfl rfl q2193 dX9_product_67 rfl rfl (Nat.le_of_ble_eq_true rfl) hr_X9_takes ?_
              refine j_if_eq (pc := 70) 79 C dX9_product_70 (by decide) (fun h21 => ?_) (fun h21 => ?_)
              · have hk := it_t h21 hk
                refine j_aload_n (pc := 79) C dX9_product_79 rfl rfl ?_
                refine j_bipush (pc := 80) (v := nI 47) C dX9_product_80 (by decide) ?_
                obtain ⟨r82, I82, h22, hk⟩ := bd2_some hk
                refine j_callV (pc := 82) C (ct_X9_takes hS h22) mv_X9_takes (stM_o hS) rfl rfl q2193 dX9_product_82 rfl rfl (Nat.le_of_ble_eq_true rfl) hr_X9_takes ?_
                refine j_if_eq (pc := 85) 94 C dX9_product_85 (by decide) (fun h23 => ?_) (fun h23 => ?_)
                · have hk := it_t h23 hk
                  refine j_aload_n (pc := 94) C dX9_product_94 rfl rfl ?_
                  refine j_bipush (pc := 95) (v := nI 37) C dX9_product_95 (by decide) ?_
                  obtain ⟨r97, I97, h24, hk⟩ := bd2_some hk
                  refine j_callV (pc := 97) C (ct_X9_takes hS h24) mv_X9_takes (stM_o hS) rfl rfl q2193 dX9_product_97 rfl rfl (Nat.le_of_ble_eq_true rfl) hr_X9_takes ?_
                  refine j_if_eq (pc := 100) 109 C dX9_product_100 (by decide) (fun h25 => ?_) (fun h25 => ?_)
                  · have hk := it_t h25 hk
                    refine j_iconst (pc := 109) (v := nI 0) C dX9_product_109 (by decide) ?_
                    refine j_istore_n (pc := 110) C dX9_product_110 rfl (Nat.le_of_ble_eq_true rfl) rfl ?_
                    refine j_goto (pc := 111) 51 C dX9_product_111 (by decide) ?_
                    exact j_mask [true, true] (ih51 _ _ hk)
                  · have hk := it_f h25 hk
                    refine j_sipush (pc := 103) (v := nI 20009) C dX9_product_103 (by decide) ?_
                    refine j_goto (pc := 106) 110 C dX9_product_106 (by decide) ?_
                    refine j_istore_n (pc := 110) C dX9_product_110 rfl (Nat.le_of_ble_eq_true rfl) rfl ?_
                    refine j_goto (pc := 111) 51 C dX9_product_111 (by decide) ?_
                    exact j_mask [true, true] (ih51 _ _ hk)
                · have hk := it_f h23 hk
                  refine j_sipush (pc := 88) (v := nI 20008) C dX9_product_88 (by decide) ?_
                  refine j_goto (pc := 91) 110 C dX9_product_91 (by decide) ?_
                  refine j_istore_n (pc := 110) C dX9_product_110 rfl (Nat.le_of_ble_eq_true rfl) rfl ?_
                  refine j_goto (pc := 111) 51 C dX9_product_111 (by decide) ?_
                  exact j_mask [true, true] (ih51 _ _ hk)
              · have hk := it_f h21 hk
                refine j_sipush (pc := 73) (v := nI 20007) C dX9_product_73 (by decide) ?_
                refine j_goto (pc := 76) 110 C dX9_product_76 (by decide) ?_
                refine j_istore_n (pc := 110) C dX9_product_110 rfl (Nat.le_of_ble_eq_true rfl) rfl ?_
                refine j_goto (pc := 111) 51 C dX9_product_111 (by decide) ?_
                exact j_mask [true, true] (ih51 _ _ hk)
        exact j_mask [true, true] (L51  _ _ _ hk)
    · have hk := it_f h5 hk
      refine j_sipush (pc := 28) (v := nI 20008) C dX9_product_28 (by decide) ?_
      refine j_goto (pc := 31) 50 C dX9_product_31 (by decide) ?_
      refine j_istore_n (pc := 50) C dX9_product_50 rfl (Nat.le_of_ble_eq_true rfl) rfl ?_
      have L51 : ∀  (n51 : Nat) (x1 : Int32) (I : II), f_X9_product_L51 F c_X9_one n51 x1 I = some I9 → J G p l e (rmZ Rf Rl) s m args below meth c 2 (.returned none) (sh, I9) (rmZ Rf Rl).cells (rmZ Rf Rl).slots (sh, I) 0 0 51 [some (.ref (wad G 27)), some (.int x1)] [] := by
        intro  n51
        induction n51 with
        | zero => intro x1 I hk; rw [f_X9_product_L51] at hk; cases hk
        | succ n51 ih51 =>
          intro x1 I hk
          rw [f_X9_product_L51] at hk
          generalize f_X9_product_L51 F c_X9_one n51 = k51 at ih51 hk
          refine j_iload_n (pc := 51) C dX9_product_51 rfl rfl ?_
          refine j_if_le (pc := 52) 114 C dX9_product_52 (by decide) (fun h26 => ?_) (fun h26 => ?_)
          · have hk := it_t h26 hk
            exact j_vretW (pc := 114) C dX9_product_114 (Nat.zero_le _) (Nat.zero_le _) hk
          · have hk := it_f h26 hk
            refine j_aload_n (pc := 55) C dX9_product_55 rfl rfl ?_
            obtain ⟨I56, h27, hk⟩ := ob_some hk
            refine j_callV (pc := 56) C (hc_X9_one h27) mv_X9_one (stM_o hS) rfl rfl q2181 dX9_product_56 rfl rfl (Nat.le_of_ble_eq_true rfl) hr_X9_one ?_
            refine j_aload_n (pc := 59) C dX9_product_59 rfl rfl ?_
            refine j_iload_n (pc := 60) C dX9_product_60 rfl rfl ?_
            obtain ⟨I61, h28, hk⟩ := ob_some hk
            refine j_callV (pc := 61) C (ct_X9_codes hS h28) mv_X9_codes (stM_o hS) rfl rfl q2189 dX9_product_61 rfl rfl (Nat.le_of_ble_eq_true rfl) hr_X9_codes ?_
            refine j_aload_n (pc := 64) C dX9_product_64 rfl rfl ?_
            refine j_bipush (pc := 65) (v := nI 42) C dX9_product_65 (by decide) ?_
            obtain ⟨r67, I67, h29, hk⟩ := bd2_some hk
            refine j_callV (pc := 67) C (ct_X9_takes hS h29) mv_X9_takes (stM_o hS) rfl rfl q2193 dX9_product_67 rfl rfl (Nat.le_of_ble_eq_true rfl) hr_X9_takes ?_
            refine j_if_eq (pc := 70) 79 C dX9_product_70 (by decide) (fun h30 => ?_) (fun h30 => ?_)
            · have hk := it_t h30 hk
              refine j_aload_n (pc := 79) C dX9_product_79 rfl rfl ?_
              refine j_bipush (pc := 80) (v := nI 47) C dX9_product_80 (by decide) ?_
              obtain ⟨r82, I82, h31, hk⟩ := bd2_some hk
              refine j_callV (pc := 82) C (ct_X9_takes hS h31) mv_X9_takes (stM_o hS) rfl rfl q2193 dX9_product_82 rfl rfl (Nat.le_of_ble_eq_true rfl) hr_X9_takes ?_
              refine j_if_eq (pc := 85) 94 C dX9_product_85 (by decide) (fun h32 => ?_) (fun h32 => ?_)
              · have hk := it_t h32 hk
                refine j_aload_n (pc := 94) C dX9_product_94 rfl rfl ?_
                refine j_bipush (pc := 95) (v := nI 37) C dX9_product_95 (by decide) ?_
                obtain ⟨r97, I97, h33, hk⟩ := bd2_some hk
                refine j_callV (pc := 97) C (ct_X9_takes hS h33) mv_X9_takes (stM_o hS) rfl rfl q2193 dX9_product_97 rfl rfl (Nat.le_of_ble_eq_true rfl) hr_X9_takes ?_
                refine j_if_eq (pc := 100) 109 C dX9_product_100 (by decide) (fun h34 => ?_) (fun h34 => ?_)
                · have hk := it_t h34 hk
                  refine j_iconst (pc := 109) (v := nI 0) C dX9_product_109 (by decide) ?_
                  refine j_istore_n (pc := 110) C dX9_product_110 rfl (Nat.le_of_ble_eq_true rfl) rfl ?_
                  refine j_goto (pc := 111) 51 C dX9_product_111 (by decide) ?_
                  exact j_mask [true, true] (ih51 _ _ hk)
                · have hk := it_f h34 hk
                  refine j_sipush (pc := 103) (v := nI 20009) C dX9_product_103 (by decide) ?_
                  refine j_goto (pc := 106) 110 C dX9_product_106 (by decide) ?_
                  refine j_istore_n (pc := 110) C dX9_product_110 rfl (Nat.le_of_ble_eq_true rfl) rfl ?_
                  refine j_goto (pc := 111) 51 C dX9_product_111 (by decide) ?_
                  exact j_mask [true, true] (ih51 _ _ hk)
              · have hk := it_f h32 hk
                refine j_sipush (pc := 88) (v := nI 20008) C dX9_product_88 (by decide) ?_
                refine j_goto (pc := 91) 110 C dX9_product_91 (by decide) ?_
                refine j_istore_n (pc := 110) C dX9_product_110 rfl (Nat.le_of_ble_eq_true rfl) rfl ?_
                refine j_goto (pc := 111) 51 C dX9_product_111 (by decide) ?_
                exact j_mask [true, true] (ih51 _ _ hk)
            · have hk := it_f h30 hk
              refine j_sipush (pc := 73) (v := nI 20007) C dX9_product_73 (by decide) ?_
              refine j_goto (pc := 76) 110 C dX9_product_76 (by decide) ?_
              refine j_istore_n (pc := 110) C dX9_product_110 rfl (Nat.le_of_ble_eq_true rfl) rfl ?_
              refine j_goto (pc := 111) 51 C dX9_product_111 (by decide) ?_
              exact j_mask [true, true] (ih51 _ _ hk)
      exact j_mask [true, true] (L51  _ _ _ hk)
  · have hk := it_f h3 hk
    refine j_sipush (pc := 13) (v := nI 20007) C dX9_product_13 (by decide) ?_
    refine j_goto (pc := 16) 50 C dX9_product_16 (by decide) ?_
    refine j_istore_n (pc := 50) C dX9_product_50 rfl (Nat.le_of_ble_eq_true rfl) rfl ?_
    have L51 : ∀  (n51 : Nat) (x1 : Int32) (I : II), f_X9_product_L51 F c_X9_one n51 x1 I = some I9 → J G p l e (rmZ Rf Rl) s m args below meth c 2 (.returned none) (sh, I9) (rmZ Rf Rl).cells (rmZ Rf Rl).slots (sh, I) 0 0 51 [some (.ref (wad G 27)), some (.int x1)] [] := by
      intro  n51
      induction n51 with
      | zero => intro x1 I hk; rw [f_X9_product_L51] at hk; cases hk
      | succ n51 ih51 =>
        intro x1 I hk
        rw [f_X9_product_L51] at hk
        generalize f_X9_product_L51 F c_X9_one n51 = k51 at ih51 hk
        refine j_iload_n (pc := 51) C dX9_product_51 rfl rfl ?_
        refine j_if_le (pc := 52) 114 C dX9_product_52 (by decide) (fun h35 => ?_) (fun h35 => ?_)
        · have hk := it_t h35 hk
          exact j_vretW (pc := 114) C dX9_product_114 (Nat.zero_le _) (Nat.zero_le _) hk
        · have hk := it_f h35 hk
          refine j_aload_n (pc := 55) C dX9_product_55 rfl rfl ?_
          obtain ⟨I56, h36, hk⟩ := ob_some hk
          refine j_callV (pc := 56) C (hc_X9_one h36) mv_X9_one (stM_o hS) rfl rfl q2181 dX9_product_56 rfl rfl (Nat.le_of_ble_eq_true rfl) hr_X9_one ?_
          refine j_aload_n (pc := 59) C dX9_product_59 rfl rfl ?_
          refine j_iload_n (pc := 60) C dX9_product_60 rfl rfl ?_
          obtain ⟨I61, h37, hk⟩ := ob_some hk
          refine j_callV (pc := 61) C (ct_X9_codes hS h37) mv_X9_codes (stM_o hS) rfl rfl q2189 dX9_product_61 rfl rfl (Nat.le_of_ble_eq_true rfl) hr_X9_codes ?_
          refine j_aload_n (pc := 64) C dX9_product_64 rfl rfl ?_
          refine j_bipush (pc := 65) (v := nI 42) C dX9_product_65 (by decide) ?_
          obtain ⟨r67, I67, h38, hk⟩ := bd2_some hk
          refine j_callV (pc := 67) C (ct_X9_takes hS h38) mv_X9_takes (stM_o hS) rfl rfl q2193 dX9_product_67 rfl rfl (Nat.le_of_ble_eq_true rfl) hr_X9_takes ?_
          refine j_if_eq (pc := 70) 79 C dX9_product_70 (by decide) (fun h39 => ?_) (fun h39 => ?_)
          · have hk := it_t h39 hk
            refine j_aload_n (pc := 79) C dX9_product_79 rfl rfl ?_
            refine j_bipush (pc := 80) (v := nI 47) C dX9_product_80 (by decide) ?_
            obtain ⟨r82, I82, h40, hk⟩ := bd2_some hk
            refine j_callV (pc := 82) C (ct_X9_takes hS h40) mv_X9_takes (stM_o hS) rfl rfl q2193 dX9_product_82 rfl rfl (Nat.le_of_ble_eq_true rfl) hr_X9_takes ?_
            refine j_if_eq (pc := 85) 94 C dX9_product_85 (by decide) (fun h41 => ?_) (fun h41 => ?_)
            · have hk := it_t h41 hk
              refine j_aload_n (pc := 94) C dX9_product_94 rfl rfl ?_
              refine j_bipush (pc := 95) (v := nI 37) C dX9_product_95 (by decide) ?_
              obtain ⟨r97, I97, h42, hk⟩ := bd2_some hk
              refine j_callV (pc := 97) C (ct_X9_takes hS h42) mv_X9_takes (stM_o hS) rfl rfl q2193 dX9_product_97 rfl rfl (Nat.le_of_ble_eq_true rfl) hr_X9_takes ?_
              refine j_if_eq (pc := 100) 109 C dX9_product_100 (by decide) (fun h43 => ?_) (fun h43 => ?_)
              · have hk := it_t h43 hk
                refine j_iconst (pc := 109) (v := nI 0) C dX9_product_109 (by decide) ?_
                refine j_istore_n (pc := 110) C dX9_product_110 rfl (Nat.le_of_ble_eq_true rfl) rfl ?_
                refine j_goto (pc := 111) 51 C dX9_product_111 (by decide) ?_
                exact j_mask [true, true] (ih51 _ _ hk)
              · have hk := it_f h43 hk
                refine j_sipush (pc := 103) (v := nI 20009) C dX9_product_103 (by decide) ?_
                refine j_goto (pc := 106) 110 C dX9_product_106 (by decide) ?_
                refine j_istore_n (pc := 110) C dX9_product_110 rfl (Nat.le_of_ble_eq_true rfl) rfl ?_
                refine j_goto (pc := 111) 51 C dX9_product_111 (by decide) ?_
                exact j_mask [true, true] (ih51 _ _ hk)
            · have hk := it_f h41 hk
              refine j_sipush (pc := 88) (v := nI 20008) C dX9_product_88 (by decide) ?_
              refine j_goto (pc := 91) 110 C dX9_product_91 (by decide) ?_
              refine j_istore_n (pc := 110) C dX9_product_110 rfl (Nat.le_of_ble_eq_true rfl) rfl ?_
              refine j_goto (pc := 111) 51 C dX9_product_111 (by decide) ?_
              exact j_mask [true, true] (ih51 _ _ hk)
          · have hk := it_f h39 hk
            refine j_sipush (pc := 73) (v := nI 20007) C dX9_product_73 (by decide) ?_
            refine j_goto (pc := 76) 110 C dX9_product_76 (by decide) ?_
            refine j_istore_n (pc := 110) C dX9_product_110 rfl (Nat.le_of_ble_eq_true rfl) rfl ?_
            refine j_goto (pc := 111) 51 C dX9_product_111 (by decide) ?_
            exact j_mask [true, true] (ih51 _ _ hk)
    exact j_mask [true, true] (L51  _ _ _ hk)
set_option maxHeartbeats 4000000 in
theorem ctb_X9_sum {G : WG} {l : Launch} {sh : SH} (hS : StM sh) {Rf Rl : Nat} {fc_X9_product lc_X9_product : Nat} {c_X9_product : II → Option II} {F : Nat} (hc_X9_product : ∀ {I : II} {I9 : II}, c_X9_product I = some I9 → CT G l yX9_product (ws_ yX9_product cX9_product 2 none) (rmZ fc_X9_product lc_X9_product) [.ref (wad G 27)] (sh, I) (.returned none) (sh, I9)) (hr_X9_product : rmOK (rmZ fc_X9_product lc_X9_product) (rmZ Rf Rl) 2 0 0 = true) (hr_X9_takes : rmOK rm_X9_takes (rmZ Rf Rl) 3 0 0 = true) (hr_X9_codes : rmOK rm_X9_codes (rmZ Rf Rl) 2 0 0 = true) {I : II}  {I9 : II} (hk : fb_X9_sum F c_X9_product I = some I9) : CT G l yX9_sum (ws_ yX9_sum cX9_sum 2 none) (rmZ Rf Rl) [.ref (wad G 27)] (sh, I) (.returned none) (sh, I9) := by
  refine CT.ofJ "NineDemandsModel" rfl (by decide) (Nat.le_of_ble_eq_true rfl) ?_
  intro p e s m args below meth c C
  unfold fb_X9_sum at hk
  refine j_lv (lv' := [some (.ref (wad G 27)), none]) rfl ?_
  refine j_aload_n (pc := 0) C dX9_sum_0 rfl rfl ?_
  obtain ⟨I1, h1, hk⟩ := ob_some hk
  refine j_callV (pc := 1) C (hc_X9_product h1) mv_X9_product (stM_o hS) rfl rfl q2177 dX9_sum_1 rfl rfl (Nat.le_of_ble_eq_true rfl) hr_X9_product ?_
  refine j_aload_n (pc := 4) C dX9_sum_4 rfl rfl ?_
  refine j_bipush (pc := 5) (v := nI 43) C dX9_sum_5 (by decide) ?_
  obtain ⟨r7, I7, h2, hk⟩ := bd2_some hk
  refine j_callV (pc := 7) C (ct_X9_takes hS h2) mv_X9_takes (stM_o hS) rfl rfl q2193 dX9_sum_7 rfl rfl (Nat.le_of_ble_eq_true rfl) hr_X9_takes ?_
  refine j_if_eq (pc := 10) 19 C dX9_sum_10 (by decide) (fun h3 => ?_) (fun h3 => ?_)
  · have hk := it_t h3 hk
    refine j_aload_n (pc := 19) C dX9_sum_19 rfl rfl ?_
    refine j_bipush (pc := 20) (v := nI 45) C dX9_sum_20 (by decide) ?_
    obtain ⟨r22, I22, h4, hk⟩ := bd2_some hk
    refine j_callV (pc := 22) C (ct_X9_takes hS h4) mv_X9_takes (stM_o hS) rfl rfl q2193 dX9_sum_22 rfl rfl (Nat.le_of_ble_eq_true rfl) hr_X9_takes ?_
    refine j_if_eq (pc := 25) 34 C dX9_sum_25 (by decide) (fun h5 => ?_) (fun h5 => ?_)
    · have hk := it_t h5 hk
      refine j_iconst (pc := 34) (v := nI 0) C dX9_sum_34 (by decide) ?_
      refine j_istore_n (pc := 35) C dX9_sum_35 rfl (Nat.le_of_ble_eq_true rfl) rfl ?_
      have L36 : ∀  (n36 : Nat) (x1 : Int32) (I : II), f_X9_sum_L36 F c_X9_product n36 x1 I = some I9 → J G p l e (rmZ Rf Rl) s m args below meth c 2 (.returned none) (sh, I9) (rmZ Rf Rl).cells (rmZ Rf Rl).slots (sh, I) 0 0 36 [some (.ref (wad G 27)), some (.int x1)] [] := by
        intro  n36
        induction n36 with
        | zero => intro x1 I hk; rw [f_X9_sum_L36] at hk; cases hk
        | succ n36 ih36 =>
          intro x1 I hk
          rw [f_X9_sum_L36] at hk
          generalize f_X9_sum_L36 F c_X9_product n36 = k36 at ih36 hk
          refine j_iload_n (pc := 36) C dX9_sum_36 rfl rfl ?_
          refine j_if_le (pc := 37) 84 C dX9_sum_37 (by decide) (fun h6 => ?_) (fun h6 => ?_)
          · have hk := it_t h6 hk
            exact j_vretW (pc := 84) C dX9_sum_84 (Nat.zero_le _) (Nat.zero_le _) hk
          · have hk := it_f h6 hk
            refine j_aload_n (pc := 40) C dX9_sum_40 rfl rfl ?_
            obtain ⟨I41, h7, hk⟩ := ob_some hk
            refine j_callV (pc := 41) C (hc_X9_product h7) mv_X9_product (stM_o hS) rfl rfl q2177 dX9_sum_41 rfl rfl (Nat.le_of_ble_eq_true rfl) hr_X9_product ?_
            refine j_aload_n (pc := 44) C dX9_sum_44 rfl rfl ?_
            refine j_iload_n (pc := 45) C dX9_sum_45 rfl rfl ?_
            obtain ⟨I46, h8, hk⟩ := ob_some hk
            refine j_callV (pc := 46) C (ct_X9_codes hS h8) mv_X9_codes (stM_o hS) rfl rfl q2189 dX9_sum_46 rfl rfl (Nat.le_of_ble_eq_true rfl) hr_X9_codes ?_
            refine j_aload_n (pc := 49) C dX9_sum_49 rfl rfl ?_
            refine j_bipush (pc := 50) (v := nI 43) C dX9_sum_50 (by decide) ?_
            obtain ⟨r52, I52, h9, hk⟩ := bd2_some hk
            refine j_callV (pc := 52) C (ct_X9_takes hS h9) mv_X9_takes (stM_o hS) rfl rfl q2193 dX9_sum_52 rfl rfl (Nat.le_of_ble_eq_true rfl) hr_X9_takes ?_
            refine j_if_eq (pc := 55) 64 C dX9_sum_55 (by decide) (fun h10 => ?_) (fun h10 => ?_)
            · have hk := it_t h10 hk
              refine j_aload_n (pc := 64) C dX9_sum_64 rfl rfl ?_
              refine j_bipush (pc := 65) (v := nI 45) C dX9_sum_65 (by decide) ?_
              obtain ⟨r67, I67, h11, hk⟩ := bd2_some hk
              refine j_callV (pc := 67) C (ct_X9_takes hS h11) mv_X9_takes (stM_o hS) rfl rfl q2193 dX9_sum_67 rfl rfl (Nat.le_of_ble_eq_true rfl) hr_X9_takes ?_
              refine j_if_eq (pc := 70) 79 C dX9_sum_70 (by decide) (fun h12 => ?_) (fun h12 => ?_)
              · have hk := it_t h12 hk
                refine j_iconst (pc := 79) (v := nI 0) C dX9_sum_79 (by decide) ?_
                refine j_istore_n (pc := 80) C dX9_sum_80 rfl (Nat.le_of_ble_eq_true rfl) rfl ?_
                refine j_goto (pc := 81) 36 C dX9_sum_81 (by decide) ?_
                exact j_mask [true, true] (ih36 _ _ hk)
              · have hk := it_f h12 hk
                refine j_sipush (pc := 73) (v := nI 20006) C dX9_sum_73 (by decide) ?_
                refine j_goto (pc := 76) 80 C dX9_sum_76 (by decide) ?_
                refine j_istore_n (pc := 80) C dX9_sum_80 rfl (Nat.le_of_ble_eq_true rfl) rfl ?_
                refine j_goto (pc := 81) 36 C dX9_sum_81 (by decide) ?_
                exact j_mask [true, true] (ih36 _ _ hk)
            · have hk := it_f h10 hk
              refine j_sipush (pc := 58) (v := nI 20005) C dX9_sum_58 (by decide) ?_
              refine j_goto (pc := 61) 80 C dX9_sum_61 (by decide) ?_
              refine j_istore_n (pc := 80) C dX9_sum_80 rfl (Nat.le_of_ble_eq_true rfl) rfl ?_
              refine j_goto (pc := 81) 36 C dX9_sum_81 (by decide) ?_
              exact j_mask [true, true] (ih36 _ _ hk)
      exact j_mask [true, true] (L36  _ _ _ hk)
    · have hk := it_f h5 hk
      refine j_sipush (pc := 28) (v := nI 20006) C dX9_sum_28 (by decide) ?_
      refine j_goto (pc := 31) 35 C dX9_sum_31 (by decide) ?_
      refine j_istore_n (pc := 35) C dX9_sum_35 rfl (Nat.le_of_ble_eq_true rfl) rfl ?_
      have L36 : ∀  (n36 : Nat) (x1 : Int32) (I : II), f_X9_sum_L36 F c_X9_product n36 x1 I = some I9 → J G p l e (rmZ Rf Rl) s m args below meth c 2 (.returned none) (sh, I9) (rmZ Rf Rl).cells (rmZ Rf Rl).slots (sh, I) 0 0 36 [some (.ref (wad G 27)), some (.int x1)] [] := by
        intro  n36
        induction n36 with
        | zero => intro x1 I hk; rw [f_X9_sum_L36] at hk; cases hk
        | succ n36 ih36 =>
          intro x1 I hk
          rw [f_X9_sum_L36] at hk
          generalize f_X9_sum_L36 F c_X9_product n36 = k36 at ih36 hk
          refine j_iload_n (pc := 36) C dX9_sum_36 rfl rfl ?_
          refine j_if_le (pc := 37) 84 C dX9_sum_37 (by decide) (fun h13 => ?_) (fun h13 => ?_)
          · have hk := it_t h13 hk
            exact j_vretW (pc := 84) C dX9_sum_84 (Nat.zero_le _) (Nat.zero_le _) hk
          · have hk := it_f h13 hk
            refine j_aload_n (pc := 40) C dX9_sum_40 rfl rfl ?_
            obtain ⟨I41, h14, hk⟩ := ob_some hk
            refine j_callV (pc := 41) C (hc_X9_product h14) mv_X9_product (stM_o hS) rfl rfl q2177 dX9_sum_41 rfl rfl (Nat.le_of_ble_eq_true rfl) hr_X9_product ?_
            refine j_aload_n (pc := 44) C dX9_sum_44 rfl rfl ?_
            refine j_iload_n (pc := 45) C dX9_sum_45 rfl rfl ?_
            obtain ⟨I46, h15, hk⟩ := ob_some hk
            refine j_callV (pc := 46) C (ct_X9_codes hS h15) mv_X9_codes (stM_o hS) rfl rfl q2189 dX9_sum_46 rfl rfl (Nat.le_of_ble_eq_true rfl) hr_X9_codes ?_
            refine j_aload_n (pc := 49) C dX9_sum_49 rfl rfl ?_
            refine j_bipush (pc := 50) (v := nI 43) C dX9_sum_50 (by decide) ?_
            obtain ⟨r52, I52, h16, hk⟩ := bd2_some hk
            refine j_callV (pc := 52) C (ct_X9_takes hS h16) mv_X9_takes (stM_o hS) rfl rfl q2193 dX9_sum_52 rfl rfl (Nat.le_of_ble_eq_true rfl) hr_X9_takes ?_
            refine j_if_eq (pc := 55) 64 C dX9_sum_55 (by decide) (fun h17 => ?_) (fun h17 => ?_)
            · have hk := it_t h17 hk
              refine j_aload_n (pc := 64) C dX9_sum_64 rfl rfl ?_
              refine j_bipush (pc := 65) (v := nI 45) C dX9_sum_65 (by decide) ?_
              obtain ⟨r67, I67, h18, hk⟩ := bd2_some hk
              refine j_callV (pc := 67) C (ct_X9_takes hS h18) mv_X9_takes (stM_o hS) rfl rfl q2193 dX9_sum_67 rfl rfl (Nat.le_of_ble_eq_true rfl) hr_X9_takes ?_
              refine j_if_eq (pc := 70) 79 C dX9_sum_70 (by decide) (fun h19 => ?_) (fun h19 => ?_)
              · have hk := it_t h19 hk
                refine j_iconst (pc := 79) (v := nI 0) C dX9_sum_79 (by decide) ?_
                refine j_istore_n (pc := 80) C dX9_sum_80 rfl (Nat.le_of_ble_eq_true rfl) rfl ?_
                refine j_goto (pc := 81) 36 C dX9_sum_81 (by decide) ?_
                exact j_mask [true, true] (ih36 _ _ hk)
              · have hk := it_f h19 hk
                refine j_sipush (pc := 73) (v := nI 20006) C dX9_sum_73 (by decide) ?_
                refine j_goto (pc := 76) 80 C dX9_sum_76 (by decide) ?_
                refine j_istore_n (pc := 80) C dX9_sum_80 rfl (Nat.le_of_ble_eq_true rfl) rfl ?_
                refine j_goto (pc := 81) 36 C dX9_sum_81 (by decide) ?_
                exact j_mask [true, true] (ih36 _ _ hk)
            · have hk := it_f h17 hk
              refine j_sipush (pc := 58) (v := nI 20005) C dX9_sum_58 (by decide) ?_
              refine j_goto (pc := 61) 80 C dX9_sum_61 (by decide) ?_
              refine j_istore_n (pc := 80) C dX9_sum_80 rfl (Nat.le_of_ble_eq_true rfl) rfl ?_
              refine j_goto (pc := 81) 36 C dX9_sum_81 (by decide) ?_
              exact j_mask [true, true] (ih36 _ _ hk)
      exact j_mask [true, true] (L36  _ _ _ hk)
  · have hk := it_f h3 hk
    refine j_sipush (pc := 13) (v := nI 20005) C dX9_sum_13 (by decide) ?_
    refine j_goto (pc := 16) 35 C dX9_sum_16 (by decide) ?_
    refine j_istore_n (pc := 35) C dX9_sum_35 rfl (Nat.le_of_ble_eq_true rfl) rfl ?_
    have L36 : ∀  (n36 : Nat) (x1 : Int32) (I : II), f_X9_sum_L36 F c_X9_product n36 x1 I = some I9 → J G p l e (rmZ Rf Rl) s m args below meth c 2 (.returned none) (sh, I9) (rmZ Rf Rl).cells (rmZ Rf Rl).slots (sh, I) 0 0 36 [some (.ref (wad G 27)), some (.int x1)] [] := by
      intro  n36
      induction n36 with
      | zero => intro x1 I hk; rw [f_X9_sum_L36] at hk; cases hk
      | succ n36 ih36 =>
        intro x1 I hk
        rw [f_X9_sum_L36] at hk
        generalize f_X9_sum_L36 F c_X9_product n36 = k36 at ih36 hk
        refine j_iload_n (pc := 36) C dX9_sum_36 rfl rfl ?_
        refine j_if_le (pc := 37) 84 C dX9_sum_37 (by decide) (fun h20 => ?_) (fun h20 => ?_)
        · have hk := it_t h20 hk
          exact j_vretW (pc := 84) C dX9_sum_84 (Nat.zero_le _) (Nat.zero_le _) hk
        · have hk := it_f h20 hk
          refine j_aload_n (pc := 40) C dX9_sum_40 rfl rfl ?_
          obtain ⟨I41, h21, hk⟩ := ob_some hk
          refine j_callV (pc := 41) C (hc_X9_product h21) mv_X9_product (stM_o hS) rfl rfl q2177 dX9_sum_41 rfl rfl (Nat.le_of_ble_eq_true rfl) hr_X9_product ?_
          refine j_aload_n (pc := 44) C dX9_sum_44 rfl rfl ?_
          refine j_iload_n (pc := 45) C dX9_sum_45 rfl rfl ?_
          obtain ⟨I46, h22, hk⟩ := ob_some hk
          refine j_callV (pc := 46) C (ct_X9_codes hS h22) mv_X9_codes (stM_o hS) rfl rfl q2189 dX9_sum_46 rfl rfl (Nat.le_of_ble_eq_true rfl) hr_X9_codes ?_
          refine j_aload_n (pc := 49) C dX9_sum_49 rfl rfl ?_
          refine j_bipush (pc := 50) (v := nI 43) C dX9_sum_50 (by decide) ?_
          obtain ⟨r52, I52, h23, hk⟩ := bd2_some hk
          refine j_callV (pc := 52) C (ct_X9_takes hS h23) mv_X9_takes (stM_o hS) rfl rfl q2193 dX9_sum_52 rfl rfl (Nat.le_of_ble_eq_true rfl) hr_X9_takes ?_
          refine j_if_eq (pc := 55) 64 C dX9_sum_55 (by decide) (fun h24 => ?_) (fun h24 => ?_)
          · have hk := it_t h24 hk
            refine j_aload_n (pc := 64) C dX9_sum_64 rfl rfl ?_
            refine j_bipush (pc := 65) (v := nI 45) C dX9_sum_65 (by decide) ?_
            obtain ⟨r67, I67, h25, hk⟩ := bd2_some hk
            refine j_callV (pc := 67) C (ct_X9_takes hS h25) mv_X9_takes (stM_o hS) rfl rfl q2193 dX9_sum_67 rfl rfl (Nat.le_of_ble_eq_true rfl) hr_X9_takes ?_
            refine j_if_eq (pc := 70) 79 C dX9_sum_70 (by decide) (fun h26 => ?_) (fun h26 => ?_)
            · have hk := it_t h26 hk
              refine j_iconst (pc := 79) (v := nI 0) C dX9_sum_79 (by decide) ?_
              refine j_istore_n (pc := 80) C dX9_sum_80 rfl (Nat.le_of_ble_eq_true rfl) rfl ?_
              refine j_goto (pc := 81) 36 C dX9_sum_81 (by decide) ?_
              exact j_mask [true, true] (ih36 _ _ hk)
            · have hk := it_f h26 hk
              refine j_sipush (pc := 73) (v := nI 20006) C dX9_sum_73 (by decide) ?_
              refine j_goto (pc := 76) 80 C dX9_sum_76 (by decide) ?_
              refine j_istore_n (pc := 80) C dX9_sum_80 rfl (Nat.le_of_ble_eq_true rfl) rfl ?_
              refine j_goto (pc := 81) 36 C dX9_sum_81 (by decide) ?_
              exact j_mask [true, true] (ih36 _ _ hk)
          · have hk := it_f h24 hk
            refine j_sipush (pc := 58) (v := nI 20005) C dX9_sum_58 (by decide) ?_
            refine j_goto (pc := 61) 80 C dX9_sum_61 (by decide) ?_
            refine j_istore_n (pc := 80) C dX9_sum_80 rfl (Nat.le_of_ble_eq_true rfl) rfl ?_
            refine j_goto (pc := 81) 36 C dX9_sum_81 (by decide) ?_
            exact j_mask [true, true] (ih36 _ _ hk)
    exact j_mask [true, true] (L36  _ _ _ hk)
def g_X9_both (F : Nat) : Nat → (II → Option II) × (II → Option II) × (II → Option II) × (II → Option II) × (II → Option II) × (II → Option II)
  | 0 => (fun _ => none, fun _ => none, fun _ => none, fun _ => none, fun _ => none, fun _ => none)
  | d + 1 => (fb_X9_both F (g_X9_both F d).2.1, fb_X9_compared F (g_X9_both F d).2.2.2.2.2, fb_X9_either F (g_X9_both F d).1, fb_X9_one F (g_X9_both F d).2.2.1 (g_X9_both F d).2.2.2.1, fb_X9_product F (g_X9_both F d).2.2.2.1, fb_X9_sum F (g_X9_both F d).2.2.2.2.1)
def f_X9_both (F d : Nat) : II → Option II := (g_X9_both F d).1
def f_X9_compared (F d : Nat) : II → Option II := (g_X9_both F d).2.1
def f_X9_either (F d : Nat) : II → Option II := (g_X9_both F d).2.2.1
def f_X9_one (F d : Nat) : II → Option II := (g_X9_both F d).2.2.2.1
def f_X9_product (F d : Nat) : II → Option II := (g_X9_both F d).2.2.2.2.1
def f_X9_sum (F d : Nat) : II → Option II := (g_X9_both F d).2.2.2.2.2
theorem f_X9_both_s (F d : Nat) : f_X9_both F (d + 1) = fb_X9_both F (f_X9_compared F d) := rfl
theorem f_X9_compared_s (F d : Nat) : f_X9_compared F (d + 1) = fb_X9_compared F (f_X9_sum F d) := rfl
theorem f_X9_either_s (F d : Nat) : f_X9_either F (d + 1) = fb_X9_either F (f_X9_both F d) := rfl
theorem f_X9_one_s (F d : Nat) : f_X9_one F (d + 1) = fb_X9_one F (f_X9_either F d) (f_X9_one F d) := rfl
theorem f_X9_product_s (F d : Nat) : f_X9_product F (d + 1) = fb_X9_product F (f_X9_one F d) := rfl
theorem f_X9_sum_s (F d : Nat) : f_X9_sum F (d + 1) = fb_X9_sum F (f_X9_product F d) := rfl
abbrev rm_X9_both (d : Nat) : Room := rmZ (d + 2) (23 * d + 42)
abbrev rm_X9_compared (d : Nat) : Room := rmZ (d + 2) (23 * d + 42)
abbrev rm_X9_either (d : Nat) : Room := rmZ (d + 2) (23 * d + 42)
abbrev rm_X9_one (d : Nat) : Room := rmZ (d + 2) (23 * d + 42)
abbrev rm_X9_product (d : Nat) : Room := rmZ (d + 2) (23 * d + 42)
abbrev rm_X9_sum (d : Nat) : Room := rmZ (d + 2) (23 * d + 42)
set_option maxHeartbeats 4000000 in
theorem ctg_X9_both {G : WG} {l : Launch} {sh : SH} (hS : StM sh) (F : Nat) : ∀ d : Nat, (∀ (I : II) (I9 : II), f_X9_both F d I = some I9 → CT G l yX9_both (ws_ yX9_both cX9_both 1 none) (rm_X9_both d) [.ref (wad G 27)] (sh, I) (.returned none) (sh, I9)) ∧ (∀ (I : II) (I9 : II), f_X9_compared F d I = some I9 → CT G l yX9_compared (ws_ yX9_compared cX9_compared 2 none) (rm_X9_compared d) [.ref (wad G 27)] (sh, I) (.returned none) (sh, I9)) ∧ (∀ (I : II) (I9 : II), f_X9_either F d I = some I9 → CT G l yX9_either (ws_ yX9_either cX9_either 1 none) (rm_X9_either d) [.ref (wad G 27)] (sh, I) (.returned none) (sh, I9)) ∧ (∀ (I : II) (I9 : II), f_X9_one F d I = some I9 → CT G l yX9_one (ws_ yX9_one cX9_one 4 none) (rm_X9_one d) [.ref (wad G 27)] (sh, I) (.returned none) (sh, I9)) ∧ (∀ (I : II) (I9 : II), f_X9_product F d I = some I9 → CT G l yX9_product (ws_ yX9_product cX9_product 2 none) (rm_X9_product d) [.ref (wad G 27)] (sh, I) (.returned none) (sh, I9)) ∧ (∀ (I : II) (I9 : II), f_X9_sum F d I = some I9 → CT G l yX9_sum (ws_ yX9_sum cX9_sum 2 none) (rm_X9_sum d) [.ref (wad G 27)] (sh, I) (.returned none) (sh, I9)) := by
  intro d
  induction d with
  | zero =>
    refine ⟨?_, ?_, ?_, ?_, ?_, ?_⟩ <;> (intros; rename_i hk; cases hk)
  | succ d ih =>
    obtain ⟨ih_X9_both, ih_X9_compared, ih_X9_either, ih_X9_one, ih_X9_product, ih_X9_sum⟩ := ih
    refine ⟨?_, ?_, ?_, ?_, ?_, ?_⟩
    · intro v0 v1 hk
      exact ctb_X9_both (F := F) hS (fun {a0 a1} hk => ih_X9_compared a0 a1 hk) (rmOK.i (by dsimp only; omega) (by dsimp only; omega) (by dsimp only; omega) (by dsimp only; omega)) (rmOK.i (by dsimp only; omega) (by dsimp only; omega) (by dsimp only; omega) (by dsimp only; omega)) (rmOK.i (by dsimp only; omega) (by dsimp only; omega) (by dsimp only; omega) (by dsimp only; omega)) hk
    · intro v0 v1 hk
      exact ctb_X9_compared (F := F) hS (fun {a0 a1} hk => ih_X9_sum a0 a1 hk) (rmOK.i (by dsimp only; omega) (by dsimp only; omega) (by dsimp only; omega) (by dsimp only; omega)) (rmOK.i (by dsimp only; omega) (by dsimp only; omega) (by dsimp only; omega) (by dsimp only; omega)) (rmOK.i (by dsimp only; omega) (by dsimp only; omega) (by dsimp only; omega) (by dsimp only; omega)) hk
    · intro v0 v1 hk
      exact ctb_X9_either (F := F) hS (fun {a0 a1} hk => ih_X9_both a0 a1 hk) (rmOK.i (by dsimp only; omega) (by dsimp only; omega) (by dsimp only; omega) (by dsimp only; omega)) (rmOK.i (by dsimp only; omega) (by dsimp only; omega) (by dsimp only; omega) (by dsimp only; omega)) (rmOK.i (by dsimp only; omega) (by dsimp only; omega) (by dsimp only; omega) (by dsimp only; omega)) hk
    · intro v0 v1 hk
      exact ctb_X9_one (F := F) hS (fun {a0 a1} hk => ih_X9_either a0 a1 hk) (fun {a0 a1} hk => ih_X9_one a0 a1 hk) (rmOK.i (by dsimp only; omega) (by dsimp only; omega) (by dsimp only; omega) (by dsimp only; omega)) (rmOK.i (by dsimp only; omega) (by dsimp only; omega) (by dsimp only; omega) (by dsimp only; omega)) (rmOK.i (by dsimp only; omega) (by dsimp only; omega) (by dsimp only; omega) (by dsimp only; omega)) (rmOK.i (by dsimp only; omega) (by dsimp only; omega) (by dsimp only; omega) (by dsimp only; omega)) (rmOK.i (by dsimp only; omega) (by dsimp only; omega) (by dsimp only; omega) (by dsimp only; omega)) (rmOK.i (by dsimp only; omega) (by dsimp only; omega) (by dsimp only; omega) (by dsimp only; omega)) (rmOK.i (by dsimp only; omega) (by dsimp only; omega) (by dsimp only; omega) (by dsimp only; omega)) hk
    · intro v0 v1 hk
      exact ctb_X9_product (F := F) hS (fun {a0 a1} hk => ih_X9_one a0 a1 hk) (rmOK.i (by dsimp only; omega) (by dsimp only; omega) (by dsimp only; omega) (by dsimp only; omega)) (rmOK.i (by dsimp only; omega) (by dsimp only; omega) (by dsimp only; omega) (by dsimp only; omega)) (rmOK.i (by dsimp only; omega) (by dsimp only; omega) (by dsimp only; omega) (by dsimp only; omega)) hk
    · intro v0 v1 hk
      exact ctb_X9_sum (F := F) hS (fun {a0 a1} hk => ih_X9_product a0 a1 hk) (rmOK.i (by dsimp only; omega) (by dsimp only; omega) (by dsimp only; omega) (by dsimp only; omega)) (rmOK.i (by dsimp only; omega) (by dsimp only; omega) (by dsimp only; omega) (by dsimp only; omega)) (rmOK.i (by dsimp only; omega) (by dsimp only; omega) (by dsimp only; omega) (by dsimp only; omega)) hk
theorem ct_X9_both {G : WG} {l : Launch} {sh : SH} (hS : StM sh) {F d : Nat} {I : II}  {I9 : II} (hk : f_X9_both F d I = some I9) : CT G l yX9_both (ws_ yX9_both cX9_both 1 none) (rm_X9_both d) [.ref (wad G 27)] (sh, I) (.returned none) (sh, I9) := (ctg_X9_both hS F d).1 _ _ hk
theorem ct_X9_compared {G : WG} {l : Launch} {sh : SH} (hS : StM sh) {F d : Nat} {I : II}  {I9 : II} (hk : f_X9_compared F d I = some I9) : CT G l yX9_compared (ws_ yX9_compared cX9_compared 2 none) (rm_X9_compared d) [.ref (wad G 27)] (sh, I) (.returned none) (sh, I9) := (ctg_X9_both hS F d).2.1 _ _ hk
theorem ct_X9_either {G : WG} {l : Launch} {sh : SH} (hS : StM sh) {F d : Nat} {I : II}  {I9 : II} (hk : f_X9_either F d I = some I9) : CT G l yX9_either (ws_ yX9_either cX9_either 1 none) (rm_X9_either d) [.ref (wad G 27)] (sh, I) (.returned none) (sh, I9) := (ctg_X9_both hS F d).2.2.1 _ _ hk
theorem ct_X9_one {G : WG} {l : Launch} {sh : SH} (hS : StM sh) {F d : Nat} {I : II}  {I9 : II} (hk : f_X9_one F d I = some I9) : CT G l yX9_one (ws_ yX9_one cX9_one 4 none) (rm_X9_one d) [.ref (wad G 27)] (sh, I) (.returned none) (sh, I9) := (ctg_X9_both hS F d).2.2.2.1 _ _ hk
theorem ct_X9_product {G : WG} {l : Launch} {sh : SH} (hS : StM sh) {F d : Nat} {I : II}  {I9 : II} (hk : f_X9_product F d I = some I9) : CT G l yX9_product (ws_ yX9_product cX9_product 2 none) (rm_X9_product d) [.ref (wad G 27)] (sh, I) (.returned none) (sh, I9) := (ctg_X9_both hS F d).2.2.2.2.1 _ _ hk
theorem ct_X9_sum {G : WG} {l : Launch} {sh : SH} (hS : StM sh) {F d : Nat} {I : II}  {I9 : II} (hk : f_X9_sum F d I = some I9) : CT G l yX9_sum (ws_ yX9_sum cX9_sum 2 none) (rm_X9_sum d) [.ref (wad G 27)] (sh, I) (.returned none) (sh, I9) := (ctg_X9_both hS F d).2.2.2.2.2 _ _ hk
