/-! the reference: walks -/
set_option maxRecDepth 100000
def f_X9_done (x0 : Int32) (x1 : Int32) (x2 : Int32) : Option Int32 := if x0 = nI 20000 then if x1 = 0 then if x2 = 0 then some (nI 0) else some (nI 1) else some (nI 1) else if x0 = nI 20001 then if x1 = 0 then some (nI 0) else if x2 = 0 then some (nI 0) else some (nI 1) else if x0 = nI 20002 then if x2 ≤ x1 then some (nI 0) else some (nI 1) else if x0 = nI 20003 then if x1 = x2 then some (nI 1) else some (nI 0) else if x0 = nI 20004 then if x1 ≤ x2 then some (nI 0) else some (nI 1) else if x0 = nI 20005 then some (x1 + x2) else if x0 = nI 20006 then some (x1 - x2) else if x0 = nI 20007 then some (x1 * x2) else if x0 = nI 20008 then if x2 = 0 then some (nI 0) else og (¬ x2 = 0) <| some (x1 / x2) else if x2 = 0 then some (nI 0) else og (¬ x2 = 0) <| some (x1 - x1 / x2 * x2)
abbrev rm_X9_done : Room := { frames := 0, cells := 0, slots := 0, locals := 0 }
theorem ms_X9_done : MS yX9_done cX9_done 3 (some .int) 3 := ⟨q2217, q106, q2218, by decide +kernel⟩
set_option maxHeartbeats 4000000 in
theorem ct_X9_done {G : WG} {l : Launch} {sh : SH} {I : II} {x0 : Int32} {x1 : Int32} {x2 : Int32} {r : Int32} (hk : f_X9_done x0 x1 x2 = some r) : CT G l yX9_done (ws_ yX9_done cX9_done 3 (some .int)) rm_X9_done [.int x0, .int x1, .int x2] (sh, I) (.returned (some (.int r))) (sh, I) := by
  refine CT.ofJ "NineDemandsModel" rfl (by decide) (Nat.le_of_ble_eq_true rfl) ?_
  intro p e s m args below meth c C
  unfold f_X9_done at hk
  refine j_lv (lv' := [some (.int x0), some (.int x1), some (.int x2)]) rfl ?_
  refine j_iload_n (pc := 0) C dX9_done_0 rfl rfl ?_
  by_cases h1 : x0 = nI 20000
  · have hk := it_t h1 hk
    refine j_tableIn (pc := 1) 52 20000 C dX9_done_1 (sw_in h1 (by decide)) (by decide) (by decide) rfl (by decide) ?_
    refine j_iload_n (pc := 52) C dX9_done_52 rfl rfl ?_
    refine j_if_ne (pc := 53) 60 C dX9_done_53 (by decide) (fun h2 => ?_) (fun h2 => ?_)
    · have hk := it_f h2 hk
      refine j_iconst (pc := 60) (v := nI 1) C dX9_done_60 (by decide) ?_
      refine j_goto (pc := 61) 65 C dX9_done_61 (by decide) ?_
      exact j_iretR (pc := 65) C dX9_done_65 (Nat.le_of_ble_eq_true rfl) (Nat.le_of_ble_eq_true rfl) hk
    · have hk := it_t h2 hk
      refine j_iload_n (pc := 56) C dX9_done_56 rfl rfl ?_
      refine j_if_eq (pc := 57) 64 C dX9_done_57 (by decide) (fun h3 => ?_) (fun h3 => ?_)
      · have hk := it_t h3 hk
        refine j_iconst (pc := 64) (v := nI 0) C dX9_done_64 (by decide) ?_
        exact j_iretR (pc := 65) C dX9_done_65 (Nat.le_of_ble_eq_true rfl) (Nat.le_of_ble_eq_true rfl) hk
      · have hk := it_f h3 hk
        refine j_iconst (pc := 60) (v := nI 1) C dX9_done_60 (by decide) ?_
        refine j_goto (pc := 61) 65 C dX9_done_61 (by decide) ?_
        exact j_iretR (pc := 65) C dX9_done_65 (Nat.le_of_ble_eq_true rfl) (Nat.le_of_ble_eq_true rfl) hk
  have hk := it_f h1 hk
  by_cases h4 : x0 = nI 20001
  · have hk := it_t h4 hk
    refine j_tableIn (pc := 1) 66 20001 C dX9_done_1 (sw_in h4 (by decide)) (by decide) (by decide) rfl (by decide) ?_
    refine j_iload_n (pc := 66) C dX9_done_66 rfl rfl ?_
    refine j_if_eq (pc := 67) 78 C dX9_done_67 (by decide) (fun h5 => ?_) (fun h5 => ?_)
    · have hk := it_t h5 hk
      refine j_iconst (pc := 78) (v := nI 0) C dX9_done_78 (by decide) ?_
      exact j_iretR (pc := 79) C dX9_done_79 (Nat.le_of_ble_eq_true rfl) (Nat.le_of_ble_eq_true rfl) hk
    · have hk := it_f h5 hk
      refine j_iload_n (pc := 70) C dX9_done_70 rfl rfl ?_
      refine j_if_eq (pc := 71) 78 C dX9_done_71 (by decide) (fun h6 => ?_) (fun h6 => ?_)
      · have hk := it_t h6 hk
        refine j_iconst (pc := 78) (v := nI 0) C dX9_done_78 (by decide) ?_
        exact j_iretR (pc := 79) C dX9_done_79 (Nat.le_of_ble_eq_true rfl) (Nat.le_of_ble_eq_true rfl) hk
      · have hk := it_f h6 hk
        refine j_iconst (pc := 74) (v := nI 1) C dX9_done_74 (by decide) ?_
        refine j_goto (pc := 75) 79 C dX9_done_75 (by decide) ?_
        exact j_iretR (pc := 79) C dX9_done_79 (Nat.le_of_ble_eq_true rfl) (Nat.le_of_ble_eq_true rfl) hk
  have hk := it_f h4 hk
  by_cases h7 : x0 = nI 20002
  · have hk := it_t h7 hk
    refine j_tableIn (pc := 1) 80 20002 C dX9_done_1 (sw_in h7 (by decide)) (by decide) (by decide) rfl (by decide) ?_
    refine j_iload_n (pc := 80) C dX9_done_80 rfl rfl ?_
    refine j_iload_n (pc := 81) C dX9_done_81 rfl rfl ?_
    refine j_icmp_ge (pc := 82) 89 C dX9_done_82 (by decide) (fun h8 => ?_) (fun h8 => ?_)
    · have hk := it_t h8 hk
      refine j_iconst (pc := 89) (v := nI 0) C dX9_done_89 (by decide) ?_
      exact j_iretR (pc := 90) C dX9_done_90 (Nat.le_of_ble_eq_true rfl) (Nat.le_of_ble_eq_true rfl) hk
    · have hk := it_f h8 hk
      refine j_iconst (pc := 85) (v := nI 1) C dX9_done_85 (by decide) ?_
      refine j_goto (pc := 86) 90 C dX9_done_86 (by decide) ?_
      exact j_iretR (pc := 90) C dX9_done_90 (Nat.le_of_ble_eq_true rfl) (Nat.le_of_ble_eq_true rfl) hk
  have hk := it_f h7 hk
  by_cases h9 : x0 = nI 20003
  · have hk := it_t h9 hk
    refine j_tableIn (pc := 1) 91 20003 C dX9_done_1 (sw_in h9 (by decide)) (by decide) (by decide) rfl (by decide) ?_
    refine j_iload_n (pc := 91) C dX9_done_91 rfl rfl ?_
    refine j_iload_n (pc := 92) C dX9_done_92 rfl rfl ?_
    refine j_icmp_ne (pc := 93) 100 C dX9_done_93 (by decide) (fun h10 => ?_) (fun h10 => ?_)
    · have hk := it_f h10 hk
      refine j_iconst (pc := 100) (v := nI 0) C dX9_done_100 (by decide) ?_
      exact j_iretR (pc := 101) C dX9_done_101 (Nat.le_of_ble_eq_true rfl) (Nat.le_of_ble_eq_true rfl) hk
    · have hk := it_t h10 hk
      refine j_iconst (pc := 96) (v := nI 1) C dX9_done_96 (by decide) ?_
      refine j_goto (pc := 97) 101 C dX9_done_97 (by decide) ?_
      exact j_iretR (pc := 101) C dX9_done_101 (Nat.le_of_ble_eq_true rfl) (Nat.le_of_ble_eq_true rfl) hk
  have hk := it_f h9 hk
  by_cases h11 : x0 = nI 20004
  · have hk := it_t h11 hk
    refine j_tableIn (pc := 1) 102 20004 C dX9_done_1 (sw_in h11 (by decide)) (by decide) (by decide) rfl (by decide) ?_
    refine j_iload_n (pc := 102) C dX9_done_102 rfl rfl ?_
    refine j_iload_n (pc := 103) C dX9_done_103 rfl rfl ?_
    refine j_icmp_le (pc := 104) 111 C dX9_done_104 (by decide) (fun h12 => ?_) (fun h12 => ?_)
    · have hk := it_t h12 hk
      refine j_iconst (pc := 111) (v := nI 0) C dX9_done_111 (by decide) ?_
      exact j_iretR (pc := 112) C dX9_done_112 (Nat.le_of_ble_eq_true rfl) (Nat.le_of_ble_eq_true rfl) hk
    · have hk := it_f h12 hk
      refine j_iconst (pc := 107) (v := nI 1) C dX9_done_107 (by decide) ?_
      refine j_goto (pc := 108) 112 C dX9_done_108 (by decide) ?_
      exact j_iretR (pc := 112) C dX9_done_112 (Nat.le_of_ble_eq_true rfl) (Nat.le_of_ble_eq_true rfl) hk
  have hk := it_f h11 hk
  by_cases h13 : x0 = nI 20005
  · have hk := it_t h13 hk
    refine j_tableIn (pc := 1) 113 20005 C dX9_done_1 (sw_in h13 (by decide)) (by decide) (by decide) rfl (by decide) ?_
    refine j_iload_n (pc := 113) C dX9_done_113 rfl rfl ?_
    refine j_iload_n (pc := 114) C dX9_done_114 rfl rfl ?_
    refine j_iadd (pc := 115) C dX9_done_115 ?_
    exact j_iretR (pc := 116) C dX9_done_116 (Nat.le_of_ble_eq_true rfl) (Nat.le_of_ble_eq_true rfl) hk
  have hk := it_f h13 hk
  by_cases h14 : x0 = nI 20006
  · have hk := it_t h14 hk
    refine j_tableIn (pc := 1) 117 20006 C dX9_done_1 (sw_in h14 (by decide)) (by decide) (by decide) rfl (by decide) ?_
    refine j_iload_n (pc := 117) C dX9_done_117 rfl rfl ?_
    refine j_iload_n (pc := 118) C dX9_done_118 rfl rfl ?_
    refine j_isub (pc := 119) C dX9_done_119 ?_
    exact j_iretR (pc := 120) C dX9_done_120 (Nat.le_of_ble_eq_true rfl) (Nat.le_of_ble_eq_true rfl) hk
  have hk := it_f h14 hk
  by_cases h15 : x0 = nI 20007
  · have hk := it_t h15 hk
    refine j_tableIn (pc := 1) 121 20007 C dX9_done_1 (sw_in h15 (by decide)) (by decide) (by decide) rfl (by decide) ?_
    refine j_iload_n (pc := 121) C dX9_done_121 rfl rfl ?_
    refine j_iload_n (pc := 122) C dX9_done_122 rfl rfl ?_
    refine j_imul (pc := 123) C dX9_done_123 ?_
    exact j_iretR (pc := 124) C dX9_done_124 (Nat.le_of_ble_eq_true rfl) (Nat.le_of_ble_eq_true rfl) hk
  have hk := it_f h15 hk
  by_cases h16 : x0 = nI 20008
  · have hk := it_t h16 hk
    refine j_tableIn (pc := 1) 125 20008 C dX9_done_1 (sw_in h16 (by decide)) (by decide) (by decide) rfl (by decide) ?_
    refine j_iload_n (pc := 125) C dX9_done_125 rfl rfl ?_
    refine j_if_ne (pc := 126) 133 C dX9_done_126 (by decide) (fun h17 => ?_) (fun h17 => ?_)
    · have hk := it_f h17 hk
      refine j_iload_n (pc := 133) C dX9_done_133 rfl rfl ?_
      refine j_iload_n (pc := 134) C dX9_done_134 rfl rfl ?_
      obtain ⟨h18, hk⟩ := og_some hk
      refine j_idiv (pc := 135) C dX9_done_135 h18 ?_
      exact j_iretR (pc := 136) C dX9_done_136 (Nat.le_of_ble_eq_true rfl) (Nat.le_of_ble_eq_true rfl) hk
    · have hk := it_t h17 hk
      refine j_iconst (pc := 129) (v := nI 0) C dX9_done_129 (by decide) ?_
      refine j_goto (pc := 130) 136 C dX9_done_130 (by decide) ?_
      exact j_iretR (pc := 136) C dX9_done_136 (Nat.le_of_ble_eq_true rfl) (Nat.le_of_ble_eq_true rfl) hk
  have hk := it_f h16 hk
  refine j_tableOut (pc := 1) 137 C dX9_done_1 (sw_out (lo := 20000) (hi := 20008) (by decide) (fun j a1 a2 => by
    have a3 : j = 20000 ∨ j = 20001 ∨ j = 20002 ∨ j = 20003 ∨ j = 20004 ∨ j = 20005 ∨ j = 20006 ∨ j = 20007 ∨ j = 20008 := by omega
    rcases a3 with rfl | rfl | rfl | rfl | rfl | rfl | rfl | rfl | rfl
    · exact h1
    · exact h4
    · exact h7
    · exact h9
    · exact h11
    · exact h13
    · exact h14
    · exact h15
    · exact h16)) (by decide) ?_
  refine j_iload_n (pc := 137) C dX9_done_137 rfl rfl ?_
  refine j_if_ne (pc := 138) 145 C dX9_done_138 (by decide) (fun h19 => ?_) (fun h19 => ?_)
  · have hk := it_f h19 hk
    refine j_iload_n (pc := 145) C dX9_done_145 rfl rfl ?_
    refine j_iload_n (pc := 146) C dX9_done_146 rfl rfl ?_
    obtain ⟨h20, hk⟩ := og_some hk
    refine j_irem (pc := 147) C dX9_done_147 h20 ?_
    exact j_iretR (pc := 148) C dX9_done_148 (Nat.le_of_ble_eq_true rfl) (Nat.le_of_ble_eq_true rfl) hk
  · have hk := it_t h19 hk
    refine j_iconst (pc := 141) (v := nI 0) C dX9_done_141 (by decide) ?_
    refine j_goto (pc := 142) 148 C dX9_done_142 (by decide) ?_
    exact j_iretR (pc := 148) C dX9_done_148 (Nat.le_of_ble_eq_true rfl) (Nat.le_of_ble_eq_true rfl) hk
def f_X9_named (F : Nat) (x1 : Int32) (I : II) : Option Int32 := oix (I 27 15) 90 fun i8 => if x1 = nI 0 then (f_X9_wanting F (I 32 i8) (nI 0)).bind fun r62 => some r62 else if x1 = nI 1 then (f_X9_wanting F (I 32 i8) (nI 1)).bind fun r68 => some r68 else if x1 = nI 2 then some (I 27 16) else if x1 = nI 3 then (f_X9_size (I 32 i8)).bind fun r78 => some r78 else if x1 = nI 4 then (f_X9_wants (I 32 i8) (x1 - (nI 4))).bind fun r86 => some r86 else if x1 = nI 5 then (f_X9_wants (I 32 i8) (x1 - (nI 4))).bind fun r86 => some r86 else if x1 = nI 6 then (f_X9_wants (I 32 i8) (x1 - (nI 4))).bind fun r86 => some r86 else if x1 = nI 7 then some (I 27 17) else if x1 = nI 8 then oix (I 27 15) 90 fun i103 => (f_X9_size (I 33 i103)).bind fun r104 => (f_X9_size (I 32 i8)).bind fun r108 => if r104 ≤ r108 then oix (I 27 15) 90 fun i139 => (f_X9_wants (I 32 i8) (I 34 i139)).bind fun r140 => some r140 else oix (I 27 15) 90 fun i122 => (f_X9_wants (I 33 i122) (nI 2)).bind fun r124 => some r124 else oix (I 27 15) 90 fun i152 => some (I 34 i152)
abbrev rm_X9_named : Room := { frames := 3, cells := 0, slots := 0, locals := 64 }
theorem mv_X9_named : MV yX9_named cX9_named 3 (some .int) 1 := ⟨q2214, qs59, q106, q2215, by decide +kernel⟩
set_option maxHeartbeats 4000000 in
theorem ct_X9_named {G : WG} {l : Launch} {sh : SH} (hS : StM sh) {I : II} {F : Nat} {x1 : Int32} {r : Int32} (hk : f_X9_named F x1 I = some r) : CT G l yX9_named (ws_ yX9_named cX9_named 3 (some .int)) rm_X9_named [.ref (wad G 27), .int x1] (sh, I) (.returned (some (.int r))) (sh, I) := by
  refine CT.ofJ "NineDemandsModel" rfl (by decide) (Nat.le_of_ble_eq_true rfl) ?_
  intro p e s m args below meth c C
  unfold f_X9_named at hk
  refine j_lv (lv' := [some (.ref (wad G 27)), some (.int x1), none]) rfl ?_
  refine j_aload_n (pc := 0) C dX9_named_0 rfl rfl ?_
  refine j_getR (pc := 1) C fd_10_5 q2005 (stM_o hS) (stM_r5 hS) dX9_named_1 ?_
  refine j_aload_n (pc := 4) C dX9_named_4 rfl rfl ?_
  refine j_getI (pc := 5) C fd_10_15 q2015 (stM_o hS) dX9_named_5 ?_
  obtain ⟨i8, e8, h1, hk⟩ := oix_ex hk
  refine j_iald (pc := 8) C (stM_a32 hS) h1 e8 dX9_named_8 ?_
  refine j_istore_n (pc := 9) C dX9_named_9 rfl (Nat.le_of_ble_eq_true rfl) rfl ?_
  refine j_iload_n (pc := 10) C dX9_named_10 rfl rfl ?_
  by_cases h2 : x1 = nI 0
  · have hk := it_t h2 hk
    refine j_tableIn (pc := 11) 60 0 C dX9_named_11 (sw_in h2 (by decide)) (by decide) (by decide) rfl (by decide) ?_
    refine j_iload_n (pc := 60) C dX9_named_60 rfl rfl ?_
    refine j_iconst (pc := 61) (v := nI 0) C dX9_named_61 (by decide) ?_
    obtain ⟨r62, h3, hk⟩ := ob_some hk
    refine j_callS (pc := 62) C (ct_X9_wanting h3) ms_X9_wanting q2116 dX9_named_62 rfl rfl (Nat.le_of_ble_eq_true rfl) rfl ?_
    exact j_iretR (pc := 65) C dX9_named_65 (Nat.le_of_ble_eq_true rfl) (Nat.le_of_ble_eq_true rfl) hk
  have hk := it_f h2 hk
  by_cases h4 : x1 = nI 1
  · have hk := it_t h4 hk
    refine j_tableIn (pc := 11) 66 1 C dX9_named_11 (sw_in h4 (by decide)) (by decide) (by decide) rfl (by decide) ?_
    refine j_iload_n (pc := 66) C dX9_named_66 rfl rfl ?_
    refine j_iconst (pc := 67) (v := nI 1) C dX9_named_67 (by decide) ?_
    obtain ⟨r68, h5, hk⟩ := ob_some hk
    refine j_callS (pc := 68) C (ct_X9_wanting h5) ms_X9_wanting q2116 dX9_named_68 rfl rfl (Nat.le_of_ble_eq_true rfl) rfl ?_
    exact j_iretR (pc := 71) C dX9_named_71 (Nat.le_of_ble_eq_true rfl) (Nat.le_of_ble_eq_true rfl) hk
  have hk := it_f h4 hk
  by_cases h6 : x1 = nI 2
  · have hk := it_t h6 hk
    refine j_tableIn (pc := 11) 72 2 C dX9_named_11 (sw_in h6 (by decide)) (by decide) (by decide) rfl (by decide) ?_
    refine j_aload_n (pc := 72) C dX9_named_72 rfl rfl ?_
    refine j_getI (pc := 73) C fd_10_16 q2016 (stM_o hS) dX9_named_73 ?_
    exact j_iretR (pc := 76) C dX9_named_76 (Nat.le_of_ble_eq_true rfl) (Nat.le_of_ble_eq_true rfl) hk
  have hk := it_f h6 hk
  by_cases h7 : x1 = nI 3
  · have hk := it_t h7 hk
    refine j_tableIn (pc := 11) 77 3 C dX9_named_11 (sw_in h7 (by decide)) (by decide) (by decide) rfl (by decide) ?_
    refine j_iload_n (pc := 77) C dX9_named_77 rfl rfl ?_
    obtain ⟨r78, h8, hk⟩ := ob_some hk
    refine j_callS (pc := 78) C (ct_X9_size h8) ms_X9_size q1987 dX9_named_78 rfl rfl (Nat.le_of_ble_eq_true rfl) rfl ?_
    exact j_iretR (pc := 81) C dX9_named_81 (Nat.le_of_ble_eq_true rfl) (Nat.le_of_ble_eq_true rfl) hk
  have hk := it_f h7 hk
  by_cases h9 : x1 = nI 4
  · have hk := it_t h9 hk
    refine j_tableIn (pc := 11) 82 4 C dX9_named_11 (sw_in h9 (by decide)) (by decide) (by decide) rfl (by decide) ?_
    refine j_iload_n (pc := 82) C dX9_named_82 rfl rfl ?_
    refine j_iload_n (pc := 83) C dX9_named_83 rfl rfl ?_
    refine j_iconst (pc := 84) (v := nI 4) C dX9_named_84 (by decide) ?_
    refine j_isub (pc := 85) C dX9_named_85 ?_
    obtain ⟨r86, h10, hk⟩ := ob_some hk
    refine j_callS (pc := 86) C (ct_X9_wants h10) ms_X9_wants q1997 dX9_named_86 rfl rfl (Nat.le_of_ble_eq_true rfl) rfl ?_
    exact j_iretR (pc := 89) C dX9_named_89 (Nat.le_of_ble_eq_true rfl) (Nat.le_of_ble_eq_true rfl) hk
  have hk := it_f h9 hk
  by_cases h11 : x1 = nI 5
  · have hk := it_t h11 hk
    refine j_tableIn (pc := 11) 82 5 C dX9_named_11 (sw_in h11 (by decide)) (by decide) (by decide) rfl (by decide) ?_
    refine j_iload_n (pc := 82) C dX9_named_82 rfl rfl ?_
    refine j_iload_n (pc := 83) C dX9_named_83 rfl rfl ?_
    refine j_iconst (pc := 84) (v := nI 4) C dX9_named_84 (by decide) ?_
    refine j_isub (pc := 85) C dX9_named_85 ?_
    obtain ⟨r86, h12, hk⟩ := ob_some hk
    refine j_callS (pc := 86) C (ct_X9_wants h12) ms_X9_wants q1997 dX9_named_86 rfl rfl (Nat.le_of_ble_eq_true rfl) rfl ?_
    exact j_iretR (pc := 89) C dX9_named_89 (Nat.le_of_ble_eq_true rfl) (Nat.le_of_ble_eq_true rfl) hk
  have hk := it_f h11 hk
  by_cases h13 : x1 = nI 6
  · have hk := it_t h13 hk
    refine j_tableIn (pc := 11) 82 6 C dX9_named_11 (sw_in h13 (by decide)) (by decide) (by decide) rfl (by decide) ?_
    refine j_iload_n (pc := 82) C dX9_named_82 rfl rfl ?_
    refine j_iload_n (pc := 83) C dX9_named_83 rfl rfl ?_
    refine j_iconst (pc := 84) (v := nI 4) C dX9_named_84 (by decide) ?_
    refine j_isub (pc := 85) C dX9_named_85 ?_
    obtain ⟨r86, h14, hk⟩ := ob_some hk
    refine j_callS (pc := 86) C (ct_X9_wants h14) ms_X9_wants q1997 dX9_named_86 rfl rfl (Nat.le_of_ble_eq_true rfl) rfl ?_
    exact j_iretR (pc := 89) C dX9_named_89 (Nat.le_of_ble_eq_true rfl) (Nat.le_of_ble_eq_true rfl) hk
  have hk := it_f h13 hk
  by_cases h15 : x1 = nI 7
  · have hk := it_t h15 hk
    refine j_tableIn (pc := 11) 90 7 C dX9_named_11 (sw_in h15 (by decide)) (by decide) (by decide) rfl (by decide) ?_
    refine j_aload_n (pc := 90) C dX9_named_90 rfl rfl ?_
    refine j_getI (pc := 91) C fd_10_17 q2017 (stM_o hS) dX9_named_91 ?_
    exact j_iretR (pc := 94) C dX9_named_94 (Nat.le_of_ble_eq_true rfl) (Nat.le_of_ble_eq_true rfl) hk
  have hk := it_f h15 hk
  by_cases h16 : x1 = nI 8
  · have hk := it_t h16 hk
    refine j_tableIn (pc := 11) 95 8 C dX9_named_11 (sw_in h16 (by decide)) (by decide) (by decide) rfl (by decide) ?_
    refine j_aload_n (pc := 95) C dX9_named_95 rfl rfl ?_
    refine j_getR (pc := 96) C fd_10_6 q2006 (stM_o hS) (stM_r6 hS) dX9_named_96 ?_
    refine j_aload_n (pc := 99) C dX9_named_99 rfl rfl ?_
    refine j_getI (pc := 100) C fd_10_15 q2015 (stM_o hS) dX9_named_100 ?_
    obtain ⟨i103, e103, h17, hk⟩ := oix_ex hk
    refine j_iald (pc := 103) C (stM_a33 hS) h17 e103 dX9_named_103 ?_
    obtain ⟨r104, h18, hk⟩ := ob_some hk
    refine j_callS (pc := 104) C (ct_X9_size h18) ms_X9_size q1987 dX9_named_104 rfl rfl (Nat.le_of_ble_eq_true rfl) rfl ?_
    refine j_iload_n (pc := 107) C dX9_named_107 rfl rfl ?_
    obtain ⟨r108, h19, hk⟩ := ob_some hk
    refine j_callS (pc := 108) C (ct_X9_size h19) ms_X9_size q1987 dX9_named_108 rfl rfl (Nat.le_of_ble_eq_true rfl) rfl ?_
    refine j_icmp_le (pc := 111) 130 C dX9_named_111 (by decide) (fun h20 => ?_) (fun h20 => ?_)
    · have hk := it_t h20 hk
      refine j_iload_n (pc := 130) C dX9_named_130 rfl rfl ?_
      refine j_aload_n (pc := 131) C dX9_named_131 rfl rfl ?_
      refine j_getR (pc := 132) C fd_10_7 q2007 (stM_o hS) (stM_r7 hS) dX9_named_132 ?_
      refine j_aload_n (pc := 135) C dX9_named_135 rfl rfl ?_
      refine j_getI (pc := 136) C fd_10_15 q2015 (stM_o hS) dX9_named_136 ?_
      obtain ⟨i139, e139, h21, hk⟩ := oix_ex hk
      refine j_iald (pc := 139) C (stM_a34 hS) h21 e139 dX9_named_139 ?_
      obtain ⟨r140, h22, hk⟩ := ob_some hk
      refine j_callS (pc := 140) C (ct_X9_wants h22) ms_X9_wants q1997 dX9_named_140 rfl rfl (Nat.le_of_ble_eq_true rfl) rfl ?_
      exact j_iretR (pc := 143) C dX9_named_143 (Nat.le_of_ble_eq_true rfl) (Nat.le_of_ble_eq_true rfl) hk
    · have hk := it_f h20 hk
      refine j_aload_n (pc := 114) C dX9_named_114 rfl rfl ?_
      refine j_getR (pc := 115) C fd_10_6 q2006 (stM_o hS) (stM_r6 hS) dX9_named_115 ?_
      refine j_aload_n (pc := 118) C dX9_named_118 rfl rfl ?_
      refine j_getI (pc := 119) C fd_10_15 q2015 (stM_o hS) dX9_named_119 ?_
      obtain ⟨i122, e122, h23, hk⟩ := oix_ex hk
      refine j_iald (pc := 122) C (stM_a33 hS) h23 e122 dX9_named_122 ?_
      refine j_iconst (pc := 123) (v := nI 2) C dX9_named_123 (by decide) ?_
      obtain ⟨r124, h24, hk⟩ := ob_some hk
      refine j_callS (pc := 124) C (ct_X9_wants h24) ms_X9_wants q1997 dX9_named_124 rfl rfl (Nat.le_of_ble_eq_true rfl) rfl ?_
      refine j_goto (pc := 127) 143 C dX9_named_127 (by decide) ?_
      exact j_iretR (pc := 143) C dX9_named_143 (Nat.le_of_ble_eq_true rfl) (Nat.le_of_ble_eq_true rfl) hk
  have hk := it_f h16 hk
  refine j_tableOut (pc := 11) 144 C dX9_named_11 (sw_out (lo := 0) (hi := 8) (by decide) (fun j a1 a2 => by
    have a3 : j = 0 ∨ j = 1 ∨ j = 2 ∨ j = 3 ∨ j = 4 ∨ j = 5 ∨ j = 6 ∨ j = 7 ∨ j = 8 := by omega
    rcases a3 with rfl | rfl | rfl | rfl | rfl | rfl | rfl | rfl | rfl
    · exact h2
    · exact h4
    · exact h6
    · exact h7
    · exact h9
    · exact h11
    · exact h13
    · exact h15
    · exact h16)) (by decide) ?_
  refine j_aload_n (pc := 144) C dX9_named_144 rfl rfl ?_
  refine j_getR (pc := 145) C fd_10_7 q2007 (stM_o hS) (stM_r7 hS) dX9_named_145 ?_
  refine j_aload_n (pc := 148) C dX9_named_148 rfl rfl ?_
  refine j_getI (pc := 149) C fd_10_15 q2015 (stM_o hS) dX9_named_149 ?_
  obtain ⟨i152, e152, h25, hk⟩ := oix_ex hk
  refine j_iald (pc := 152) C (stM_a34 hS) h25 e152 dX9_named_152 ?_
  exact j_iretR (pc := 153) C dX9_named_153 (Nat.le_of_ble_eq_true rfl) (Nat.le_of_ble_eq_true rfl) hk
def f_X9_isText_J88 (F : Nat) (k4 : Int32 → Int32 → II → Option (Int32 × II)) (x1 : Int32) (x2 : Int32) (s1 : Int32) (s2 : Int32) (I : II) : Option (Int32 × II) := oix s1 60 fun i88 => k4 x1 (x2 + (nI 1)) (up2 I 36 i88 s2)
def f_X9_isText_J51 (F : Nat) (k4 : Int32 → Int32 → II → Option (Int32 × II)) (x1 : Int32) (x2 : Int32) (s1 : Int32) (s2 : Int32) (I : II) : Option (Int32 × II) := oix s1 60 fun i51 => k4 (x1 + (nI 1)) (x2 + (nI 1)) (up2 I 36 i51 s2)
def f_X9_isText_L4 (F : Nat) : Nat → Int32 → Int32 → II → Option (Int32 × II)
  | 0, _, _, _ => none
  | n4 + 1, x1, x2, I => if (I 27 14) ≤ x2 then oix (nI 0) 60 fun i132 => if (I 36 i132) = 0 then some ((nI 0), I) else some ((nI 1), I) else oix x2 60 fun i17 => if (nI 20000) ≤ (I 35 i17) then if (I 35 i17) = (nI 20010) then oix (x1 - (nI 1)) 60 fun i79 => if (I 36 i79) = 0 then f_X9_isText_J88 F (f_X9_isText_L4 F n4) x1 x2 (x1 - (nI 1)) (nI 1) I else f_X9_isText_J88 F (f_X9_isText_L4 F n4) x1 x2 (x1 - (nI 1)) (nI 0) I else oix ((x1 + (-1)) - (nI 1)) 60 fun i110 => oix (x1 + (-1)) 60 fun i116 => (f_X9_done (I 35 i17) (I 36 i110) (I 36 i116)).bind fun r117 => oix ((x1 + (-1)) - (nI 1)) 60 fun i120 => (f_X9_isText_L4 F n4) (x1 + (-1)) (x2 + (nI 1)) (up2 I 36 i120 r117) else if (nI 10000) ≤ (I 35 i17) then (f_X9_named F ((I 35 i17) - (nI 10000)) I).bind fun r48 => f_X9_isText_J51 F (f_X9_isText_L4 F n4) x1 x2 x1 r48 I else f_X9_isText_J51 F (f_X9_isText_L4 F n4) x1 x2 x1 (I 35 i17) I
def f_X9_isText (F : Nat) (I : II) : Option (Int32 × II) := f_X9_isText_L4 F F (nI 0) (nI 0) I
abbrev rm_X9_isText : Room := { frames := 4, cells := 0, slots := 0, locals := 86 }
theorem mv_X9_isText : MV yX9_isText cX9_isText 4 (some .boolean) 0 := ⟨q2210, qs58, q106, q2211, by decide +kernel⟩
set_option maxHeartbeats 4000000 in
theorem ct_X9_isText {G : WG} {l : Launch} {sh : SH} (hS : StM sh) {I : II} {F : Nat}  {r : Int32} {I9 : II} (hk : f_X9_isText F I = some (r, I9)) : CT G l yX9_isText (ws_ yX9_isText cX9_isText 4 (some .boolean)) rm_X9_isText [.ref (wad G 27)] (sh, I) (.returned (some (.int r))) (sh, I9) := by
  refine CT.ofJ "NineDemandsModel" rfl (by decide) (Nat.le_of_ble_eq_true rfl) ?_
  intro p e s m args below meth c C
  unfold f_X9_isText at hk
  refine j_lv (lv' := [some (.ref (wad G 27)), none, none, none]) rfl ?_
  refine j_iconst (pc := 0) (v := nI 0) C dX9_isText_0 (by decide) ?_
  refine j_istore_n (pc := 1) C dX9_isText_1 rfl (Nat.le_of_ble_eq_true rfl) rfl ?_
  refine j_iconst (pc := 2) (v := nI 0) C dX9_isText_2 (by decide) ?_
  refine j_istore_n (pc := 3) C dX9_isText_3 rfl (Nat.le_of_ble_eq_true rfl) rfl ?_
  have L4 : ∀  (n4 : Nat) (x1 : Int32) (x2 : Int32) (I : II), f_X9_isText_L4 F n4 x1 x2 I = some (r, I9) → J G p l e rm_X9_isText s m args below meth c 4 (.returned (some (.int r))) (sh, I9) (rm_X9_isText).cells (rm_X9_isText).slots (sh, I) 0 0 4 [some (.ref (wad G 27)), some (.int x1), some (.int x2), none] [] := by
    intro  n4
    induction n4 with
    | zero => intro x1 x2 I hk; rw [f_X9_isText_L4] at hk; cases hk
    | succ n4 ih4 =>
      intro x1 x2 I hk
      rw [f_X9_isText_L4] at hk
      generalize f_X9_isText_L4 F n4 = k4 at ih4 hk
      refine j_iload_n (pc := 4) C dX9_isText_4 rfl rfl ?_
      refine j_aload_n (pc := 5) C dX9_isText_5 rfl rfl ?_
      refine j_getI (pc := 6) C fd_10_14 q2014 (stM_o hS) dX9_isText_6 ?_
      refine j_icmp_ge (pc := 9) 127 C dX9_isText_9 (by decide) (fun h1 => ?_) (fun h1 => ?_)
      · have hk := it_t h1 hk
        refine j_aload_n (pc := 127) C dX9_isText_127 rfl rfl ?_
        refine j_getR (pc := 128) C fd_10_18 q2018 (stM_o hS) (stM_r18 hS) dX9_isText_128 ?_
        refine j_iconst (pc := 131) (v := nI 0) C dX9_isText_131 (by decide) ?_
        obtain ⟨i132, e132, h2, hk⟩ := oix_ex hk
        refine j_iald (pc := 132) C (stM_a36 hS) h2 e132 dX9_isText_132 ?_
        refine j_if_eq (pc := 133) 140 C dX9_isText_133 (by decide) (fun h3 => ?_) (fun h3 => ?_)
        · have hk := it_t h3 hk
          refine j_iconst (pc := 140) (v := nI 0) C dX9_isText_140 (by decide) ?_
          exact j_zretW (pc := 141) C dX9_isText_141 (Nat.le_of_ble_eq_true rfl) (Nat.le_of_ble_eq_true rfl) rfl hk
        · have hk := it_f h3 hk
          refine j_iconst (pc := 136) (v := nI 1) C dX9_isText_136 (by decide) ?_
          refine j_goto (pc := 137) 141 C dX9_isText_137 (by decide) ?_
          exact j_zretW (pc := 141) C dX9_isText_141 (Nat.le_of_ble_eq_true rfl) (Nat.le_of_ble_eq_true rfl) rfl hk
      · have hk := it_f h1 hk
        refine j_aload_n (pc := 12) C dX9_isText_12 rfl rfl ?_
        refine j_getR (pc := 13) C fd_10_13 q2013 (stM_o hS) (stM_r13 hS) dX9_isText_13 ?_
        refine j_iload_n (pc := 16) C dX9_isText_16 rfl rfl ?_
        obtain ⟨i17, e17, h4, hk⟩ := oix_ex hk
        refine j_iald (pc := 17) C (stM_a35 hS) h4 e17 dX9_isText_17 ?_
        refine j_istore_n (pc := 18) C dX9_isText_18 rfl (Nat.le_of_ble_eq_true rfl) rfl ?_
        refine j_iload_n (pc := 19) C dX9_isText_19 rfl rfl ?_
        refine j_sipush (pc := 20) (v := nI 20000) C dX9_isText_20 (by decide) ?_
        refine j_icmp_ge (pc := 23) 58 C dX9_isText_23 (by decide) (fun h5 => ?_) (fun h5 => ?_)
        · have hk := it_t h5 hk
          refine j_iload_n (pc := 58) C dX9_isText_58 rfl rfl ?_
          refine j_sipush (pc := 59) (v := nI 20010) C dX9_isText_59 (by decide) ?_
          refine j_icmp_ne (pc := 62) 92 C dX9_isText_62 (by decide) (fun h6 => ?_) (fun h6 => ?_)
          · have hk := it_f h6 hk
            refine j_iinc (pc := 92) (-1) C dX9_isText_92 rfl (by decide) (Nat.le_of_ble_eq_true rfl) rfl ?_
            refine j_aload_n (pc := 95) C dX9_isText_95 rfl rfl ?_
            refine j_getR (pc := 96) C fd_10_18 q2018 (stM_o hS) (stM_r18 hS) dX9_isText_96 ?_
            refine j_iload_n (pc := 99) C dX9_isText_99 rfl rfl ?_
            refine j_iconst (pc := 100) (v := nI 1) C dX9_isText_100 (by decide) ?_
            refine j_isub (pc := 101) C dX9_isText_101 ?_
            refine j_iload_n (pc := 102) C dX9_isText_102 rfl rfl ?_
            refine j_aload_n (pc := 103) C dX9_isText_103 rfl rfl ?_
            refine j_getR (pc := 104) C fd_10_18 q2018 (stM_o hS) (stM_r18 hS) dX9_isText_104 ?_
            refine j_iload_n (pc := 107) C dX9_isText_107 rfl rfl ?_
            refine j_iconst (pc := 108) (v := nI 1) C dX9_isText_108 (by decide) ?_
            refine j_isub (pc := 109) C dX9_isText_109 ?_
            obtain ⟨i110, e110, h7, hk⟩ := oix_ex hk
            refine j_iald (pc := 110) C (stM_a36 hS) h7 e110 dX9_isText_110 ?_
            refine j_aload_n (pc := 111) C dX9_isText_111 rfl rfl ?_
            refine j_getR (pc := 112) C fd_10_18 q2018 (stM_o hS) (stM_r18 hS) dX9_isText_112 ?_
            refine j_iload_n (pc := 115) C dX9_isText_115 rfl rfl ?_
            obtain ⟨i116, e116, h8, hk⟩ := oix_ex hk
            refine j_iald (pc := 116) C (stM_a36 hS) h8 e116 dX9_isText_116 ?_
            obtain ⟨r117, h9, hk⟩ := ob_some hk
            refine j_callS (pc := 117) C (ct_X9_done h9) ms_X9_done q2216 dX9_isText_117 rfl rfl (Nat.le_of_ble_eq_true rfl) rfl ?_
            obtain ⟨i120, e120, h10, hk⟩ := oix_ex hk
            refine j_iast (pc := 120) C (stM_a36 hS) h10 e120 dX9_isText_120 ?_
            refine j_iinc (pc := 121) (nI 1) C dX9_isText_121 rfl (by decide) (Nat.le_of_ble_eq_true rfl) rfl ?_
            refine j_goto (pc := 124) 4 C dX9_isText_124 (by decide) ?_
            exact j_mask [true, true, true, false] (ih4 _ _ _ hk)
          · have hk := it_t h6 hk
            refine j_aload_n (pc := 65) C dX9_isText_65 rfl rfl ?_
            refine j_getR (pc := 66) C fd_10_18 q2018 (stM_o hS) (stM_r18 hS) dX9_isText_66 ?_
            refine j_iload_n (pc := 69) C dX9_isText_69 rfl rfl ?_
            refine j_iconst (pc := 70) (v := nI 1) C dX9_isText_70 (by decide) ?_
            refine j_isub (pc := 71) C dX9_isText_71 ?_
            refine j_aload_n (pc := 72) C dX9_isText_72 rfl rfl ?_
            refine j_getR (pc := 73) C fd_10_18 q2018 (stM_o hS) (stM_r18 hS) dX9_isText_73 ?_
            refine j_iload_n (pc := 76) C dX9_isText_76 rfl rfl ?_
            refine j_iconst (pc := 77) (v := nI 1) C dX9_isText_77 (by decide) ?_
            refine j_isub (pc := 78) C dX9_isText_78 ?_
            obtain ⟨i79, e79, h11, hk⟩ := oix_ex hk
            refine j_iald (pc := 79) C (stM_a36 hS) h11 e79 dX9_isText_79 ?_
            have Jn88 : ∀ (x1 : Int32) (x2 : Int32) (s1 : Int32) (s2 : Int32) (I : II), f_X9_isText_J88 F k4 x1 x2 s1 s2 I = some (r, I9) → J G p l e rm_X9_isText s m args below meth c 4 (.returned (some (.int r))) (sh, I9) (rm_X9_isText).cells (rm_X9_isText).slots (sh, I) 0 0 88 [some (.ref (wad G 27)), some (.int x1), some (.int x2), none] [.int s2, .int s1, .ref (wad G 36)] := by
              intro x1 x2 s1 s2 I hk
              unfold f_X9_isText_J88 at hk
              obtain ⟨i88, e88, h12, hk⟩ := oix_ex hk
              refine j_iast (pc := 88) C (stM_a36 hS) h12 e88 dX9_isText_88 ?_
              refine j_goto (pc := 89) 121 C dX9_isText_89 (by decide) ?_
              refine j_iinc (pc := 121) (nI 1) C dX9_isText_121 rfl (by decide) (Nat.le_of_ble_eq_true rfl) rfl ?_
              refine j_goto (pc := 124) 4 C dX9_isText_124 (by decide) ?_
              exact j_mask [true, true, true, false] (ih4 _ _ _ hk)
            refine j_if_ne (pc := 80) 87 C dX9_isText_80 (by decide) (fun h13 => ?_) (fun h13 => ?_)
            · have hk := it_f h13 hk
              refine j_iconst (pc := 87) (v := nI 0) C dX9_isText_87 (by decide) ?_
              exact j_mask [true, true, true, false] (Jn88 _ _ _ _ _ hk)
            · have hk := it_t h13 hk
              refine j_iconst (pc := 83) (v := nI 1) C dX9_isText_83 (by decide) ?_
              refine j_goto (pc := 84) 88 C dX9_isText_84 (by decide) ?_
              exact j_mask [true, true, true, false] (Jn88 _ _ _ _ _ hk)
        · have hk := it_f h5 hk
          refine j_aload_n (pc := 26) C dX9_isText_26 rfl rfl ?_
          refine j_getR (pc := 27) C fd_10_18 q2018 (stM_o hS) (stM_r18 hS) dX9_isText_27 ?_
          refine j_iload_n (pc := 30) C dX9_isText_30 rfl rfl ?_
          refine j_iload_n (pc := 31) C dX9_isText_31 rfl rfl ?_
          refine j_sipush (pc := 32) (v := nI 10000) C dX9_isText_32 (by decide) ?_
          have Jn51 : ∀ (x1 : Int32) (x2 : Int32) (s1 : Int32) (s2 : Int32) (I : II), f_X9_isText_J51 F k4 x1 x2 s1 s2 I = some (r, I9) → J G p l e rm_X9_isText s m args below meth c 4 (.returned (some (.int r))) (sh, I9) (rm_X9_isText).cells (rm_X9_isText).slots (sh, I) 0 0 51 [some (.ref (wad G 27)), some (.int x1), some (.int x2), none] [.int s2, .int s1, .ref (wad G 36)] := by
            intro x1 x2 s1 s2 I hk
            unfold f_X9_isText_J51 at hk
            obtain ⟨i51, e51, h14, hk⟩ := oix_ex hk
            refine j_iast (pc := 51) C (stM_a36 hS) h14 e51 dX9_isText_51 ?_
            refine j_iinc (pc := 52) (nI 1) C dX9_isText_52 rfl (by decide) (Nat.le_of_ble_eq_true rfl) rfl ?_
            refine j_goto (pc := 55) 121 C dX9_isText_55 (by decide) ?_
            refine j_iinc (pc := 121) (nI 1) C dX9_isText_121 rfl (by decide) (Nat.le_of_ble_eq_true rfl) rfl ?_
            refine j_goto (pc := 124) 4 C dX9_isText_124 (by decide) ?_
            exact j_mask [true, true, true, false] (ih4 _ _ _ hk)
          refine j_icmp_ge (pc := 35) 42 C dX9_isText_35 (by decide) (fun h15 => ?_) (fun h15 => ?_)
          · have hk := it_t h15 hk
            refine j_aload_n (pc := 42) C dX9_isText_42 rfl rfl ?_
            refine j_iload_n (pc := 43) C dX9_isText_43 rfl rfl ?_
            refine j_sipush (pc := 44) (v := nI 10000) C dX9_isText_44 (by decide) ?_
            refine j_isub (pc := 47) C dX9_isText_47 ?_
            obtain ⟨r48, h16, hk⟩ := ob_some hk
            refine j_callV (pc := 48) C (ct_X9_named hS h16) mv_X9_named (stM_o hS) rfl rfl q2212 dX9_isText_48 rfl rfl (Nat.le_of_ble_eq_true rfl) rfl ?_
            exact j_mask [true, true, true, false] (Jn51 _ _ _ _ _ hk)
          · have hk := it_f h15 hk
            refine j_iload_n (pc := 38) C dX9_isText_38 rfl rfl ?_
            refine j_goto (pc := 39) 51 C dX9_isText_39 (by decide) ?_
            exact j_mask [true, true, true, false] (Jn51 _ _ _ _ _ hk)
  exact j_mask [true, true, true, false] (L4  _ _ _ _ hk)
def f_X9_isSo (F : Nat) (x1 : Int32) (x2 : Int32) (x3 : Int32) (I : II) : Option (Int32 × II) := if x1 = nI 2 then if x3 = x2 then some ((nI 1), up2 (up2 I 27 16 x2) 27 17 x3) else some ((nI 0), up2 (up2 I 27 16 x2) 27 17 x3) else if x1 = nI 3 then if x2 = (nI 3) then if x3 = (nI 3) then some ((nI 1), up2 (up2 I 27 16 x2) 27 17 x3) else some ((nI 0), up2 (up2 I 27 16 x2) 27 17 x3) else if x3 = ((nI 3) - x2) then some ((nI 1), up2 (up2 I 27 16 x2) 27 17 x3) else some ((nI 0), up2 (up2 I 27 16 x2) 27 17 x3) else if x1 = nI 4 then bd2 (f_X9_isText F (up2 (up2 I 27 16 x2) 27 17 x3)) fun r85 I85 => og (r85 = 0 ∨ r85 = 1) (some (r85, I85)) else if x1 = nI 5 then if x2 = (nI 3) then some ((nI 0), up2 (up2 I 27 16 x2) 27 17 x3) else some ((nI 1), up2 (up2 I 27 16 x2) 27 17 x3) else bd2 (f_X9_isText F (up2 (up2 I 27 16 x2) 27 17 x3)) fun r85 I85 => og (r85 = 0 ∨ r85 = 1) (some (r85, I85))
abbrev rm_X9_isSo : Room := { frames := 5, cells := 0, slots := 0, locals := 109 }
theorem mv_X9_isSo : MV yX9_isSo cX9_isSo 4 (some .boolean) 3 := ⟨q2206, qs57, q106, q2207, by decide +kernel⟩
set_option maxHeartbeats 4000000 in
theorem ct_X9_isSo {G : WG} {l : Launch} {sh : SH} (hS : StM sh) {I : II} {F : Nat} {x1 : Int32} {x2 : Int32} {x3 : Int32} {r : Int32} {I9 : II} (hk : f_X9_isSo F x1 x2 x3 I = some (r, I9)) : CT G l yX9_isSo (ws_ yX9_isSo cX9_isSo 4 (some .boolean)) rm_X9_isSo [.ref (wad G 27), .int x1, .int x2, .int x3] (sh, I) (.returned (some (.int r))) (sh, I9) := by
  refine CT.ofJ "NineDemandsModel" rfl (by decide) (Nat.le_of_ble_eq_true rfl) ?_
  intro p e s m args below meth c C
  unfold f_X9_isSo at hk
  refine j_lv (lv' := [some (.ref (wad G 27)), some (.int x1), some (.int x2), some (.int x3)]) rfl ?_
  refine j_aload_n (pc := 0) C dX9_isSo_0 rfl rfl ?_
  refine j_iload_n (pc := 1) C dX9_isSo_1 rfl rfl ?_
  refine j_putI (pc := 2) C fd_10_16 (C.2.2.2.2.1 _ q2016) (stM_o hS) rfl rfl dX9_isSo_2 ?_
  refine j_aload_n (pc := 5) C dX9_isSo_5 rfl rfl ?_
  refine j_iload_n (pc := 6) C dX9_isSo_6 rfl rfl ?_
  refine j_putI (pc := 7) C fd_10_17 (C.2.2.2.2.1 _ q2017) (stM_o hS) rfl rfl dX9_isSo_7 ?_
  refine j_iload_n (pc := 10) C dX9_isSo_10 rfl rfl ?_
  by_cases h1 : x1 = nI 2
  · have hk := it_t h1 hk
    refine j_tableIn (pc := 11) 51 2 C dX9_isSo_11 (sw_in h1 (by decide)) (by decide) (by decide) rfl (by decide) ?_
    refine j_iload_n (pc := 51) C dX9_isSo_51 rfl rfl ?_
    refine j_iload_n (pc := 52) C dX9_isSo_52 rfl rfl ?_
    refine j_icmp_ne (pc := 53) 60 C dX9_isSo_53 (by decide) (fun h2 => ?_) (fun h2 => ?_)
    · have hk := it_f h2 hk
      refine j_iconst (pc := 60) (v := nI 0) C dX9_isSo_60 (by decide) ?_
      exact j_zretW (pc := 61) C dX9_isSo_61 (Nat.le_of_ble_eq_true rfl) (Nat.le_of_ble_eq_true rfl) rfl hk
    · have hk := it_t h2 hk
      refine j_iconst (pc := 56) (v := nI 1) C dX9_isSo_56 (by decide) ?_
      refine j_goto (pc := 57) 61 C dX9_isSo_57 (by decide) ?_
      exact j_zretW (pc := 61) C dX9_isSo_61 (Nat.le_of_ble_eq_true rfl) (Nat.le_of_ble_eq_true rfl) rfl hk
  have hk := it_f h1 hk
  by_cases h3 : x1 = nI 3
  · have hk := it_t h3 hk
    refine j_tableIn (pc := 11) 62 3 C dX9_isSo_11 (sw_in h3 (by decide)) (by decide) (by decide) rfl (by decide) ?_
    refine j_iload_n (pc := 62) C dX9_isSo_62 rfl rfl ?_
    refine j_iload_n (pc := 63) C dX9_isSo_63 rfl rfl ?_
    refine j_iconst (pc := 64) (v := nI 3) C dX9_isSo_64 (by decide) ?_
    refine j_icmp_ne (pc := 65) 72 C dX9_isSo_65 (by decide) (fun h4 => ?_) (fun h4 => ?_)
    · have hk := it_f h4 hk
      refine j_iconst (pc := 72) (v := nI 3) C dX9_isSo_72 (by decide) ?_
      refine j_iload_n (pc := 73) C dX9_isSo_73 rfl rfl ?_
      refine j_isub (pc := 74) C dX9_isSo_74 ?_
      refine j_icmp_ne (pc := 75) 82 C dX9_isSo_75 (by decide) (fun h5 => ?_) (fun h5 => ?_)
      · have hk := it_f h5 hk
        refine j_iconst (pc := 82) (v := nI 0) C dX9_isSo_82 (by decide) ?_
        exact j_zretW (pc := 83) C dX9_isSo_83 (Nat.le_of_ble_eq_true rfl) (Nat.le_of_ble_eq_true rfl) rfl hk
      · have hk := it_t h5 hk
        refine j_iconst (pc := 78) (v := nI 1) C dX9_isSo_78 (by decide) ?_
        refine j_goto (pc := 79) 83 C dX9_isSo_79 (by decide) ?_
        exact j_zretW (pc := 83) C dX9_isSo_83 (Nat.le_of_ble_eq_true rfl) (Nat.le_of_ble_eq_true rfl) rfl hk
    · have hk := it_t h4 hk
      refine j_iconst (pc := 68) (v := nI 3) C dX9_isSo_68 (by decide) ?_
      refine j_goto (pc := 69) 75 C dX9_isSo_69 (by decide) ?_
      refine j_icmp_ne (pc := 75) 82 C dX9_isSo_75 (by decide) (fun h6 => ?_) (fun h6 => ?_)
      · have hk := it_f h6 hk
        refine j_iconst (pc := 82) (v := nI 0) C dX9_isSo_82 (by decide) ?_
        exact j_zretW (pc := 83) C dX9_isSo_83 (Nat.le_of_ble_eq_true rfl) (Nat.le_of_ble_eq_true rfl) rfl hk
      · have hk := it_t h6 hk
        refine j_iconst (pc := 78) (v := nI 1) C dX9_isSo_78 (by decide) ?_
        refine j_goto (pc := 79) 83 C dX9_isSo_79 (by decide) ?_
        exact j_zretW (pc := 83) C dX9_isSo_83 (Nat.le_of_ble_eq_true rfl) (Nat.le_of_ble_eq_true rfl) rfl hk
  have hk := it_f h3 hk
  by_cases h7 : x1 = nI 4
  · have hk := it_t h7 hk
    refine j_tableIn (pc := 11) 84 4 C dX9_isSo_11 (sw_in h7 (by decide)) (by decide) (by decide) rfl (by decide) ?_
    refine j_aload_n (pc := 84) C dX9_isSo_84 rfl rfl ?_
    obtain ⟨r85, I85, h8, hk⟩ := bd2_some hk
    refine j_callV (pc := 85) C (ct_X9_isText hS h8) mv_X9_isText (stM_o hS) rfl rfl q2208 dX9_isSo_85 rfl rfl (Nat.le_of_ble_eq_true rfl) rfl ?_
    obtain ⟨h9, hk⟩ := og_some hk
    exact j_zretW (pc := 88) C dX9_isSo_88 (Nat.le_of_ble_eq_true rfl) (Nat.le_of_ble_eq_true rfl) (isB.nar h9) hk
  have hk := it_f h7 hk
  by_cases h10 : x1 = nI 5
  · have hk := it_t h10 hk
    refine j_tableIn (pc := 11) 40 5 C dX9_isSo_11 (sw_in h10 (by decide)) (by decide) (by decide) rfl (by decide) ?_
    refine j_iload_n (pc := 40) C dX9_isSo_40 rfl rfl ?_
    refine j_iconst (pc := 41) (v := nI 3) C dX9_isSo_41 (by decide) ?_
    refine j_icmp_eq (pc := 42) 49 C dX9_isSo_42 (by decide) (fun h11 => ?_) (fun h11 => ?_)
    · have hk := it_t h11 hk
      refine j_iconst (pc := 49) (v := nI 0) C dX9_isSo_49 (by decide) ?_
      exact j_zretW (pc := 50) C dX9_isSo_50 (Nat.le_of_ble_eq_true rfl) (Nat.le_of_ble_eq_true rfl) rfl hk
    · have hk := it_f h11 hk
      refine j_iconst (pc := 45) (v := nI 1) C dX9_isSo_45 (by decide) ?_
      refine j_goto (pc := 46) 50 C dX9_isSo_46 (by decide) ?_
      exact j_zretW (pc := 50) C dX9_isSo_50 (Nat.le_of_ble_eq_true rfl) (Nat.le_of_ble_eq_true rfl) rfl hk
  have hk := it_f h10 hk
  refine j_tableOut (pc := 11) 84 C dX9_isSo_11 (sw_out (lo := 2) (hi := 5) (by decide) (fun j a1 a2 => by
    have a3 : j = 2 ∨ j = 3 ∨ j = 4 ∨ j = 5 := by omega
    rcases a3 with rfl | rfl | rfl | rfl
    · exact h1
    · exact h3
    · exact h7
    · exact h10)) (by decide) ?_
  refine j_aload_n (pc := 84) C dX9_isSo_84 rfl rfl ?_
  obtain ⟨r85, I85, h12, hk⟩ := bd2_some hk
  refine j_callV (pc := 85) C (ct_X9_isText hS h12) mv_X9_isText (stM_o hS) rfl rfl q2208 dX9_isSo_85 rfl rfl (Nat.le_of_ble_eq_true rfl) rfl ?_
  obtain ⟨h13, hk⟩ := og_some hk
  exact j_zretW (pc := 88) C dX9_isSo_88 (Nat.le_of_ble_eq_true rfl) (Nat.le_of_ble_eq_true rfl) (isB.nar h13) hk
def f_X9_tableOf_L55 (F : Nat) (k10 : Int32 → Int32 → II → Option (Int32 × II)) (x1 : Int32) (x2 : Int32) (x4 : Int32) : Nat → Int32 → Int32 → II → Option (Int32 × II)
  | 0, _, _, _ => none
  | n55 + 1, x3, x5, I => if (nI 3) < x5 then k10 x3 (x4 + (nI 1)) I else bd2 (f_X9_isSo F x1 x4 x5 I) fun r68 I68 => if r68 = 0 then (f_X9_tableOf_L55 F k10 x1 x2 x4 n55) (x3 ||| (nI 0)) (x5 + (nI 1)) I68 else (f_X9_tableOf_L55 F k10 x1 x2 x4 n55) (x3 ||| ((nI 1) <<< (((((nI 3) * x4) + x5) - (nI 4)) &&& 31))) (x5 + (nI 1)) I68
def f_X9_tableOf_L10 (F : Nat) (x1 : Int32) (x2 : Int32) : Nat → Int32 → Int32 → II → Option (Int32 × II)
  | 0, _, _, _ => none
  | n10 + 1, x3, x4, I => if (nI 3) < x4 then some (x3, I) else oix x2 90 fun i21 => if 0 ≤ (I 33 i21) then f_X9_tableOf_L55 F (f_X9_tableOf_L10 F x1 x2 n10) x1 x2 x4 F x3 (nI 1) I else bd2 (f_X9_isSo F x1 x4 (nI 0) I) fun r31 I31 => if r31 = 0 then (f_X9_tableOf_L10 F x1 x2 n10) (x3 ||| (nI 0)) (x4 + (nI 1)) I31 else (f_X9_tableOf_L10 F x1 x2 n10) (x3 ||| ((nI 1) <<< ((x4 - (nI 1)) &&& 31))) (x4 + (nI 1)) I31
def f_X9_tableOf (F : Nat) (x1 : Int32) (x2 : Int32) (I : II) : Option (Int32 × II) := f_X9_tableOf_L10 F x1 x2 F (nI 0) (nI 1) (up2 I 27 15 x2)
abbrev rm_X9_tableOf : Room := { frames := 6, cells := 0, slots := 0, locals := 132 }
theorem mv_X9_tableOf : MV yX9_tableOf cX9_tableOf 6 (some .int) 2 := ⟨q2202, qs56, q106, q2203, by decide +kernel⟩
set_option maxHeartbeats 4000000 in
theorem ct_X9_tableOf {G : WG} {l : Launch} {sh : SH} (hS : StM sh) {I : II} {F : Nat} {x1 : Int32} {x2 : Int32} {r : Int32} {I9 : II} (hk : f_X9_tableOf F x1 x2 I = some (r, I9)) : CT G l yX9_tableOf (ws_ yX9_tableOf cX9_tableOf 6 (some .int)) rm_X9_tableOf [.ref (wad G 27), .int x1, .int x2] (sh, I) (.returned (some (.int r))) (sh, I9) := by
  refine CT.ofJ "NineDemandsModel" rfl (by decide) (Nat.le_of_ble_eq_true rfl) ?_
  intro p e s m args below meth c C
  unfold f_X9_tableOf at hk
  refine j_lv (lv' := [some (.ref (wad G 27)), some (.int x1), some (.int x2), none, none, none]) rfl ?_
  refine j_aload_n (pc := 0) C dX9_tableOf_0 rfl rfl ?_
  refine j_iload_n (pc := 1) C dX9_tableOf_1 rfl rfl ?_
  refine j_putI (pc := 2) C fd_10_15 (C.2.2.2.2.1 _ q2015) (stM_o hS) rfl rfl dX9_tableOf_2 ?_
  refine j_iconst (pc := 5) (v := nI 0) C dX9_tableOf_5 (by decide) ?_
  refine j_istore_n (pc := 6) C dX9_tableOf_6 rfl (Nat.le_of_ble_eq_true rfl) rfl ?_
  refine j_iconst (pc := 7) (v := nI 1) C dX9_tableOf_7 (by decide) ?_
  refine j_istore (pc := 8) C dX9_tableOf_8 (Nat.le_of_ble_eq_true rfl) rfl ?_
  have L10 : ∀ (x1 : Int32) (x2 : Int32) (n10 : Nat) (x3 : Int32) (x4 : Int32) (I : II), f_X9_tableOf_L10 F x1 x2 n10 x3 x4 I = some (r, I9) → J G p l e rm_X9_tableOf s m args below meth c 6 (.returned (some (.int r))) (sh, I9) (rm_X9_tableOf).cells (rm_X9_tableOf).slots (sh, I) 0 0 10 [some (.ref (wad G 27)), some (.int x1), some (.int x2), some (.int x3), some (.int x4), none] [] := by
    intro x1 x2 n10
    induction n10 with
    | zero => intro x3 x4 I hk; rw [f_X9_tableOf_L10] at hk; cases hk
    | succ n10 ih10 =>
      intro x3 x4 I hk
      rw [f_X9_tableOf_L10] at hk
      generalize f_X9_tableOf_L10 F x1 x2 n10 = k10 at ih10 hk
      refine j_iload (pc := 10) C dX9_tableOf_10 rfl ?_
      refine j_iconst (pc := 12) (v := nI 3) C dX9_tableOf_12 (by decide) ?_
      refine j_icmp_gt (pc := 13) 103 C dX9_tableOf_13 (by decide) (fun h1 => ?_) (fun h1 => ?_)
      · have hk := it_t h1 hk
        refine j_iload_n (pc := 103) C dX9_tableOf_103 rfl rfl ?_
        exact j_iretW (pc := 104) C dX9_tableOf_104 (Nat.le_of_ble_eq_true rfl) (Nat.le_of_ble_eq_true rfl) hk
      · have hk := it_f h1 hk
        refine j_aload_n (pc := 16) C dX9_tableOf_16 rfl rfl ?_
        refine j_getR (pc := 17) C fd_10_6 q2006 (stM_o hS) (stM_r6 hS) dX9_tableOf_17 ?_
        refine j_iload_n (pc := 20) C dX9_tableOf_20 rfl rfl ?_
        obtain ⟨i21, e21, h2, hk⟩ := oix_ex hk
        refine j_iald (pc := 21) C (stM_a33 hS) h2 e21 dX9_tableOf_21 ?_
        refine j_if_ge (pc := 22) 52 C dX9_tableOf_22 (by decide) (fun h3 => ?_) (fun h3 => ?_)
        · have hk := it_t h3 hk
          refine j_iconst (pc := 52) (v := nI 1) C dX9_tableOf_52 (by decide) ?_
          refine j_istore (pc := 53) C dX9_tableOf_53 (Nat.le_of_ble_eq_true rfl) rfl ?_
          have L55 : ∀ (x4 : Int32) (n55 : Nat) (x3 : Int32) (x5 : Int32) (I : II), f_X9_tableOf_L55 F k10 x1 x2 x4 n55 x3 x5 I = some (r, I9) → J G p l e rm_X9_tableOf s m args below meth c 6 (.returned (some (.int r))) (sh, I9) (rm_X9_tableOf).cells (rm_X9_tableOf).slots (sh, I) 0 0 55 [some (.ref (wad G 27)), some (.int x1), some (.int x2), some (.int x3), some (.int x4), some (.int x5)] [] := by
            intro x4 n55
            induction n55 with
            | zero => intro x3 x5 I hk; rw [f_X9_tableOf_L55] at hk; cases hk
            | succ n55 ih55 =>
              intro x3 x5 I hk
              rw [f_X9_tableOf_L55] at hk
              generalize f_X9_tableOf_L55 F k10 x1 x2 x4 n55 = k55 at ih55 hk
              refine j_iload (pc := 55) C dX9_tableOf_55 rfl ?_
              refine j_iconst (pc := 57) (v := nI 3) C dX9_tableOf_57 (by decide) ?_
              refine j_icmp_gt (pc := 58) 97 C dX9_tableOf_58 (by decide) (fun h4 => ?_) (fun h4 => ?_)
              · have hk := it_t h4 hk
                refine j_iinc (pc := 97) (nI 1) C dX9_tableOf_97 rfl (by decide) (Nat.le_of_ble_eq_true rfl) rfl ?_
                refine j_goto (pc := 100) 10 C dX9_tableOf_100 (by decide) ?_
                exact j_mask [true, true, true, true, true, false] (ih10 _ _ _ hk)
              · have hk := it_f h4 hk
                refine j_iload_n (pc := 61) C dX9_tableOf_61 rfl rfl ?_
                refine j_aload_n (pc := 62) C dX9_tableOf_62 rfl rfl ?_
                refine j_iload_n (pc := 63) C dX9_tableOf_63 rfl rfl ?_
                refine j_iload (pc := 64) C dX9_tableOf_64 rfl ?_
                refine j_iload (pc := 66) C dX9_tableOf_66 rfl ?_
                obtain ⟨r68, I68, h5, hk⟩ := bd2_some hk
                refine j_callV (pc := 68) C (ct_X9_isSo hS h5) mv_X9_isSo (stM_o hS) rfl rfl q2204 dX9_tableOf_68 rfl rfl (Nat.le_of_ble_eq_true rfl) rfl ?_
                refine j_if_eq (pc := 71) 88 C dX9_tableOf_71 (by decide) (fun h6 => ?_) (fun h6 => ?_)
                · have hk := it_t h6 hk
                  refine j_iconst (pc := 88) (v := nI 0) C dX9_tableOf_88 (by decide) ?_
                  refine j_ior (pc := 89) C dX9_tableOf_89 ?_
                  refine j_istore_n (pc := 90) C dX9_tableOf_90 rfl (Nat.le_of_ble_eq_true rfl) rfl ?_
                  refine j_iinc (pc := 91) (nI 1) C dX9_tableOf_91 rfl (by decide) (Nat.le_of_ble_eq_true rfl) rfl ?_
                  refine j_goto (pc := 94) 55 C dX9_tableOf_94 (by decide) ?_
                  exact j_mask [true, true, true, true, true, true] (ih55 _ _ _ hk)
                · have hk := it_f h6 hk
                  refine j_iconst (pc := 74) (v := nI 1) C dX9_tableOf_74 (by decide) ?_
                  refine j_iconst (pc := 75) (v := nI 3) C dX9_tableOf_75 (by decide) ?_
                  refine j_iload (pc := 76) C dX9_tableOf_76 rfl ?_
                  refine j_imul (pc := 78) C dX9_tableOf_78 ?_
                  refine j_iload (pc := 79) C dX9_tableOf_79 rfl ?_
                  refine j_iadd (pc := 81) C dX9_tableOf_81 ?_
                  refine j_iconst (pc := 82) (v := nI 4) C dX9_tableOf_82 (by decide) ?_
                  refine j_isub (pc := 83) C dX9_tableOf_83 ?_
                  refine j_ishl (pc := 84) C dX9_tableOf_84 ?_
                  refine j_goto (pc := 85) 89 C dX9_tableOf_85 (by decide) ?_
                  refine j_ior (pc := 89) C dX9_tableOf_89 ?_
                  refine j_istore_n (pc := 90) C dX9_tableOf_90 rfl (Nat.le_of_ble_eq_true rfl) rfl ?_
                  refine j_iinc (pc := 91) (nI 1) C dX9_tableOf_91 rfl (by decide) (Nat.le_of_ble_eq_true rfl) rfl ?_
                  refine j_goto (pc := 94) 55 C dX9_tableOf_94 (by decide) ?_
                  exact j_mask [true, true, true, true, true, true] (ih55 _ _ _ hk)
          exact j_mask [true, true, true, true, true, true] (L55 _ _ _ _ _ hk)
        · have hk := it_f h3 hk
          refine j_iload_n (pc := 25) C dX9_tableOf_25 rfl rfl ?_
          refine j_aload_n (pc := 26) C dX9_tableOf_26 rfl rfl ?_
          refine j_iload_n (pc := 27) C dX9_tableOf_27 rfl rfl ?_
          refine j_iload (pc := 28) C dX9_tableOf_28 rfl ?_
          refine j_iconst (pc := 30) (v := nI 0) C dX9_tableOf_30 (by decide) ?_
          obtain ⟨r31, I31, h7, hk⟩ := bd2_some hk
          refine j_callV (pc := 31) C (ct_X9_isSo hS h7) mv_X9_isSo (stM_o hS) rfl rfl q2204 dX9_tableOf_31 rfl rfl (Nat.le_of_ble_eq_true rfl) rfl ?_
          refine j_if_eq (pc := 34) 46 C dX9_tableOf_34 (by decide) (fun h8 => ?_) (fun h8 => ?_)
          · have hk := it_t h8 hk
            refine j_iconst (pc := 46) (v := nI 0) C dX9_tableOf_46 (by decide) ?_
            refine j_ior (pc := 47) C dX9_tableOf_47 ?_
            refine j_istore_n (pc := 48) C dX9_tableOf_48 rfl (Nat.le_of_ble_eq_true rfl) rfl ?_
            refine j_goto (pc := 49) 97 C dX9_tableOf_49 (by decide) ?_
            refine j_iinc (pc := 97) (nI 1) C dX9_tableOf_97 rfl (by decide) (Nat.le_of_ble_eq_true rfl) rfl ?_
            refine j_goto (pc := 100) 10 C dX9_tableOf_100 (by decide) ?_
            exact j_mask [true, true, true, true, true, false] (ih10 _ _ _ hk)
          · have hk := it_f h8 hk
            refine j_iconst (pc := 37) (v := nI 1) C dX9_tableOf_37 (by decide) ?_
            refine j_iload (pc := 38) C dX9_tableOf_38 rfl ?_
            refine j_iconst (pc := 40) (v := nI 1) C dX9_tableOf_40 (by decide) ?_
            refine j_isub (pc := 41) C dX9_tableOf_41 ?_
            refine j_ishl (pc := 42) C dX9_tableOf_42 ?_
            refine j_goto (pc := 43) 47 C dX9_tableOf_43 (by decide) ?_
            refine j_ior (pc := 47) C dX9_tableOf_47 ?_
            refine j_istore_n (pc := 48) C dX9_tableOf_48 rfl (Nat.le_of_ble_eq_true rfl) rfl ?_
            refine j_goto (pc := 49) 97 C dX9_tableOf_49 (by decide) ?_
            refine j_iinc (pc := 97) (nI 1) C dX9_tableOf_97 rfl (by decide) (Nat.le_of_ble_eq_true rfl) rfl ?_
            refine j_goto (pc := 100) 10 C dX9_tableOf_100 (by decide) ?_
            exact j_mask [true, true, true, true, true, false] (ih10 _ _ _ hk)
  exact j_mask [true, true, true, true, true, false] (L10 _ _ _ _ _ _ hk)
def f_X9_law_J19 (F : Nat) (I : II) : Option (Int32 × II) := bd2 (f_X9_finding (-1000001) I) fun r22 I22 => some (r22, I22)
def f_X9_law_L188 (F : Nat) (x1 : Int32) (x3 : Int32) : Nat → Int32 → II → Option (Int32 × II)
  | 0, _, _ => none
  | n188 + 1, x4, I => oix (x1 + (nI 1)) 7 fun i197 => if (I 31 i197) ≤ x4 then oix (nI 0) 366 fun i242 => oix (nI 0) 366 fun i245 => some (x3, up2 I 28 i245 ((I 28 i242) + (nI 1))) else oix x1 7 fun i220 => bd2 (f_X9_tableOf F x1 x4 I) fun r226 I226 => oix ((((nI 110) + ((nI 32) * x3)) + x4) - (I 31 i220)) 366 fun i229 => (f_X9_law_L188 F x1 x3 n188) (x4 + (nI 1)) (up2 I226 28 i229 r226)
def f_X9_law_J160 (F : Nat) (x1 : Int32) (x2 : Int32) (x3 : Int32) (I : II) : Option (Int32 × II) := oix ((nI 22) + x3) 366 fun i169 => oix ((nI 30) + x3) 366 fun i179 => oix x1 7 fun i185 => f_X9_law_L188 F x1 x3 F ((up2 (up2 I 28 i169 x1) 28 i179 x2) 31 i185) (up2 (up2 I 28 i169 x1) 28 i179 x2)
def f_X9_law_J135 (F : Nat) (x1 : Int32) (x2 : Int32) (x3 : Int32) (s1 : Int32) (I : II) : Option (Int32 × II) := og (s1 = 0 ∨ s1 = 1) <| oix (nI 1) 366 fun i144 => if ((up2 (up2 I 27 12 s1) 28 i144 (nI 0)) 27 12) = 0 then f_X9_law_J160 F x1 x2 x3 (up2 (up2 I 27 12 s1) 28 i144 (nI 0)) else some (((-10) - ((up2 (up2 I 27 12 s1) 28 i144 (nI 0)) 27 9)), up2 (up2 I 27 12 s1) 28 i144 (nI 0))
def f_X9_law_J130 (F : Nat) (x1 : Int32) (x2 : Int32) (x3 : Int32) (I : II) : Option (Int32 × II) := f_X9_law_J135 F x1 x2 x3 (nI 1) I
def f_X9_law_J102 (F : Nat) (x1 : Int32) (x2 : Int32) (x3 : Int32) (s1 : Int32) (I : II) : Option (Int32 × II) := (f_X9_either F 40 (up2 I 27 11 s1)).bind fun I106 => if (I106 27 12) = 0 then oix (nI 1) 366 fun i126 => if (I106 28 i126) ≤ (I106 27 9) then f_X9_law_J135 F x1 x2 x3 (nI 0) I106 else f_X9_law_J130 F x1 x2 x3 I106 else f_X9_law_J130 F x1 x2 x3 I106
def f_X9_law_J60 (F : Nat) (x1 : Int32) (x2 : Int32) (x3 : Int32) (I : II) : Option (Int32 × II) := if x1 = 0 then f_X9_law_J102 F x1 x2 x3 (nI 7) (up2 (up2 (up2 (up2 I 27 9 (nI 0)) 27 10 (nI 0)) 27 12 (nI 0)) 27 14 (nI 0)) else if x1 = (nI 4) then f_X9_law_J102 F x1 x2 x3 (nI 9) (up2 (up2 (up2 (up2 I 27 9 (nI 0)) 27 10 (nI 0)) 27 12 (nI 0)) 27 14 (nI 0)) else f_X9_law_J102 F x1 x2 x3 (nI 10) (up2 (up2 (up2 (up2 I 27 9 (nI 0)) 27 10 (nI 0)) 27 12 (nI 0)) 27 14 (nI 0))
def f_X9_law (F : Nat) (x1 : Int32) (x2 : Int32) (I : II) : Option (Int32 × II) := (f_X9_within x1 (nI 0) (nI 5)).bind fun r3 => if r3 = 0 then f_X9_law_J19 F I else (f_X9_within x2 (nI 0) (nI 99)).bind fun r13 => if r13 = 0 then f_X9_law_J19 F I else oix (nI 0) 366 fun i31 => if (I 28 i31) = (nI 8) then bd2 (f_X9_finding (-1000004) I) fun r42 I42 => some (r42, I42) else if x1 = 0 then f_X9_law_J60 F x1 x2 (I 28 i31) I else if x1 = (nI 1) then f_X9_law_J60 F x1 x2 (I 28 i31) I else if x1 = (nI 4) then f_X9_law_J60 F x1 x2 (I 28 i31) I else f_X9_law_J160 F x1 x2 (I 28 i31) I
abbrev rm_X9_law : Room := { frames := 43, cells := 0, slots := 0, locals := 982 }
theorem mv_X9_law : MV yX9_law cX9_law 5 (some .int) 2 := ⟨q2158, q2159, q106, q2160, by decide +kernel⟩
set_option maxHeartbeats 4000000 in
theorem ct_X9_law {G : WG} {l : Launch} {sh : SH} (hS : StM sh) {I : II} {F : Nat} {x1 : Int32} {x2 : Int32} {r : Int32} {I9 : II} (hk : f_X9_law F x1 x2 I = some (r, I9)) : CT G l yX9_law (ws_ yX9_law cX9_law 5 (some .int)) rm_X9_law [.ref (wad G 27), .int x1, .int x2] (sh, I) (.returned (some (.int r))) (sh, I9) := by
  refine CT.ofJ "NineDemandsModel" rfl (by decide) (Nat.le_of_ble_eq_true rfl) ?_
  intro p e s m args below meth c C
  unfold f_X9_law at hk
  refine j_lv (lv' := [some (.ref (wad G 27)), some (.int x1), some (.int x2), none, none]) rfl ?_
  refine j_iload_n (pc := 0) C dX9_law_0 rfl rfl ?_
  refine j_iconst (pc := 1) (v := nI 0) C dX9_law_1 (by decide) ?_
  refine j_iconst (pc := 2) (v := nI 5) C dX9_law_2 (by decide) ?_
  obtain ⟨r3, h1, hk⟩ := ob_some hk
  refine j_callS (pc := 3) C (ct_X9_within h1) ms_X9_within q2107 dX9_law_3 rfl rfl (Nat.le_of_ble_eq_true rfl) rfl ?_
  have Jn19 : ∀ (I : II), f_X9_law_J19 F I = some (r, I9) → J G p l e rm_X9_law s m args below meth c 5 (.returned (some (.int r))) (sh, I9) (rm_X9_law).cells (rm_X9_law).slots (sh, I) 0 0 19 [some (.ref (wad G 27)), none, none, none, none] [] := by
    intro I hk
    unfold f_X9_law_J19 at hk
    refine j_aload_n (pc := 19) C dX9_law_19 rfl rfl ?_
    refine j_ldc (pc := 20) (v := (-1000001)) C q2110 dX9_law_20 ?_
    obtain ⟨r22, I22, h2, hk⟩ := bd2_some hk
    refine j_callV (pc := 22) C (ct_X9_finding hS h2) mv_X9_finding (stM_o hS) rfl rfl q2111 dX9_law_22 rfl rfl (Nat.le_of_ble_eq_true rfl) rfl ?_
    exact j_iretW (pc := 25) C dX9_law_25 (Nat.le_of_ble_eq_true rfl) (Nat.le_of_ble_eq_true rfl) hk
  refine j_if_eq (pc := 6) 19 C dX9_law_6 (by decide) (fun h3 => ?_) (fun h3 => ?_)
  · have hk := it_t h3 hk
    exact j_mask [true, false, false, false, false] (Jn19 _ hk)
  · have hk := it_f h3 hk
    refine j_iload_n (pc := 9) C dX9_law_9 rfl rfl ?_
    refine j_iconst (pc := 10) (v := nI 0) C dX9_law_10 (by decide) ?_
    refine j_bipush (pc := 11) (v := nI 99) C dX9_law_11 (by decide) ?_
    obtain ⟨r13, h4, hk⟩ := ob_some hk
    refine j_callS (pc := 13) C (ct_X9_within h4) ms_X9_within q2107 dX9_law_13 rfl rfl (Nat.le_of_ble_eq_true rfl) rfl ?_
    refine j_if_ne (pc := 16) 26 C dX9_law_16 (by decide) (fun h5 => ?_) (fun h5 => ?_)
    · have hk := it_f h5 hk
      refine j_aload_n (pc := 26) C dX9_law_26 rfl rfl ?_
      refine j_getR (pc := 27) C fd_10_0 q2000 (stM_o hS) (stM_r0 hS) dX9_law_27 ?_
      refine j_iconst (pc := 30) (v := nI 0) C dX9_law_30 (by decide) ?_
      obtain ⟨i31, e31, h6, hk⟩ := oix_ex hk
      refine j_iald (pc := 31) C (stM_a28 hS) h6 e31 dX9_law_31 ?_
      refine j_istore_n (pc := 32) C dX9_law_32 rfl (Nat.le_of_ble_eq_true rfl) rfl ?_
      refine j_iload_n (pc := 33) C dX9_law_33 rfl rfl ?_
      refine j_bipush (pc := 34) (v := nI 8) C dX9_law_34 (by decide) ?_
      refine j_icmp_ne (pc := 36) 46 C dX9_law_36 (by decide) (fun h7 => ?_) (fun h7 => ?_)
      · have hk := it_f h7 hk
        refine j_iload_n (pc := 46) C dX9_law_46 rfl rfl ?_
        have Jn160 : ∀ (x1 : Int32) (x2 : Int32) (x3 : Int32) (I : II), f_X9_law_J160 F x1 x2 x3 I = some (r, I9) → J G p l e rm_X9_law s m args below meth c 5 (.returned (some (.int r))) (sh, I9) (rm_X9_law).cells (rm_X9_law).slots (sh, I) 0 0 160 [some (.ref (wad G 27)), some (.int x1), some (.int x2), some (.int x3), none] [] := by
          intro x1 x2 x3 I hk
          unfold f_X9_law_J160 at hk
          refine j_aload_n (pc := 160) C dX9_law_160 rfl rfl ?_
          refine j_getR (pc := 161) C fd_10_0 q2000 (stM_o hS) (stM_r0 hS) dX9_law_161 ?_
          refine j_bipush (pc := 164) (v := nI 22) C dX9_law_164 (by decide) ?_
          refine j_iload_n (pc := 166) C dX9_law_166 rfl rfl ?_
          refine j_iadd (pc := 167) C dX9_law_167 ?_
          refine j_iload_n (pc := 168) C dX9_law_168 rfl rfl ?_
          obtain ⟨i169, e169, h8, hk⟩ := oix_ex hk
          refine j_iast (pc := 169) C (stM_a28 hS) h8 e169 dX9_law_169 ?_
          refine j_aload_n (pc := 170) C dX9_law_170 rfl rfl ?_
          refine j_getR (pc := 171) C fd_10_0 q2000 (stM_o hS) (stM_r0 hS) dX9_law_171 ?_
          refine j_bipush (pc := 174) (v := nI 30) C dX9_law_174 (by decide) ?_
          refine j_iload_n (pc := 176) C dX9_law_176 rfl rfl ?_
          refine j_iadd (pc := 177) C dX9_law_177 ?_
          refine j_iload_n (pc := 178) C dX9_law_178 rfl rfl ?_
          obtain ⟨i179, e179, h9, hk⟩ := oix_ex hk
          refine j_iast (pc := 179) C (stM_a28 hS) h9 e179 dX9_law_179 ?_
          refine j_aload_n (pc := 180) C dX9_law_180 rfl rfl ?_
          refine j_getR (pc := 181) C fd_10_4 q2004 (stM_o hS) (stM_r4 hS) dX9_law_181 ?_
          refine j_iload_n (pc := 184) C dX9_law_184 rfl rfl ?_
          obtain ⟨i185, e185, h10, hk⟩ := oix_ex hk
          refine j_iald (pc := 185) C (stM_a31 hS) h10 e185 dX9_law_185 ?_
          refine j_istore (pc := 186) C dX9_law_186 (Nat.le_of_ble_eq_true rfl) rfl ?_
          have L188 : ∀ (x1 : Int32) (x3 : Int32) (n188 : Nat) (x4 : Int32) (I : II), f_X9_law_L188 F x1 x3 n188 x4 I = some (r, I9) → J G p l e rm_X9_law s m args below meth c 5 (.returned (some (.int r))) (sh, I9) (rm_X9_law).cells (rm_X9_law).slots (sh, I) 0 0 188 [some (.ref (wad G 27)), some (.int x1), none, some (.int x3), some (.int x4)] [] := by
            intro x1 x3 n188
            induction n188 with
            | zero => intro x4 I hk; rw [f_X9_law_L188] at hk; cases hk
            | succ n188 ih188 =>
              intro x4 I hk
              rw [f_X9_law_L188] at hk
              generalize f_X9_law_L188 F x1 x3 n188 = k188 at ih188 hk
              refine j_iload (pc := 188) C dX9_law_188 rfl ?_
              refine j_aload_n (pc := 190) C dX9_law_190 rfl rfl ?_
              refine j_getR (pc := 191) C fd_10_4 q2004 (stM_o hS) (stM_r4 hS) dX9_law_191 ?_
              refine j_iload_n (pc := 194) C dX9_law_194 rfl rfl ?_
              refine j_iconst (pc := 195) (v := nI 1) C dX9_law_195 (by decide) ?_
              refine j_iadd (pc := 196) C dX9_law_196 ?_
              obtain ⟨i197, e197, h11, hk⟩ := oix_ex hk
              refine j_iald (pc := 197) C (stM_a31 hS) h11 e197 dX9_law_197 ?_
              refine j_icmp_ge (pc := 198) 236 C dX9_law_198 (by decide) (fun h12 => ?_) (fun h12 => ?_)
              · have hk := it_t h12 hk
                refine j_aload_n (pc := 236) C dX9_law_236 rfl rfl ?_
                refine j_getR (pc := 237) C fd_10_0 q2000 (stM_o hS) (stM_r0 hS) dX9_law_237 ?_
                refine j_iconst (pc := 240) (v := nI 0) C dX9_law_240 (by decide) ?_
                refine j_dup2 (pc := 241) C dX9_law_241 rfl rfl ?_
                obtain ⟨i242, e242, h13, hk⟩ := oix_ex hk
                refine j_iald (pc := 242) C (stM_a28 hS) h13 e242 dX9_law_242 ?_
                refine j_iconst (pc := 243) (v := nI 1) C dX9_law_243 (by decide) ?_
                refine j_iadd (pc := 244) C dX9_law_244 ?_
                obtain ⟨i245, e245, h14, hk⟩ := oix_ex hk
                refine j_iast (pc := 245) C (stM_a28 hS) h14 e245 dX9_law_245 ?_
                refine j_iload_n (pc := 246) C dX9_law_246 rfl rfl ?_
                exact j_iretW (pc := 247) C dX9_law_247 (Nat.le_of_ble_eq_true rfl) (Nat.le_of_ble_eq_true rfl) hk
              · have hk := it_f h12 hk
                refine j_aload_n (pc := 201) C dX9_law_201 rfl rfl ?_
                refine j_getR (pc := 202) C fd_10_0 q2000 (stM_o hS) (stM_r0 hS) dX9_law_202 ?_
                refine j_bipush (pc := 205) (v := nI 110) C dX9_law_205 (by decide) ?_
                refine j_bipush (pc := 207) (v := nI 32) C dX9_law_207 (by decide) ?_
                refine j_iload_n (pc := 209) C dX9_law_209 rfl rfl ?_
                refine j_imul (pc := 210) C dX9_law_210 ?_
                refine j_iadd (pc := 211) C dX9_law_211 ?_
                refine j_iload (pc := 212) C dX9_law_212 rfl ?_
                refine j_iadd (pc := 214) C dX9_law_214 ?_
                refine j_aload_n (pc := 215) C dX9_law_215 rfl rfl ?_
                refine j_getR (pc := 216) C fd_10_4 q2004 (stM_o hS) (stM_r4 hS) dX9_law_216 ?_
                refine j_iload_n (pc := 219) C dX9_law_219 rfl rfl ?_
                obtain ⟨i220, e220, h15, hk⟩ := oix_ex hk
                refine j_iald (pc := 220) C (stM_a31 hS) h15 e220 dX9_law_220 ?_
                refine j_isub (pc := 221) C dX9_law_221 ?_
                refine j_aload_n (pc := 222) C dX9_law_222 rfl rfl ?_
                refine j_iload_n (pc := 223) C dX9_law_223 rfl rfl ?_
                refine j_iload (pc := 224) C dX9_law_224 rfl ?_
                obtain ⟨r226, I226, h16, hk⟩ := bd2_some hk
                refine j_callV (pc := 226) C (ct_X9_tableOf hS h16) mv_X9_tableOf (stM_o hS) rfl rfl q2200 dX9_law_226 rfl rfl (Nat.le_of_ble_eq_true rfl) rfl ?_
                obtain ⟨i229, e229, h17, hk⟩ := oix_ex hk
                refine j_iast (pc := 229) C (stM_a28 hS) h17 e229 dX9_law_229 ?_
                refine j_iinc (pc := 230) (nI 1) C dX9_law_230 rfl (by decide) (Nat.le_of_ble_eq_true rfl) rfl ?_
                refine j_goto (pc := 233) 188 C dX9_law_233 (by decide) ?_
                exact j_mask [true, true, false, true, true] (ih188 _ _ hk)
          exact j_mask [true, true, false, true, true] (L188 _ _ _ _ _ hk)
        have Jn60 : ∀ (x1 : Int32) (x2 : Int32) (x3 : Int32) (I : II), f_X9_law_J60 F x1 x2 x3 I = some (r, I9) → J G p l e rm_X9_law s m args below meth c 5 (.returned (some (.int r))) (sh, I9) (rm_X9_law).cells (rm_X9_law).slots (sh, I) 0 0 60 [some (.ref (wad G 27)), some (.int x1), some (.int x2), some (.int x3), none] [] := by
          intro x1 x2 x3 I hk
          unfold f_X9_law_J60 at hk
          refine j_aload_n (pc := 60) C dX9_law_60 rfl rfl ?_
          refine j_iconst (pc := 61) (v := nI 0) C dX9_law_61 (by decide) ?_
          refine j_putI (pc := 62) C fd_10_9 (C.2.2.2.2.1 _ q2009) (stM_o hS) rfl rfl dX9_law_62 ?_
          refine j_aload_n (pc := 65) C dX9_law_65 rfl rfl ?_
          refine j_iconst (pc := 66) (v := nI 0) C dX9_law_66 (by decide) ?_
          refine j_putI (pc := 67) C fd_10_10 (C.2.2.2.2.1 _ q2010) (stM_o hS) rfl rfl dX9_law_67 ?_
          refine j_aload_n (pc := 70) C dX9_law_70 rfl rfl ?_
          refine j_iconst (pc := 71) (v := nI 0) C dX9_law_71 (by decide) ?_
          refine j_putI (pc := 72) C fd_10_12 (C.2.2.2.2.1 _ q2012) (stM_o hS) rfl rfl dX9_law_72 ?_
          refine j_aload_n (pc := 75) C dX9_law_75 rfl rfl ?_
          refine j_iconst (pc := 76) (v := nI 0) C dX9_law_76 (by decide) ?_
          refine j_putI (pc := 77) C fd_10_14 (C.2.2.2.2.1 _ q2014) (stM_o hS) rfl rfl dX9_law_77 ?_
          refine j_aload_n (pc := 80) C dX9_law_80 rfl rfl ?_
          refine j_iload_n (pc := 81) C dX9_law_81 rfl rfl ?_
          have Jn102 : ∀ (x1 : Int32) (x2 : Int32) (x3 : Int32) (s1 : Int32) (I : II), f_X9_law_J102 F x1 x2 x3 s1 I = some (r, I9) → J G p l e rm_X9_law s m args below meth c 5 (.returned (some (.int r))) (sh, I9) (rm_X9_law).cells (rm_X9_law).slots (sh, I) 0 0 102 [some (.ref (wad G 27)), some (.int x1), some (.int x2), some (.int x3), none] [.int s1, .ref (wad G 27)] := by
            intro x1 x2 x3 s1 I hk
            unfold f_X9_law_J102 at hk
            refine j_putI (pc := 102) C fd_10_11 (C.2.2.2.2.1 _ q2011) (stM_o hS) rfl rfl dX9_law_102 ?_
            refine j_aload_n (pc := 105) C dX9_law_105 rfl rfl ?_
            obtain ⟨I106, h18, hk⟩ := ob_some hk
            refine j_callV (pc := 106) C (ct_X9_either hS h18) mv_X9_either (stM_o hS) rfl rfl q2161 dX9_law_106 rfl rfl (Nat.le_of_ble_eq_true rfl) rfl ?_
            refine j_aload_n (pc := 109) C dX9_law_109 rfl rfl ?_
            refine j_aload_n (pc := 110) C dX9_law_110 rfl rfl ?_
            refine j_getI (pc := 111) C fd_10_12 q2012 (stM_o hS) dX9_law_111 ?_
            have Jn135 : ∀ (x1 : Int32) (x2 : Int32) (x3 : Int32) (s1 : Int32) (I : II), f_X9_law_J135 F x1 x2 x3 s1 I = some (r, I9) → J G p l e rm_X9_law s m args below meth c 5 (.returned (some (.int r))) (sh, I9) (rm_X9_law).cells (rm_X9_law).slots (sh, I) 0 0 135 [some (.ref (wad G 27)), some (.int x1), some (.int x2), some (.int x3), none] [.int s1, .ref (wad G 27)] := by
              intro x1 x2 x3 s1 I hk
              unfold f_X9_law_J135 at hk
              obtain ⟨h19, hk⟩ := og_some hk
              refine j_putI (pc := 135) C fd_10_12 (C.2.2.2.2.1 _ q2012) (stM_o hS) (isB.nar h19) (isB.fit h19) dX9_law_135 ?_
              refine j_aload_n (pc := 138) C dX9_law_138 rfl rfl ?_
              refine j_getR (pc := 139) C fd_10_0 q2000 (stM_o hS) (stM_r0 hS) dX9_law_139 ?_
              refine j_iconst (pc := 142) (v := nI 1) C dX9_law_142 (by decide) ?_
              refine j_iconst (pc := 143) (v := nI 0) C dX9_law_143 (by decide) ?_
              obtain ⟨i144, e144, h20, hk⟩ := oix_ex hk
              refine j_iast (pc := 144) C (stM_a28 hS) h20 e144 dX9_law_144 ?_
              refine j_aload_n (pc := 145) C dX9_law_145 rfl rfl ?_
              refine j_getI (pc := 146) C fd_10_12 q2012 (stM_o hS) dX9_law_146 ?_
              refine j_if_eq (pc := 149) 160 C dX9_law_149 (by decide) (fun h21 => ?_) (fun h21 => ?_)
              · have hk := it_t h21 hk
                exact j_mask [true, true, true, true, false] (Jn160 _ _ _ _ hk)
              · have hk := it_f h21 hk
                refine j_bipush (pc := 152) (v := (-10)) C dX9_law_152 (by decide) ?_
                refine j_aload_n (pc := 154) C dX9_law_154 rfl rfl ?_
                refine j_getI (pc := 155) C fd_10_9 q2009 (stM_o hS) dX9_law_155 ?_
                refine j_isub (pc := 158) C dX9_law_158 ?_
                exact j_iretW (pc := 159) C dX9_law_159 (Nat.le_of_ble_eq_true rfl) (Nat.le_of_ble_eq_true rfl) hk
            have Jn130 : ∀ (x1 : Int32) (x2 : Int32) (x3 : Int32) (I : II), f_X9_law_J130 F x1 x2 x3 I = some (r, I9) → J G p l e rm_X9_law s m args below meth c 5 (.returned (some (.int r))) (sh, I9) (rm_X9_law).cells (rm_X9_law).slots (sh, I) 0 0 130 [some (.ref (wad G 27)), some (.int x1), some (.int x2), some (.int x3), none] [.ref (wad G 27)] := by
              intro x1 x2 x3 I hk
              unfold f_X9_law_J130 at hk
              refine j_iconst (pc := 130) (v := nI 1) C dX9_law_130 (by decide) ?_
              refine j_goto (pc := 131) 135 C dX9_law_131 (by decide) ?_
              exact j_mask [true, true, true, true, false] (Jn135 _ _ _ _ _ hk)
            refine j_if_ne (pc := 114) 130 C dX9_law_114 (by decide) (fun h22 => ?_) (fun h22 => ?_)
            · have hk := it_f h22 hk
              exact j_mask [true, true, true, true, false] (Jn130 _ _ _ _ hk)
            · have hk := it_t h22 hk
              refine j_aload_n (pc := 117) C dX9_law_117 rfl rfl ?_
              refine j_getI (pc := 118) C fd_10_9 q2009 (stM_o hS) dX9_law_118 ?_
              refine j_aload_n (pc := 121) C dX9_law_121 rfl rfl ?_
              refine j_getR (pc := 122) C fd_10_0 q2000 (stM_o hS) (stM_r0 hS) dX9_law_122 ?_
              refine j_iconst (pc := 125) (v := nI 1) C dX9_law_125 (by decide) ?_
              obtain ⟨i126, e126, h23, hk⟩ := oix_ex hk
              refine j_iald (pc := 126) C (stM_a28 hS) h23 e126 dX9_law_126 ?_
              refine j_icmp_ge (pc := 127) 134 C dX9_law_127 (by decide) (fun h24 => ?_) (fun h24 => ?_)
              · have hk := it_t h24 hk
                refine j_iconst (pc := 134) (v := nI 0) C dX9_law_134 (by decide) ?_
                exact j_mask [true, true, true, true, false] (Jn135 _ _ _ _ _ hk)
              · have hk := it_f h24 hk
                exact j_mask [true, true, true, true, false] (Jn130 _ _ _ _ hk)
          refine j_if_ne (pc := 82) 90 C dX9_law_82 (by decide) (fun h25 => ?_) (fun h25 => ?_)
          · have hk := it_f h25 hk
            refine j_iload_n (pc := 90) C dX9_law_90 rfl rfl ?_
            refine j_iconst (pc := 91) (v := nI 4) C dX9_law_91 (by decide) ?_
            refine j_icmp_ne (pc := 92) 100 C dX9_law_92 (by decide) (fun h26 => ?_) (fun h26 => ?_)
            · have hk := it_f h26 hk
              refine j_bipush (pc := 100) (v := nI 10) C dX9_law_100 (by decide) ?_
              exact j_mask [true, true, true, true, false] (Jn102 _ _ _ _ _ hk)
            · have hk := it_t h26 hk
              refine j_bipush (pc := 95) (v := nI 9) C dX9_law_95 (by decide) ?_
              refine j_goto (pc := 97) 102 C dX9_law_97 (by decide) ?_
              exact j_mask [true, true, true, true, false] (Jn102 _ _ _ _ _ hk)
          · have hk := it_t h25 hk
            refine j_bipush (pc := 85) (v := nI 7) C dX9_law_85 (by decide) ?_
            refine j_goto (pc := 87) 102 C dX9_law_87 (by decide) ?_
            exact j_mask [true, true, true, true, false] (Jn102 _ _ _ _ _ hk)
        refine j_if_eq (pc := 47) 60 C dX9_law_47 (by decide) (fun h27 => ?_) (fun h27 => ?_)
        · have hk := it_t h27 hk
          exact j_mask [true, true, true, true, false] (Jn60 _ _ _ _ hk)
        · have hk := it_f h27 hk
          refine j_iload_n (pc := 50) C dX9_law_50 rfl rfl ?_
          refine j_iconst (pc := 51) (v := nI 1) C dX9_law_51 (by decide) ?_
          refine j_icmp_eq (pc := 52) 60 C dX9_law_52 (by decide) (fun h28 => ?_) (fun h28 => ?_)
          · have hk := it_t h28 hk
            exact j_mask [true, true, true, true, false] (Jn60 _ _ _ _ hk)
          · have hk := it_f h28 hk
            refine j_iload_n (pc := 55) C dX9_law_55 rfl rfl ?_
            refine j_iconst (pc := 56) (v := nI 4) C dX9_law_56 (by decide) ?_
            refine j_icmp_ne (pc := 57) 160 C dX9_law_57 (by decide) (fun h29 => ?_) (fun h29 => ?_)
            · have hk := it_f h29 hk
              exact j_mask [true, true, true, true, false] (Jn160 _ _ _ _ hk)
            · have hk := it_t h29 hk
              exact j_mask [true, true, true, true, false] (Jn60 _ _ _ _ hk)
      · have hk := it_t h7 hk
        refine j_aload_n (pc := 39) C dX9_law_39 rfl rfl ?_
        refine j_ldc (pc := 40) (v := (-1000004)) C q2155 dX9_law_40 ?_
        obtain ⟨r42, I42, h30, hk⟩ := bd2_some hk
        refine j_callV (pc := 42) C (ct_X9_finding hS h30) mv_X9_finding (stM_o hS) rfl rfl q2111 dX9_law_42 rfl rfl (Nat.le_of_ble_eq_true rfl) rfl ?_
        exact j_iretW (pc := 45) C dX9_law_45 (Nat.le_of_ble_eq_true rfl) (Nat.le_of_ble_eq_true rfl) hk
    · have hk := it_t h5 hk
      exact j_mask [true, false, false, false, false] (Jn19 _ hk)
def f_X9_isLaw (x1 : Int32) (I : II) : Option Int32 := oix (nI 0) 366 fun i7 => (f_X9_within x1 (nI 0) ((I 28 i7) - (nI 1))).bind fun r10 => og (r10 = 0 ∨ r10 = 1) (some r10)
abbrev rm_X9_isLaw : Room := { frames := 1, cells := 0, slots := 0, locals := 22 }
theorem mv_X9_isLaw : MV yX9_isLaw cX9_isLaw 2 (some .boolean) 1 := ⟨q2225, qs60, q106, q2226, by decide +kernel⟩
set_option maxHeartbeats 4000000 in
theorem ct_X9_isLaw {G : WG} {l : Launch} {sh : SH} (hS : StM sh) {I : II} {x1 : Int32} {r : Int32} (hk : f_X9_isLaw x1 I = some r) : CT G l yX9_isLaw (ws_ yX9_isLaw cX9_isLaw 2 (some .boolean)) rm_X9_isLaw [.ref (wad G 27), .int x1] (sh, I) (.returned (some (.int r))) (sh, I) := by
  refine CT.ofJ "NineDemandsModel" rfl (by decide) (Nat.le_of_ble_eq_true rfl) ?_
  intro p e s m args below meth c C
  unfold f_X9_isLaw at hk
  refine j_lv (lv' := [some (.ref (wad G 27)), some (.int x1)]) rfl ?_
  refine j_iload_n (pc := 0) C dX9_isLaw_0 rfl rfl ?_
  refine j_iconst (pc := 1) (v := nI 0) C dX9_isLaw_1 (by decide) ?_
  refine j_aload_n (pc := 2) C dX9_isLaw_2 rfl rfl ?_
  refine j_getR (pc := 3) C fd_10_0 q2000 (stM_o hS) (stM_r0 hS) dX9_isLaw_3 ?_
  refine j_iconst (pc := 6) (v := nI 0) C dX9_isLaw_6 (by decide) ?_
  obtain ⟨i7, e7, h1, hk⟩ := oix_ex hk
  refine j_iald (pc := 7) C (stM_a28 hS) h1 e7 dX9_isLaw_7 ?_
  refine j_iconst (pc := 8) (v := nI 1) C dX9_isLaw_8 (by decide) ?_
  refine j_isub (pc := 9) C dX9_isLaw_9 ?_
  obtain ⟨r10, h2, hk⟩ := ob_some hk
  refine j_callS (pc := 10) C (ct_X9_within h2) ms_X9_within q2107 dX9_isLaw_10 rfl rfl (Nat.le_of_ble_eq_true rfl) rfl ?_
  obtain ⟨h3, hk⟩ := og_some hk
  exact j_zretR (pc := 13) C dX9_isLaw_13 (Nat.le_of_ble_eq_true rfl) (Nat.le_of_ble_eq_true rfl) (isB.nar h3) hk
def f_X9_price_J18 (I : II) : Option (Int32 × II) := bd2 (f_X9_finding (-1000001) I) fun r21 I21 => some (r21, I21)
def f_X9_price (x1 : Int32) (x2 : Int32) (I : II) : Option (Int32 × II) := (f_X9_isLaw x1 I).bind fun r2 => if r2 = 0 then f_X9_price_J18 I else (f_X9_within x2 (nI 0) (nI 99)).bind fun r12 => if r12 = 0 then f_X9_price_J18 I else oix ((nI 30) + x1) 366 fun i33 => oix ((nI 30) + x1) 366 fun i44 => some ((I 28 i33), up2 I 28 i44 x2)
abbrev rm_X9_price : Room := { frames := 2, cells := 0, slots := 0, locals := 43 }
theorem mv_X9_price : MV yX9_price cX9_price 4 (some .int) 2 := ⟨q2220, q2221, q106, q2222, by decide +kernel⟩
set_option maxHeartbeats 4000000 in
theorem ct_X9_price {G : WG} {l : Launch} {sh : SH} (hS : StM sh) {I : II} {x1 : Int32} {x2 : Int32} {r : Int32} {I9 : II} (hk : f_X9_price x1 x2 I = some (r, I9)) : CT G l yX9_price (ws_ yX9_price cX9_price 4 (some .int)) rm_X9_price [.ref (wad G 27), .int x1, .int x2] (sh, I) (.returned (some (.int r))) (sh, I9) := by
  refine CT.ofJ "NineDemandsModel" rfl (by decide) (Nat.le_of_ble_eq_true rfl) ?_
  intro p e s m args below meth c C
  unfold f_X9_price at hk
  refine j_lv (lv' := [some (.ref (wad G 27)), some (.int x1), some (.int x2), none]) rfl ?_
  refine j_aload_n (pc := 0) C dX9_price_0 rfl rfl ?_
  refine j_iload_n (pc := 1) C dX9_price_1 rfl rfl ?_
  obtain ⟨r2, h1, hk⟩ := ob_some hk
  refine j_callV (pc := 2) C (ct_X9_isLaw hS h1) mv_X9_isLaw (stM_o hS) rfl rfl q2223 dX9_price_2 rfl rfl (Nat.le_of_ble_eq_true rfl) rfl ?_
  have Jn18 : ∀ (I : II), f_X9_price_J18 I = some (r, I9) → J G p l e rm_X9_price s m args below meth c 4 (.returned (some (.int r))) (sh, I9) (rm_X9_price).cells (rm_X9_price).slots (sh, I) 0 0 18 [some (.ref (wad G 27)), none, none, none] [] := by
    intro I hk
    unfold f_X9_price_J18 at hk
    refine j_aload_n (pc := 18) C dX9_price_18 rfl rfl ?_
    refine j_ldc (pc := 19) (v := (-1000001)) C q2110 dX9_price_19 ?_
    obtain ⟨r21, I21, h2, hk⟩ := bd2_some hk
    refine j_callV (pc := 21) C (ct_X9_finding hS h2) mv_X9_finding (stM_o hS) rfl rfl q2111 dX9_price_21 rfl rfl (Nat.le_of_ble_eq_true rfl) rfl ?_
    exact j_iretW (pc := 24) C dX9_price_24 (Nat.le_of_ble_eq_true rfl) (Nat.le_of_ble_eq_true rfl) hk
  refine j_if_eq (pc := 5) 18 C dX9_price_5 (by decide) (fun h3 => ?_) (fun h3 => ?_)
  · have hk := it_t h3 hk
    exact j_mask [true, false, false, false] (Jn18 _ hk)
  · have hk := it_f h3 hk
    refine j_iload_n (pc := 8) C dX9_price_8 rfl rfl ?_
    refine j_iconst (pc := 9) (v := nI 0) C dX9_price_9 (by decide) ?_
    refine j_bipush (pc := 10) (v := nI 99) C dX9_price_10 (by decide) ?_
    obtain ⟨r12, h4, hk⟩ := ob_some hk
    refine j_callS (pc := 12) C (ct_X9_within h4) ms_X9_within q2107 dX9_price_12 rfl rfl (Nat.le_of_ble_eq_true rfl) rfl ?_
    refine j_if_ne (pc := 15) 25 C dX9_price_15 (by decide) (fun h5 => ?_) (fun h5 => ?_)
    · have hk := it_f h5 hk
      refine j_aload_n (pc := 25) C dX9_price_25 rfl rfl ?_
      refine j_getR (pc := 26) C fd_10_0 q2000 (stM_o hS) (stM_r0 hS) dX9_price_26 ?_
      refine j_bipush (pc := 29) (v := nI 30) C dX9_price_29 (by decide) ?_
      refine j_iload_n (pc := 31) C dX9_price_31 rfl rfl ?_
      refine j_iadd (pc := 32) C dX9_price_32 ?_
      obtain ⟨i33, e33, h6, hk⟩ := oix_ex hk
      refine j_iald (pc := 33) C (stM_a28 hS) h6 e33 dX9_price_33 ?_
      refine j_istore_n (pc := 34) C dX9_price_34 rfl (Nat.le_of_ble_eq_true rfl) rfl ?_
      refine j_aload_n (pc := 35) C dX9_price_35 rfl rfl ?_
      refine j_getR (pc := 36) C fd_10_0 q2000 (stM_o hS) (stM_r0 hS) dX9_price_36 ?_
      refine j_bipush (pc := 39) (v := nI 30) C dX9_price_39 (by decide) ?_
      refine j_iload_n (pc := 41) C dX9_price_41 rfl rfl ?_
      refine j_iadd (pc := 42) C dX9_price_42 ?_
      refine j_iload_n (pc := 43) C dX9_price_43 rfl rfl ?_
      obtain ⟨i44, e44, h7, hk⟩ := oix_ex hk
      refine j_iast (pc := 44) C (stM_a28 hS) h7 e44 dX9_price_44 ?_
      refine j_iload_n (pc := 45) C dX9_price_45 rfl rfl ?_
      exact j_iretW (pc := 46) C dX9_price_46 (Nat.le_of_ble_eq_true rfl) (Nat.le_of_ble_eq_true rfl) hk
    · have hk := it_t h5 hk
      exact j_mask [true, false, false, false] (Jn18 _ hk)
def f_X9_above (x0 : Int32) : Option Int32 := if x0 = 0 then some (-1) else if x0 = (nI 1) then some (nI 0) else if x0 = (nI 5) then some (nI 0) else some (nI 1)
abbrev rm_X9_above : Room := { frames := 0, cells := 0, slots := 0, locals := 0 }
theorem ms_X9_above : MS yX9_above cX9_above 1 (some .int) 1 := ⟨q2236, q106, q2237, by decide +kernel⟩
set_option maxHeartbeats 4000000 in
theorem ct_X9_above {G : WG} {l : Launch} {sh : SH} {I : II} {x0 : Int32} {r : Int32} (hk : f_X9_above x0 = some r) : CT G l yX9_above (ws_ yX9_above cX9_above 1 (some .int)) rm_X9_above [.int x0] (sh, I) (.returned (some (.int r))) (sh, I) := by
  refine CT.ofJ "NineDemandsModel" rfl (by decide) (Nat.le_of_ble_eq_true rfl) ?_
  intro p e s m args below meth c C
  unfold f_X9_above at hk
  refine j_lv (lv' := [some (.int x0)]) rfl ?_
  refine j_iload_n (pc := 0) C dX9_above_0 rfl rfl ?_
  refine j_if_ne (pc := 1) 8 C dX9_above_1 (by decide) (fun h1 => ?_) (fun h1 => ?_)
  · have hk := it_f h1 hk
    refine j_iload_n (pc := 8) C dX9_above_8 rfl rfl ?_
    refine j_iconst (pc := 9) (v := nI 1) C dX9_above_9 (by decide) ?_
    refine j_icmp_eq (pc := 10) 18 C dX9_above_10 (by decide) (fun h2 => ?_) (fun h2 => ?_)
    · have hk := it_t h2 hk
      refine j_iconst (pc := 18) (v := nI 0) C dX9_above_18 (by decide) ?_
      refine j_goto (pc := 19) 23 C dX9_above_19 (by decide) ?_
      exact j_iretR (pc := 23) C dX9_above_23 (Nat.le_of_ble_eq_true rfl) (Nat.le_of_ble_eq_true rfl) hk
    · have hk := it_f h2 hk
      refine j_iload_n (pc := 13) C dX9_above_13 rfl rfl ?_
      refine j_iconst (pc := 14) (v := nI 5) C dX9_above_14 (by decide) ?_
      refine j_icmp_ne (pc := 15) 22 C dX9_above_15 (by decide) (fun h3 => ?_) (fun h3 => ?_)
      · have hk := it_f h3 hk
        refine j_iconst (pc := 22) (v := nI 1) C dX9_above_22 (by decide) ?_
        exact j_iretR (pc := 23) C dX9_above_23 (Nat.le_of_ble_eq_true rfl) (Nat.le_of_ble_eq_true rfl) hk
      · have hk := it_t h3 hk
        refine j_iconst (pc := 18) (v := nI 0) C dX9_above_18 (by decide) ?_
        refine j_goto (pc := 19) 23 C dX9_above_19 (by decide) ?_
        exact j_iretR (pc := 23) C dX9_above_23 (Nat.le_of_ble_eq_true rfl) (Nat.le_of_ble_eq_true rfl) hk
  · have hk := it_t h1 hk
    refine j_iconst (pc := 4) (v := (-1)) C dX9_above_4 (by decide) ?_
    refine j_goto (pc := 5) 23 C dX9_above_5 (by decide) ?_
    exact j_iretR (pc := 23) C dX9_above_23 (Nat.le_of_ble_eq_true rfl) (Nat.le_of_ble_eq_true rfl) hk
def f_X9_kindOf (x1 : Int32) (I : II) : Option Int32 := oix ((nI 22) + x1) 366 fun i8 => some (I 28 i8)
abbrev rm_X9_kindOf : Room := { frames := 0, cells := 0, slots := 0, locals := 0 }
theorem mv_X9_kindOf : MV yX9_kindOf cX9_kindOf 2 (some .int) 1 := ⟨q2233, qs61, q106, q2234, by decide +kernel⟩
set_option maxHeartbeats 4000000 in
theorem ct_X9_kindOf {G : WG} {l : Launch} {sh : SH} (hS : StM sh) {I : II} {x1 : Int32} {r : Int32} (hk : f_X9_kindOf x1 I = some r) : CT G l yX9_kindOf (ws_ yX9_kindOf cX9_kindOf 2 (some .int)) rm_X9_kindOf [.ref (wad G 27), .int x1] (sh, I) (.returned (some (.int r))) (sh, I) := by
  refine CT.ofJ "NineDemandsModel" rfl (by decide) (Nat.le_of_ble_eq_true rfl) ?_
  intro p e s m args below meth c C
  unfold f_X9_kindOf at hk
  refine j_lv (lv' := [some (.ref (wad G 27)), some (.int x1)]) rfl ?_
  refine j_aload_n (pc := 0) C dX9_kindOf_0 rfl rfl ?_
  refine j_getR (pc := 1) C fd_10_0 q2000 (stM_o hS) (stM_r0 hS) dX9_kindOf_1 ?_
  refine j_bipush (pc := 4) (v := nI 22) C dX9_kindOf_4 (by decide) ?_
  refine j_iload_n (pc := 6) C dX9_kindOf_6 rfl rfl ?_
  refine j_iadd (pc := 7) C dX9_kindOf_7 ?_
  obtain ⟨i8, e8, h1, hk⟩ := oix_ex hk
  refine j_iald (pc := 8) C (stM_a28 hS) h1 e8 dX9_kindOf_8 ?_
  exact j_iretR (pc := 9) C dX9_kindOf_9 (Nat.le_of_ble_eq_true rfl) (Nat.le_of_ble_eq_true rfl) hk
def f_X9_casesOf (x1 : Int32) (I : II) : Option Int32 := (f_X9_kindOf x1 I).bind fun r6 => oix (r6 + (nI 1)) 7 fun i11 => (f_X9_kindOf x1 I).bind fun r18 => oix r18 7 fun i21 => some ((I 31 i11) - (I 31 i21))
abbrev rm_X9_casesOf : Room := { frames := 1, cells := 0, slots := 0, locals := 21 }
theorem mv_X9_casesOf : MV yX9_casesOf cX9_casesOf 2 (some .int) 1 := ⟨q2240, qs62, q106, q2241, by decide +kernel⟩
set_option maxHeartbeats 4000000 in
theorem ct_X9_casesOf {G : WG} {l : Launch} {sh : SH} (hS : StM sh) {I : II} {x1 : Int32} {r : Int32} (hk : f_X9_casesOf x1 I = some r) : CT G l yX9_casesOf (ws_ yX9_casesOf cX9_casesOf 2 (some .int)) rm_X9_casesOf [.ref (wad G 27), .int x1] (sh, I) (.returned (some (.int r))) (sh, I) := by
  refine CT.ofJ "NineDemandsModel" rfl (by decide) (Nat.le_of_ble_eq_true rfl) ?_
  intro p e s m args below meth c C
  unfold f_X9_casesOf at hk
  refine j_lv (lv' := [some (.ref (wad G 27)), some (.int x1)]) rfl ?_
  refine j_aload_n (pc := 0) C dX9_casesOf_0 rfl rfl ?_
  refine j_getR (pc := 1) C fd_10_4 q2004 (stM_o hS) (stM_r4 hS) dX9_casesOf_1 ?_
  refine j_aload_n (pc := 4) C dX9_casesOf_4 rfl rfl ?_
  refine j_iload_n (pc := 5) C dX9_casesOf_5 rfl rfl ?_
  obtain ⟨r6, h1, hk⟩ := ob_some hk
  refine j_callV (pc := 6) C (ct_X9_kindOf hS h1) mv_X9_kindOf (stM_o hS) rfl rfl q2231 dX9_casesOf_6 rfl rfl (Nat.le_of_ble_eq_true rfl) rfl ?_
  refine j_iconst (pc := 9) (v := nI 1) C dX9_casesOf_9 (by decide) ?_
  refine j_iadd (pc := 10) C dX9_casesOf_10 ?_
  obtain ⟨i11, e11, h2, hk⟩ := oix_ex hk
  refine j_iald (pc := 11) C (stM_a31 hS) h2 e11 dX9_casesOf_11 ?_
  refine j_aload_n (pc := 12) C dX9_casesOf_12 rfl rfl ?_
  refine j_getR (pc := 13) C fd_10_4 q2004 (stM_o hS) (stM_r4 hS) dX9_casesOf_13 ?_
  refine j_aload_n (pc := 16) C dX9_casesOf_16 rfl rfl ?_
  refine j_iload_n (pc := 17) C dX9_casesOf_17 rfl rfl ?_
  obtain ⟨r18, h3, hk⟩ := ob_some hk
  refine j_callV (pc := 18) C (ct_X9_kindOf hS h3) mv_X9_kindOf (stM_o hS) rfl rfl q2231 dX9_casesOf_18 rfl rfl (Nat.le_of_ble_eq_true rfl) rfl ?_
  obtain ⟨i21, e21, h4, hk⟩ := oix_ex hk
  refine j_iald (pc := 21) C (stM_a31 hS) h4 e21 dX9_casesOf_21 ?_
  refine j_isub (pc := 22) C dX9_casesOf_22 ?_
  exact j_iretR (pc := 23) C dX9_casesOf_23 (Nat.le_of_ble_eq_true rfl) (Nat.le_of_ble_eq_true rfl) hk
def f_X9_as_J17 (F : Nat) (I : II) : Option (Int32 × II) := bd2 (f_X9_finding (-1000001) I) fun r20 I20 => some (r20, I20)
def f_X9_as_J47 (F : Nat) (x1 : Int32) (x3 : Int32) (I : II) : Option (Int32 × II) := if 0 ≤ x3 then (f_X9_casesOf x1 I).bind fun r62 => some (r62, I) else bd2 (f_X9_finding (-1000005) I) fun r54 I54 => some (r54, I54)
def f_X9_as_L30 (F : Nat) (x1 : Int32) (x2 : Int32) : Nat → Int32 → II → Option (Int32 × II)
  | 0, _, _ => none
  | n30 + 1, x3, I => if x3 < 0 then f_X9_as_J47 F x1 x3 I else if x3 = x2 then f_X9_as_J47 F x1 x3 I else (f_X9_above x3).bind fun r40 => (f_X9_as_L30 F x1 x2 n30) r40 I
def f_X9_as (F : Nat) (x1 : Int32) (x2 : Int32) (I : II) : Option (Int32 × II) := (f_X9_isLaw x1 I).bind fun r2 => if r2 = 0 then f_X9_as_J17 F I else (f_X9_within x2 (nI 0) (nI 5)).bind fun r11 => if r11 = 0 then f_X9_as_J17 F I else (f_X9_kindOf x1 I).bind fun r26 => f_X9_as_L30 F x1 x2 F r26 I
abbrev rm_X9_as : Room := { frames := 2, cells := 0, slots := 0, locals := 43 }
theorem mv_X9_as : MV yX9_as cX9_as 4 (some .int) 2 := ⟨q2228, q2229, q106, q2230, by decide +kernel⟩
set_option maxHeartbeats 4000000 in
theorem ct_X9_as {G : WG} {l : Launch} {sh : SH} (hS : StM sh) {I : II} {F : Nat} {x1 : Int32} {x2 : Int32} {r : Int32} {I9 : II} (hk : f_X9_as F x1 x2 I = some (r, I9)) : CT G l yX9_as (ws_ yX9_as cX9_as 4 (some .int)) rm_X9_as [.ref (wad G 27), .int x1, .int x2] (sh, I) (.returned (some (.int r))) (sh, I9) := by
  refine CT.ofJ "NineDemandsModel" rfl (by decide) (Nat.le_of_ble_eq_true rfl) ?_
  intro p e s m args below meth c C
  unfold f_X9_as at hk
  refine j_lv (lv' := [some (.ref (wad G 27)), some (.int x1), some (.int x2), none]) rfl ?_
  refine j_aload_n (pc := 0) C dX9_as_0 rfl rfl ?_
  refine j_iload_n (pc := 1) C dX9_as_1 rfl rfl ?_
  obtain ⟨r2, h1, hk⟩ := ob_some hk
  refine j_callV (pc := 2) C (ct_X9_isLaw hS h1) mv_X9_isLaw (stM_o hS) rfl rfl q2223 dX9_as_2 rfl rfl (Nat.le_of_ble_eq_true rfl) rfl ?_
  have Jn17 : ∀ (I : II), f_X9_as_J17 F I = some (r, I9) → J G p l e rm_X9_as s m args below meth c 4 (.returned (some (.int r))) (sh, I9) (rm_X9_as).cells (rm_X9_as).slots (sh, I) 0 0 17 [some (.ref (wad G 27)), none, none, none] [] := by
    intro I hk
    unfold f_X9_as_J17 at hk
    refine j_aload_n (pc := 17) C dX9_as_17 rfl rfl ?_
    refine j_ldc (pc := 18) (v := (-1000001)) C q2110 dX9_as_18 ?_
    obtain ⟨r20, I20, h2, hk⟩ := bd2_some hk
    refine j_callV (pc := 20) C (ct_X9_finding hS h2) mv_X9_finding (stM_o hS) rfl rfl q2111 dX9_as_20 rfl rfl (Nat.le_of_ble_eq_true rfl) rfl ?_
    exact j_iretW (pc := 23) C dX9_as_23 (Nat.le_of_ble_eq_true rfl) (Nat.le_of_ble_eq_true rfl) hk
  refine j_if_eq (pc := 5) 17 C dX9_as_5 (by decide) (fun h3 => ?_) (fun h3 => ?_)
  · have hk := it_t h3 hk
    exact j_mask [true, false, false, false] (Jn17 _ hk)
  · have hk := it_f h3 hk
    refine j_iload_n (pc := 8) C dX9_as_8 rfl rfl ?_
    refine j_iconst (pc := 9) (v := nI 0) C dX9_as_9 (by decide) ?_
    refine j_iconst (pc := 10) (v := nI 5) C dX9_as_10 (by decide) ?_
    obtain ⟨r11, h4, hk⟩ := ob_some hk
    refine j_callS (pc := 11) C (ct_X9_within h4) ms_X9_within q2107 dX9_as_11 rfl rfl (Nat.le_of_ble_eq_true rfl) rfl ?_
    refine j_if_ne (pc := 14) 24 C dX9_as_14 (by decide) (fun h5 => ?_) (fun h5 => ?_)
    · have hk := it_f h5 hk
      refine j_aload_n (pc := 24) C dX9_as_24 rfl rfl ?_
      refine j_iload_n (pc := 25) C dX9_as_25 rfl rfl ?_
      obtain ⟨r26, h6, hk⟩ := ob_some hk
      refine j_callV (pc := 26) C (ct_X9_kindOf hS h6) mv_X9_kindOf (stM_o hS) rfl rfl q2231 dX9_as_26 rfl rfl (Nat.le_of_ble_eq_true rfl) rfl ?_
      refine j_istore_n (pc := 29) C dX9_as_29 rfl (Nat.le_of_ble_eq_true rfl) rfl ?_
      have L30 : ∀ (x1 : Int32) (x2 : Int32) (n30 : Nat) (x3 : Int32) (I : II), f_X9_as_L30 F x1 x2 n30 x3 I = some (r, I9) → J G p l e rm_X9_as s m args below meth c 4 (.returned (some (.int r))) (sh, I9) (rm_X9_as).cells (rm_X9_as).slots (sh, I) 0 0 30 [some (.ref (wad G 27)), some (.int x1), some (.int x2), some (.int x3)] [] := by
        intro x1 x2 n30
        induction n30 with
        | zero => intro x3 I hk; rw [f_X9_as_L30] at hk; cases hk
        | succ n30 ih30 =>
          intro x3 I hk
          rw [f_X9_as_L30] at hk
          generalize f_X9_as_L30 F x1 x2 n30 = k30 at ih30 hk
          refine j_iload_n (pc := 30) C dX9_as_30 rfl rfl ?_
          have Jn47 : ∀ (x1 : Int32) (x3 : Int32) (I : II), f_X9_as_J47 F x1 x3 I = some (r, I9) → J G p l e rm_X9_as s m args below meth c 4 (.returned (some (.int r))) (sh, I9) (rm_X9_as).cells (rm_X9_as).slots (sh, I) 0 0 47 [some (.ref (wad G 27)), some (.int x1), none, some (.int x3)] [] := by
            intro x1 x3 I hk
            unfold f_X9_as_J47 at hk
            refine j_iload_n (pc := 47) C dX9_as_47 rfl rfl ?_
            refine j_if_ge (pc := 48) 60 C dX9_as_48 (by decide) (fun h7 => ?_) (fun h7 => ?_)
            · have hk := it_t h7 hk
              refine j_aload_n (pc := 60) C dX9_as_60 rfl rfl ?_
              refine j_iload_n (pc := 61) C dX9_as_61 rfl rfl ?_
              obtain ⟨r62, h8, hk⟩ := ob_some hk
              refine j_callV (pc := 62) C (ct_X9_casesOf hS h8) mv_X9_casesOf (stM_o hS) rfl rfl q2238 dX9_as_62 rfl rfl (Nat.le_of_ble_eq_true rfl) rfl ?_
              exact j_iretW (pc := 65) C dX9_as_65 (Nat.le_of_ble_eq_true rfl) (Nat.le_of_ble_eq_true rfl) hk
            · have hk := it_f h7 hk
              refine j_aload_n (pc := 51) C dX9_as_51 rfl rfl ?_
              refine j_ldc (pc := 52) (v := (-1000005)) C q2143 dX9_as_52 ?_
              obtain ⟨r54, I54, h9, hk⟩ := bd2_some hk
              refine j_callV (pc := 54) C (ct_X9_finding hS h9) mv_X9_finding (stM_o hS) rfl rfl q2111 dX9_as_54 rfl rfl (Nat.le_of_ble_eq_true rfl) rfl ?_
              refine j_goto (pc := 57) 65 C dX9_as_57 (by decide) ?_
              exact j_iretW (pc := 65) C dX9_as_65 (Nat.le_of_ble_eq_true rfl) (Nat.le_of_ble_eq_true rfl) hk
          refine j_if_lt (pc := 31) 47 C dX9_as_31 (by decide) (fun h10 => ?_) (fun h10 => ?_)
          · have hk := it_t h10 hk
            exact j_mask [true, true, false, true] (Jn47 _ _ _ hk)
          · have hk := it_f h10 hk
            refine j_iload_n (pc := 34) C dX9_as_34 rfl rfl ?_
            refine j_iload_n (pc := 35) C dX9_as_35 rfl rfl ?_
            refine j_icmp_eq (pc := 36) 47 C dX9_as_36 (by decide) (fun h11 => ?_) (fun h11 => ?_)
            · have hk := it_t h11 hk
              exact j_mask [true, true, false, true] (Jn47 _ _ _ hk)
            · have hk := it_f h11 hk
              refine j_iload_n (pc := 39) C dX9_as_39 rfl rfl ?_
              obtain ⟨r40, h12, hk⟩ := ob_some hk
              refine j_callS (pc := 40) C (ct_X9_above h12) ms_X9_above q2235 dX9_as_40 rfl rfl (Nat.le_of_ble_eq_true rfl) rfl ?_
              refine j_istore_n (pc := 43) C dX9_as_43 rfl (Nat.le_of_ble_eq_true rfl) rfl ?_
              refine j_goto (pc := 44) 30 C dX9_as_44 (by decide) ?_
              exact j_mask [true, true, true, true] (ih30 _ _ hk)
      exact j_mask [true, true, true, true] (L30 _ _ _ _ _ hk)
    · have hk := it_t h5 hk
      exact j_mask [true, false, false, false] (Jn17 _ hk)
