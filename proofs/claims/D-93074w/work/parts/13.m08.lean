/-! the reference: walks -/
set_option maxRecDepth 100000
def f_X9_voice_J17 (F : Nat) (I : II) : Option (Int32 × II) := bd2 (f_X9_finding (-1000001) I) fun r20 I20 => some (r20, I20)
def f_X9_voice (F : Nat) (x1 : Int32) (x2 : Int32) (x3 : Int32) (I : II) : Option (Int32 × II) := (f_X9_isLaw x1 I).bind fun r2 => if r2 = 0 then f_X9_voice_J17 F I else (f_X9_within x2 (nI 0) (nI 3)).bind fun r11 => if r11 = 0 then f_X9_voice_J17 F I else bd2 (f_X9_voiced F 40 x2 x3 (up2 (up2 I 27 27 (nI 0)) 27 28 x1)) fun r37 I37 => some (r37, I37)
abbrev rm_X9_voice : Room := { frames := 42, cells := 0, slots := 0, locals := 1043 }
theorem mv_X9_voice : MV yX9_voice cX9_voice 4 (some .int) 3 := ⟨q2418, q2419, q106, q2420, by decide +kernel⟩
set_option maxHeartbeats 4000000 in
theorem ct_X9_voice {G : WG} {l : Launch} {sh : SH} (hS : StM sh) {I : II} {F : Nat} {x1 : Int32} {x2 : Int32} {x3 : Int32} {r : Int32} {I9 : II} (hk : f_X9_voice F x1 x2 x3 I = some (r, I9)) : CT G l yX9_voice (ws_ yX9_voice cX9_voice 4 (some .int)) rm_X9_voice [.ref (wad G 27), .int x1, .int x2, .int x3] (sh, I) (.returned (some (.int r))) (sh, I9) := by
  refine CT.ofJ "NineDemandsModel" rfl (by decide) (Nat.le_of_ble_eq_true rfl) ?_
  intro p e s m args below meth c C
  unfold f_X9_voice at hk
  refine j_lv (lv' := [some (.ref (wad G 27)), some (.int x1), some (.int x2), some (.int x3)]) rfl ?_
  refine j_aload_n (pc := 0) C dX9_voice_0 rfl rfl ?_
  refine j_iload_n (pc := 1) C dX9_voice_1 rfl rfl ?_
  obtain ⟨r2, h1, hk⟩ := ob_some hk
  refine j_callV (pc := 2) C (ct_X9_isLaw hS h1) mv_X9_isLaw (stM_o hS) rfl rfl q2223 dX9_voice_2 rfl rfl (Nat.le_of_ble_eq_true rfl) rfl ?_
  have Jn17 : ∀ (I : II), f_X9_voice_J17 F I = some (r, I9) → J G p l e rm_X9_voice s m args below meth c 4 (.returned (some (.int r))) (sh, I9) (rm_X9_voice).cells (rm_X9_voice).slots (sh, I) 0 0 17 [some (.ref (wad G 27)), none, none, none] [] := by
    intro I hk
    unfold f_X9_voice_J17 at hk
    refine j_aload_n (pc := 17) C dX9_voice_17 rfl rfl ?_
    refine j_ldc (pc := 18) (v := (-1000001)) C q2110 dX9_voice_18 ?_
    obtain ⟨r20, I20, h2, hk⟩ := bd2_some hk
    refine j_callV (pc := 20) C (ct_X9_finding hS h2) mv_X9_finding (stM_o hS) rfl rfl q2111 dX9_voice_20 rfl rfl (Nat.le_of_ble_eq_true rfl) rfl ?_
    exact j_iretW (pc := 23) C dX9_voice_23 (Nat.le_of_ble_eq_true rfl) (Nat.le_of_ble_eq_true rfl) hk
  refine j_if_eq (pc := 5) 17 C dX9_voice_5 (by decide) (fun h3 => ?_) (fun h3 => ?_)
  · have hk := it_t h3 hk
    exact j_mask [true, false, false, false] (Jn17 _ hk)
  · have hk := it_f h3 hk
    refine j_iload_n (pc := 8) C dX9_voice_8 rfl rfl ?_
    refine j_iconst (pc := 9) (v := nI 0) C dX9_voice_9 (by decide) ?_
    refine j_iconst (pc := 10) (v := nI 3) C dX9_voice_10 (by decide) ?_
    obtain ⟨r11, h4, hk⟩ := ob_some hk
    refine j_callS (pc := 11) C (ct_X9_within h4) ms_X9_within q2107 dX9_voice_11 rfl rfl (Nat.le_of_ble_eq_true rfl) rfl ?_
    refine j_if_ne (pc := 14) 24 C dX9_voice_14 (by decide) (fun h5 => ?_) (fun h5 => ?_)
    · have hk := it_f h5 hk
      refine j_aload_n (pc := 24) C dX9_voice_24 rfl rfl ?_
      refine j_iconst (pc := 25) (v := nI 0) C dX9_voice_25 (by decide) ?_
      refine j_putI (pc := 26) C fd_10_27 (C.2.2.2.2.1 _ q2027) (stM_o hS) rfl rfl dX9_voice_26 ?_
      refine j_aload_n (pc := 29) C dX9_voice_29 rfl rfl ?_
      refine j_iload_n (pc := 30) C dX9_voice_30 rfl rfl ?_
      refine j_putI (pc := 31) C fd_10_28 (C.2.2.2.2.1 _ q2028) (stM_o hS) rfl rfl dX9_voice_31 ?_
      refine j_aload_n (pc := 34) C dX9_voice_34 rfl rfl ?_
      refine j_iload_n (pc := 35) C dX9_voice_35 rfl rfl ?_
      refine j_iload_n (pc := 36) C dX9_voice_36 rfl rfl ?_
      obtain ⟨r37, I37, h6, hk⟩ := bd2_some hk
      refine j_callV (pc := 37) C (ct_X9_voiced hS h6) mv_X9_voiced (stM_o hS) rfl rfl q2421 dX9_voice_37 rfl rfl (Nat.le_of_ble_eq_true rfl) rfl ?_
      exact j_iretW (pc := 40) C dX9_voice_40 (Nat.le_of_ble_eq_true rfl) (Nat.le_of_ble_eq_true rfl) hk
    · have hk := it_t h5 hk
      exact j_mask [true, false, false, false] (Jn17 _ hk)
def f_X9_trace (x1 : Int32) (I : II) : Option (Int32 × II) := (f_X9_within x1 (nI 0) ((I 27 27) - (nI 1))).bind fun r8 => if r8 = 0 then bd2 (f_X9_finding (-1000002) I) fun r26 I26 => some (r26, I26) else oix x1 40 fun i19 => some ((I 43 i19), I)
abbrev rm_X9_trace : Room := { frames := 1, cells := 0, slots := 0, locals := 22 }
theorem mv_X9_trace : MV yX9_trace cX9_trace 2 (some .int) 1 := ⟨q2441, q2442, q106, q2443, by decide +kernel⟩
set_option maxHeartbeats 4000000 in
theorem ct_X9_trace {G : WG} {l : Launch} {sh : SH} (hS : StM sh) {I : II} {x1 : Int32} {r : Int32} {I9 : II} (hk : f_X9_trace x1 I = some (r, I9)) : CT G l yX9_trace (ws_ yX9_trace cX9_trace 2 (some .int)) rm_X9_trace [.ref (wad G 27), .int x1] (sh, I) (.returned (some (.int r))) (sh, I9) := by
  refine CT.ofJ "NineDemandsModel" rfl (by decide) (Nat.le_of_ble_eq_true rfl) ?_
  intro p e s m args below meth c C
  unfold f_X9_trace at hk
  refine j_lv (lv' := [some (.ref (wad G 27)), some (.int x1)]) rfl ?_
  refine j_iload_n (pc := 0) C dX9_trace_0 rfl rfl ?_
  refine j_iconst (pc := 1) (v := nI 0) C dX9_trace_1 (by decide) ?_
  refine j_aload_n (pc := 2) C dX9_trace_2 rfl rfl ?_
  refine j_getI (pc := 3) C fd_10_27 q2027 (stM_o hS) dX9_trace_3 ?_
  refine j_iconst (pc := 6) (v := nI 1) C dX9_trace_6 (by decide) ?_
  refine j_isub (pc := 7) C dX9_trace_7 ?_
  obtain ⟨r8, h1, hk⟩ := ob_some hk
  refine j_callS (pc := 8) C (ct_X9_within h1) ms_X9_within q2107 dX9_trace_8 rfl rfl (Nat.le_of_ble_eq_true rfl) rfl ?_
  refine j_if_eq (pc := 11) 23 C dX9_trace_11 (by decide) (fun h2 => ?_) (fun h2 => ?_)
  · have hk := it_t h2 hk
    refine j_aload_n (pc := 23) C dX9_trace_23 rfl rfl ?_
    refine j_ldc (pc := 24) (v := (-1000002)) C q2123 dX9_trace_24 ?_
    obtain ⟨r26, I26, h3, hk⟩ := bd2_some hk
    refine j_callV (pc := 26) C (ct_X9_finding hS h3) mv_X9_finding (stM_o hS) rfl rfl q2111 dX9_trace_26 rfl rfl (Nat.le_of_ble_eq_true rfl) rfl ?_
    exact j_iretW (pc := 29) C dX9_trace_29 (Nat.le_of_ble_eq_true rfl) (Nat.le_of_ble_eq_true rfl) hk
  · have hk := it_f h2 hk
    refine j_aload_n (pc := 14) C dX9_trace_14 rfl rfl ?_
    refine j_getR (pc := 15) C fd_10_26 q2026 (stM_o hS) (stM_r26 hS) dX9_trace_15 ?_
    refine j_iload_n (pc := 18) C dX9_trace_18 rfl rfl ?_
    obtain ⟨i19, e19, h4, hk⟩ := oix_ex hk
    refine j_iald (pc := 19) C (stM_a43 hS) h4 e19 dX9_trace_19 ?_
    refine j_goto (pc := 20) 29 C dX9_trace_20 (by decide) ?_
    exact j_iretW (pc := 29) C dX9_trace_29 (Nat.le_of_ble_eq_true rfl) (Nat.le_of_ble_eq_true rfl) hk
def f_X9_sheet_J29 (F : Nat) (I : II) : Option (Int32 × II) := bd2 (f_X9_finding (-1000001) I) fun r32 I32 => some (r32, I32)
def f_X9_sheet_L94 (F : Nat) (x1 : Int32) : Nat → Int32 → II → Option (Int32 × II)
  | 0, _, _ => none
  | n94 + 1, x4, I => if (nI 40) ≤ x4 then some ((nI 1), I) else oix (((nI 40) * x1) + x4) 160 fun i113 => (f_X9_sheet_L94 F x1 n94) (x4 + (nI 1)) (up2 I 46 i113 (nI 0))
def f_X9_sheet_J90 (F : Nat) (x1 : Int32) (s1 : Int32) (s2 : Int32) (I : II) : Option (Int32 × II) := oix s1 4 fun i90 => f_X9_sheet_L94 F x1 F (nI 0) (up2 I 45 i90 s2)
def f_X9_sheet_J69 (F : Nat) (x1 : Int32) (x2 : Int32) (x3 : Int32) (I : II) : Option (Int32 × II) := oix x1 4 fun i75 => if x2 = 0 then f_X9_sheet_J90 F x1 x1 (nI 0) (up2 I 44 i75 x2) else f_X9_sheet_J90 F x1 x1 x3 (up2 I 44 i75 x2)
def f_X9_sheet_J52 (F : Nat) (x1 : Int32) (x2 : Int32) (x3 : Int32) (I : II) : Option (Int32 × II) := if x2 = 0 then f_X9_sheet_J69 F x1 x2 x3 I else if x3 ≤ (nI 40) then f_X9_sheet_J69 F x1 x2 x3 I else bd2 (f_X9_finding (-1000001) I) fun r65 I65 => some (r65, I65)
def f_X9_sheet_J36 (F : Nat) (x1 : Int32) (x2 : Int32) (x3 : Int32) (I : II) : Option (Int32 × II) := if x2 = 0 then f_X9_sheet_J52 F x1 x2 x3 I else if 0 ≤ x3 then f_X9_sheet_J52 F x1 x2 x3 I else bd2 (f_X9_finding (-1000003) I) fun r48 I48 => some (r48, I48)
def f_X9_sheet (F : Nat) (x1 : Int32) (x2 : Int32) (x3 : Int32) (I : II) : Option (Int32 × II) := (f_X9_isSheet x1).bind fun r1 => if r1 = 0 then f_X9_sheet_J29 F I else if x2 = 0 then f_X9_sheet_J36 F x1 x2 x3 I else if x2 = (nI 8) then f_X9_sheet_J36 F x1 x2 x3 I else if x2 = (nI 16) then f_X9_sheet_J36 F x1 x2 x3 I else if x2 = (nI 32) then f_X9_sheet_J36 F x1 x2 x3 I else f_X9_sheet_J29 F I
abbrev rm_X9_sheet : Room := { frames := 2, cells := 0, slots := 0, locals := 42 }
theorem mv_X9_sheet : MV yX9_sheet cX9_sheet 5 (some .int) 3 := ⟨q2445, q2446, q106, q2447, by decide +kernel⟩
set_option maxHeartbeats 4000000 in
theorem ct_X9_sheet {G : WG} {l : Launch} {sh : SH} (hS : StM sh) {I : II} {F : Nat} {x1 : Int32} {x2 : Int32} {x3 : Int32} {r : Int32} {I9 : II} (hk : f_X9_sheet F x1 x2 x3 I = some (r, I9)) : CT G l yX9_sheet (ws_ yX9_sheet cX9_sheet 5 (some .int)) rm_X9_sheet [.ref (wad G 27), .int x1, .int x2, .int x3] (sh, I) (.returned (some (.int r))) (sh, I9) := by
  refine CT.ofJ "NineDemandsModel" rfl (by decide) (Nat.le_of_ble_eq_true rfl) ?_
  intro p e s m args below meth c C
  unfold f_X9_sheet at hk
  refine j_lv (lv' := [some (.ref (wad G 27)), some (.int x1), some (.int x2), some (.int x3), none]) rfl ?_
  refine j_iload_n (pc := 0) C dX9_sheet_0 rfl rfl ?_
  obtain ⟨r1, h1, hk⟩ := ob_some hk
  refine j_callS (pc := 1) C (ct_X9_isSheet h1) ms_X9_isSheet q2139 dX9_sheet_1 rfl rfl (Nat.le_of_ble_eq_true rfl) rfl ?_
  have Jn29 : ∀ (I : II), f_X9_sheet_J29 F I = some (r, I9) → J G p l e rm_X9_sheet s m args below meth c 5 (.returned (some (.int r))) (sh, I9) (rm_X9_sheet).cells (rm_X9_sheet).slots (sh, I) 0 0 29 [some (.ref (wad G 27)), none, none, none, none] [] := by
    intro I hk
    unfold f_X9_sheet_J29 at hk
    refine j_aload_n (pc := 29) C dX9_sheet_29 rfl rfl ?_
    refine j_ldc (pc := 30) (v := (-1000001)) C q2110 dX9_sheet_30 ?_
    obtain ⟨r32, I32, h2, hk⟩ := bd2_some hk
    refine j_callV (pc := 32) C (ct_X9_finding hS h2) mv_X9_finding (stM_o hS) rfl rfl q2111 dX9_sheet_32 rfl rfl (Nat.le_of_ble_eq_true rfl) rfl ?_
    exact j_iretW (pc := 35) C dX9_sheet_35 (Nat.le_of_ble_eq_true rfl) (Nat.le_of_ble_eq_true rfl) hk
  refine j_if_eq (pc := 4) 29 C dX9_sheet_4 (by decide) (fun h3 => ?_) (fun h3 => ?_)
  · have hk := it_t h3 hk
    exact j_mask [true, false, false, false, false] (Jn29 _ hk)
  · have hk := it_f h3 hk
    refine j_iload_n (pc := 7) C dX9_sheet_7 rfl rfl ?_
    have Jn36 : ∀ (x1 : Int32) (x2 : Int32) (x3 : Int32) (I : II), f_X9_sheet_J36 F x1 x2 x3 I = some (r, I9) → J G p l e rm_X9_sheet s m args below meth c 5 (.returned (some (.int r))) (sh, I9) (rm_X9_sheet).cells (rm_X9_sheet).slots (sh, I) 0 0 36 [some (.ref (wad G 27)), some (.int x1), some (.int x2), some (.int x3), none] [] := by
      intro x1 x2 x3 I hk
      unfold f_X9_sheet_J36 at hk
      refine j_iload_n (pc := 36) C dX9_sheet_36 rfl rfl ?_
      have Jn52 : ∀ (x1 : Int32) (x2 : Int32) (x3 : Int32) (I : II), f_X9_sheet_J52 F x1 x2 x3 I = some (r, I9) → J G p l e rm_X9_sheet s m args below meth c 5 (.returned (some (.int r))) (sh, I9) (rm_X9_sheet).cells (rm_X9_sheet).slots (sh, I) 0 0 52 [some (.ref (wad G 27)), some (.int x1), some (.int x2), some (.int x3), none] [] := by
        intro x1 x2 x3 I hk
        unfold f_X9_sheet_J52 at hk
        refine j_iload_n (pc := 52) C dX9_sheet_52 rfl rfl ?_
        have Jn69 : ∀ (x1 : Int32) (x2 : Int32) (x3 : Int32) (I : II), f_X9_sheet_J69 F x1 x2 x3 I = some (r, I9) → J G p l e rm_X9_sheet s m args below meth c 5 (.returned (some (.int r))) (sh, I9) (rm_X9_sheet).cells (rm_X9_sheet).slots (sh, I) 0 0 69 [some (.ref (wad G 27)), some (.int x1), some (.int x2), some (.int x3), none] [] := by
          intro x1 x2 x3 I hk
          unfold f_X9_sheet_J69 at hk
          refine j_aload_n (pc := 69) C dX9_sheet_69 rfl rfl ?_
          refine j_getR (pc := 70) C fd_10_29 q2029 (stM_o hS) (stM_r29 hS) dX9_sheet_70 ?_
          refine j_iload_n (pc := 73) C dX9_sheet_73 rfl rfl ?_
          refine j_iload_n (pc := 74) C dX9_sheet_74 rfl rfl ?_
          obtain ⟨i75, e75, h4, hk⟩ := oix_ex hk
          refine j_iast (pc := 75) C (stM_a44 hS) h4 e75 dX9_sheet_75 ?_
          refine j_aload_n (pc := 76) C dX9_sheet_76 rfl rfl ?_
          refine j_getR (pc := 77) C fd_10_30 q2030 (stM_o hS) (stM_r30 hS) dX9_sheet_77 ?_
          refine j_iload_n (pc := 80) C dX9_sheet_80 rfl rfl ?_
          refine j_iload_n (pc := 81) C dX9_sheet_81 rfl rfl ?_
          have Jn90 : ∀ (x1 : Int32) (s1 : Int32) (s2 : Int32) (I : II), f_X9_sheet_J90 F x1 s1 s2 I = some (r, I9) → J G p l e rm_X9_sheet s m args below meth c 5 (.returned (some (.int r))) (sh, I9) (rm_X9_sheet).cells (rm_X9_sheet).slots (sh, I) 0 0 90 [some (.ref (wad G 27)), some (.int x1), none, none, none] [.int s2, .int s1, .ref (wad G 45)] := by
            intro x1 s1 s2 I hk
            unfold f_X9_sheet_J90 at hk
            obtain ⟨i90, e90, h5, hk⟩ := oix_ex hk
            refine j_iast (pc := 90) C (stM_a45 hS) h5 e90 dX9_sheet_90 ?_
            refine j_iconst (pc := 91) (v := nI 0) C dX9_sheet_91 (by decide) ?_
            refine j_istore (pc := 92) C dX9_sheet_92 (Nat.le_of_ble_eq_true rfl) rfl ?_
            have L94 : ∀ (x1 : Int32) (n94 : Nat) (x4 : Int32) (I : II), f_X9_sheet_L94 F x1 n94 x4 I = some (r, I9) → J G p l e rm_X9_sheet s m args below meth c 5 (.returned (some (.int r))) (sh, I9) (rm_X9_sheet).cells (rm_X9_sheet).slots (sh, I) 0 0 94 [some (.ref (wad G 27)), some (.int x1), none, none, some (.int x4)] [] := by
              intro x1 n94
              induction n94 with
              | zero => intro x4 I hk; rw [f_X9_sheet_L94] at hk; cases hk
              | succ n94 ih94 =>
                intro x4 I hk
                rw [f_X9_sheet_L94] at hk
                generalize f_X9_sheet_L94 F x1 n94 = k94 at ih94 hk
                refine j_iload (pc := 94) C dX9_sheet_94 rfl ?_
                refine j_bipush (pc := 96) (v := nI 40) C dX9_sheet_96 (by decide) ?_
                refine j_icmp_ge (pc := 98) 120 C dX9_sheet_98 (by decide) (fun h6 => ?_) (fun h6 => ?_)
                · have hk := it_t h6 hk
                  refine j_iconst (pc := 120) (v := nI 1) C dX9_sheet_120 (by decide) ?_
                  exact j_iretW (pc := 121) C dX9_sheet_121 (Nat.le_of_ble_eq_true rfl) (Nat.le_of_ble_eq_true rfl) hk
                · have hk := it_f h6 hk
                  refine j_aload_n (pc := 101) C dX9_sheet_101 rfl rfl ?_
                  refine j_getR (pc := 102) C fd_10_31 q2031 (stM_o hS) (stM_r31 hS) dX9_sheet_102 ?_
                  refine j_bipush (pc := 105) (v := nI 40) C dX9_sheet_105 (by decide) ?_
                  refine j_iload_n (pc := 107) C dX9_sheet_107 rfl rfl ?_
                  refine j_imul (pc := 108) C dX9_sheet_108 ?_
                  refine j_iload (pc := 109) C dX9_sheet_109 rfl ?_
                  refine j_iadd (pc := 111) C dX9_sheet_111 ?_
                  refine j_iconst (pc := 112) (v := nI 0) C dX9_sheet_112 (by decide) ?_
                  obtain ⟨i113, e113, h7, hk⟩ := oix_ex hk
                  refine j_iast (pc := 113) C (stM_a46 hS) h7 e113 dX9_sheet_113 ?_
                  refine j_iinc (pc := 114) (nI 1) C dX9_sheet_114 rfl (by decide) (Nat.le_of_ble_eq_true rfl) rfl ?_
                  refine j_goto (pc := 117) 94 C dX9_sheet_117 (by decide) ?_
                  exact j_mask [true, true, false, false, true] (ih94 _ _ hk)
            exact j_mask [true, true, false, false, true] (L94 _ _ _ _ hk)
          refine j_if_ne (pc := 82) 89 C dX9_sheet_82 (by decide) (fun h8 => ?_) (fun h8 => ?_)
          · have hk := it_f h8 hk
            refine j_iload_n (pc := 89) C dX9_sheet_89 rfl rfl ?_
            exact j_mask [true, true, false, false, false] (Jn90 _ _ _ _ hk)
          · have hk := it_t h8 hk
            refine j_iconst (pc := 85) (v := nI 0) C dX9_sheet_85 (by decide) ?_
            refine j_goto (pc := 86) 90 C dX9_sheet_86 (by decide) ?_
            exact j_mask [true, true, false, false, false] (Jn90 _ _ _ _ hk)
        refine j_if_eq (pc := 53) 69 C dX9_sheet_53 (by decide) (fun h9 => ?_) (fun h9 => ?_)
        · have hk := it_t h9 hk
          exact j_mask [true, true, true, true, false] (Jn69 _ _ _ _ hk)
        · have hk := it_f h9 hk
          refine j_iload_n (pc := 56) C dX9_sheet_56 rfl rfl ?_
          refine j_bipush (pc := 57) (v := nI 40) C dX9_sheet_57 (by decide) ?_
          refine j_icmp_le (pc := 59) 69 C dX9_sheet_59 (by decide) (fun h10 => ?_) (fun h10 => ?_)
          · have hk := it_t h10 hk
            exact j_mask [true, true, true, true, false] (Jn69 _ _ _ _ hk)
          · have hk := it_f h10 hk
            refine j_aload_n (pc := 62) C dX9_sheet_62 rfl rfl ?_
            refine j_ldc (pc := 63) (v := (-1000001)) C q2110 dX9_sheet_63 ?_
            obtain ⟨r65, I65, h11, hk⟩ := bd2_some hk
            refine j_callV (pc := 65) C (ct_X9_finding hS h11) mv_X9_finding (stM_o hS) rfl rfl q2111 dX9_sheet_65 rfl rfl (Nat.le_of_ble_eq_true rfl) rfl ?_
            exact j_iretW (pc := 68) C dX9_sheet_68 (Nat.le_of_ble_eq_true rfl) (Nat.le_of_ble_eq_true rfl) hk
      refine j_if_eq (pc := 37) 52 C dX9_sheet_37 (by decide) (fun h12 => ?_) (fun h12 => ?_)
      · have hk := it_t h12 hk
        exact j_mask [true, true, true, true, false] (Jn52 _ _ _ _ hk)
      · have hk := it_f h12 hk
        refine j_iload_n (pc := 40) C dX9_sheet_40 rfl rfl ?_
        refine j_if_ge (pc := 41) 52 C dX9_sheet_41 (by decide) (fun h13 => ?_) (fun h13 => ?_)
        · have hk := it_t h13 hk
          exact j_mask [true, true, true, true, false] (Jn52 _ _ _ _ hk)
        · have hk := it_f h13 hk
          refine j_aload_n (pc := 44) C dX9_sheet_44 rfl rfl ?_
          refine j_ldcw (pc := 45) (v := (-1000003)) C q2380 dX9_sheet_45 ?_
          obtain ⟨r48, I48, h14, hk⟩ := bd2_some hk
          refine j_callV (pc := 48) C (ct_X9_finding hS h14) mv_X9_finding (stM_o hS) rfl rfl q2111 dX9_sheet_48 rfl rfl (Nat.le_of_ble_eq_true rfl) rfl ?_
          exact j_iretW (pc := 51) C dX9_sheet_51 (Nat.le_of_ble_eq_true rfl) (Nat.le_of_ble_eq_true rfl) hk
    refine j_if_eq (pc := 8) 36 C dX9_sheet_8 (by decide) (fun h15 => ?_) (fun h15 => ?_)
    · have hk := it_t h15 hk
      exact j_mask [true, true, true, true, false] (Jn36 _ _ _ _ hk)
    · have hk := it_f h15 hk
      refine j_iload_n (pc := 11) C dX9_sheet_11 rfl rfl ?_
      refine j_bipush (pc := 12) (v := nI 8) C dX9_sheet_12 (by decide) ?_
      refine j_icmp_eq (pc := 14) 36 C dX9_sheet_14 (by decide) (fun h16 => ?_) (fun h16 => ?_)
      · have hk := it_t h16 hk
        exact j_mask [true, true, true, true, false] (Jn36 _ _ _ _ hk)
      · have hk := it_f h16 hk
        refine j_iload_n (pc := 17) C dX9_sheet_17 rfl rfl ?_
        refine j_bipush (pc := 18) (v := nI 16) C dX9_sheet_18 (by decide) ?_
        refine j_icmp_eq (pc := 20) 36 C dX9_sheet_20 (by decide) (fun h17 => ?_) (fun h17 => ?_)
        · have hk := it_t h17 hk
          exact j_mask [true, true, true, true, false] (Jn36 _ _ _ _ hk)
        · have hk := it_f h17 hk
          refine j_iload_n (pc := 23) C dX9_sheet_23 rfl rfl ?_
          refine j_bipush (pc := 24) (v := nI 32) C dX9_sheet_24 (by decide) ?_
          refine j_icmp_eq (pc := 26) 36 C dX9_sheet_26 (by decide) (fun h18 => ?_) (fun h18 => ?_)
          · have hk := it_t h18 hk
            exact j_mask [true, true, true, true, false] (Jn36 _ _ _ _ hk)
          · have hk := it_f h18 hk
            exact j_mask [true, false, false, false, false] (Jn29 _ hk)
def f_X9_put_J96 (s1 : Int32) (s2 : Int32) (I : II) : Option (Int32 × II) := oix s1 160 fun i96 => some ((nI 1), up2 I 46 i96 s2)
def f_X9_put (x1 : Int32) (x2 : Int32) (x3 : Int32) (I : II) : Option (Int32 × II) := (f_X9_isSheet x1).bind fun r1 => if r1 = 0 then bd2 (f_X9_finding (-1000001) I) fun r10 I10 => some (r10, I10) else oix x1 4 fun i19 => if (I 44 i19) = 0 then bd2 (f_X9_finding (-1000002) I) fun r26 I26 => some (r26, I26) else oix x1 4 fun i37 => (f_X9_within x2 (nI 0) ((I 45 i37) - (nI 1))).bind fun r40 => if r40 = 0 then bd2 (f_X9_finding (-1000001) I) fun r49 I49 => some (r49, I49) else oix x1 4 fun i68 => if (I 44 i68) = (nI 8) then f_X9_put_J96 (((nI 40) * x1) + x2) (Int8.toInt32 (Int32.toInt8 x3)) I else oix x1 4 fun i84 => if (I 44 i84) = (nI 16) then f_X9_put_J96 (((nI 40) * x1) + x2) (Int16.toInt32 (Int32.toInt16 x3)) I else f_X9_put_J96 (((nI 40) * x1) + x2) x3 I
abbrev rm_X9_put : Room := { frames := 2, cells := 0, slots := 0, locals := 42 }
theorem mv_X9_put : MV yX9_put cX9_put 4 (some .int) 3 := ⟨q2449, q2450, q106, q2451, by decide +kernel⟩
set_option maxHeartbeats 4000000 in
theorem ct_X9_put {G : WG} {l : Launch} {sh : SH} (hS : StM sh) {I : II} {x1 : Int32} {x2 : Int32} {x3 : Int32} {r : Int32} {I9 : II} (hk : f_X9_put x1 x2 x3 I = some (r, I9)) : CT G l yX9_put (ws_ yX9_put cX9_put 4 (some .int)) rm_X9_put [.ref (wad G 27), .int x1, .int x2, .int x3] (sh, I) (.returned (some (.int r))) (sh, I9) := by
  refine CT.ofJ "NineDemandsModel" rfl (by decide) (Nat.le_of_ble_eq_true rfl) ?_
  intro p e s m args below meth c C
  unfold f_X9_put at hk
  refine j_lv (lv' := [some (.ref (wad G 27)), some (.int x1), some (.int x2), some (.int x3)]) rfl ?_
  refine j_iload_n (pc := 0) C dX9_put_0 rfl rfl ?_
  obtain ⟨r1, h1, hk⟩ := ob_some hk
  refine j_callS (pc := 1) C (ct_X9_isSheet h1) ms_X9_isSheet q2139 dX9_put_1 rfl rfl (Nat.le_of_ble_eq_true rfl) rfl ?_
  refine j_if_ne (pc := 4) 14 C dX9_put_4 (by decide) (fun h2 => ?_) (fun h2 => ?_)
  · have hk := it_f h2 hk
    refine j_aload_n (pc := 14) C dX9_put_14 rfl rfl ?_
    refine j_getR (pc := 15) C fd_10_29 q2029 (stM_o hS) (stM_r29 hS) dX9_put_15 ?_
    refine j_iload_n (pc := 18) C dX9_put_18 rfl rfl ?_
    obtain ⟨i19, e19, h3, hk⟩ := oix_ex hk
    refine j_iald (pc := 19) C (stM_a44 hS) h3 e19 dX9_put_19 ?_
    refine j_if_ne (pc := 20) 30 C dX9_put_20 (by decide) (fun h4 => ?_) (fun h4 => ?_)
    · have hk := it_f h4 hk
      refine j_iload_n (pc := 30) C dX9_put_30 rfl rfl ?_
      refine j_iconst (pc := 31) (v := nI 0) C dX9_put_31 (by decide) ?_
      refine j_aload_n (pc := 32) C dX9_put_32 rfl rfl ?_
      refine j_getR (pc := 33) C fd_10_30 q2030 (stM_o hS) (stM_r30 hS) dX9_put_33 ?_
      refine j_iload_n (pc := 36) C dX9_put_36 rfl rfl ?_
      obtain ⟨i37, e37, h5, hk⟩ := oix_ex hk
      refine j_iald (pc := 37) C (stM_a45 hS) h5 e37 dX9_put_37 ?_
      refine j_iconst (pc := 38) (v := nI 1) C dX9_put_38 (by decide) ?_
      refine j_isub (pc := 39) C dX9_put_39 ?_
      obtain ⟨r40, h6, hk⟩ := ob_some hk
      refine j_callS (pc := 40) C (ct_X9_within h6) ms_X9_within q2107 dX9_put_40 rfl rfl (Nat.le_of_ble_eq_true rfl) rfl ?_
      refine j_if_ne (pc := 43) 53 C dX9_put_43 (by decide) (fun h7 => ?_) (fun h7 => ?_)
      · have hk := it_f h7 hk
        refine j_aload_n (pc := 53) C dX9_put_53 rfl rfl ?_
        refine j_getR (pc := 54) C fd_10_31 q2031 (stM_o hS) (stM_r31 hS) dX9_put_54 ?_
        refine j_bipush (pc := 57) (v := nI 40) C dX9_put_57 (by decide) ?_
        refine j_iload_n (pc := 59) C dX9_put_59 rfl rfl ?_
        refine j_imul (pc := 60) C dX9_put_60 ?_
        refine j_iload_n (pc := 61) C dX9_put_61 rfl rfl ?_
        refine j_iadd (pc := 62) C dX9_put_62 ?_
        refine j_aload_n (pc := 63) C dX9_put_63 rfl rfl ?_
        refine j_getR (pc := 64) C fd_10_29 q2029 (stM_o hS) (stM_r29 hS) dX9_put_64 ?_
        refine j_iload_n (pc := 67) C dX9_put_67 rfl rfl ?_
        obtain ⟨i68, e68, h8, hk⟩ := oix_ex hk
        refine j_iald (pc := 68) C (stM_a44 hS) h8 e68 dX9_put_68 ?_
        refine j_bipush (pc := 69) (v := nI 8) C dX9_put_69 (by decide) ?_
        have Jn96 : ∀ (s1 : Int32) (s2 : Int32) (I : II), f_X9_put_J96 s1 s2 I = some (r, I9) → J G p l e rm_X9_put s m args below meth c 4 (.returned (some (.int r))) (sh, I9) (rm_X9_put).cells (rm_X9_put).slots (sh, I) 0 0 96 [none, none, none, none] [.int s2, .int s1, .ref (wad G 46)] := by
          intro s1 s2 I hk
          unfold f_X9_put_J96 at hk
          obtain ⟨i96, e96, h9, hk⟩ := oix_ex hk
          refine j_iast (pc := 96) C (stM_a46 hS) h9 e96 dX9_put_96 ?_
          refine j_iconst (pc := 97) (v := nI 1) C dX9_put_97 (by decide) ?_
          exact j_iretW (pc := 98) C dX9_put_98 (Nat.le_of_ble_eq_true rfl) (Nat.le_of_ble_eq_true rfl) hk
        refine j_icmp_ne (pc := 71) 79 C dX9_put_71 (by decide) (fun h10 => ?_) (fun h10 => ?_)
        · have hk := it_f h10 hk
          refine j_aload_n (pc := 79) C dX9_put_79 rfl rfl ?_
          refine j_getR (pc := 80) C fd_10_29 q2029 (stM_o hS) (stM_r29 hS) dX9_put_80 ?_
          refine j_iload_n (pc := 83) C dX9_put_83 rfl rfl ?_
          obtain ⟨i84, e84, h11, hk⟩ := oix_ex hk
          refine j_iald (pc := 84) C (stM_a44 hS) h11 e84 dX9_put_84 ?_
          refine j_bipush (pc := 85) (v := nI 16) C dX9_put_85 (by decide) ?_
          refine j_icmp_ne (pc := 87) 95 C dX9_put_87 (by decide) (fun h12 => ?_) (fun h12 => ?_)
          · have hk := it_f h12 hk
            refine j_iload_n (pc := 95) C dX9_put_95 rfl rfl ?_
            exact j_mask [false, false, false, false] (Jn96 _ _ _ hk)
          · have hk := it_t h12 hk
            refine j_iload_n (pc := 90) C dX9_put_90 rfl rfl ?_
            refine j_i2s (pc := 91) C dX9_put_91 ?_
            refine j_goto (pc := 92) 96 C dX9_put_92 (by decide) ?_
            exact j_mask [false, false, false, false] (Jn96 _ _ _ hk)
        · have hk := it_t h10 hk
          refine j_iload_n (pc := 74) C dX9_put_74 rfl rfl ?_
          refine j_i2b (pc := 75) C dX9_put_75 ?_
          refine j_goto (pc := 76) 96 C dX9_put_76 (by decide) ?_
          exact j_mask [false, false, false, false] (Jn96 _ _ _ hk)
      · have hk := it_t h7 hk
        refine j_aload_n (pc := 46) C dX9_put_46 rfl rfl ?_
        refine j_ldc (pc := 47) (v := (-1000001)) C q2110 dX9_put_47 ?_
        obtain ⟨r49, I49, h13, hk⟩ := bd2_some hk
        refine j_callV (pc := 49) C (ct_X9_finding hS h13) mv_X9_finding (stM_o hS) rfl rfl q2111 dX9_put_49 rfl rfl (Nat.le_of_ble_eq_true rfl) rfl ?_
        exact j_iretW (pc := 52) C dX9_put_52 (Nat.le_of_ble_eq_true rfl) (Nat.le_of_ble_eq_true rfl) hk
    · have hk := it_t h4 hk
      refine j_aload_n (pc := 23) C dX9_put_23 rfl rfl ?_
      refine j_ldc (pc := 24) (v := (-1000002)) C q2123 dX9_put_24 ?_
      obtain ⟨r26, I26, h14, hk⟩ := bd2_some hk
      refine j_callV (pc := 26) C (ct_X9_finding hS h14) mv_X9_finding (stM_o hS) rfl rfl q2111 dX9_put_26 rfl rfl (Nat.le_of_ble_eq_true rfl) rfl ?_
      exact j_iretW (pc := 29) C dX9_put_29 (Nat.le_of_ble_eq_true rfl) (Nat.le_of_ble_eq_true rfl) hk
  · have hk := it_t h2 hk
    refine j_aload_n (pc := 7) C dX9_put_7 rfl rfl ?_
    refine j_ldc (pc := 8) (v := (-1000001)) C q2110 dX9_put_8 ?_
    obtain ⟨r10, I10, h15, hk⟩ := bd2_some hk
    refine j_callV (pc := 10) C (ct_X9_finding hS h15) mv_X9_finding (stM_o hS) rfl rfl q2111 dX9_put_10 rfl rfl (Nat.le_of_ble_eq_true rfl) rfl ?_
    exact j_iretW (pc := 13) C dX9_put_13 (Nat.le_of_ble_eq_true rfl) (Nat.le_of_ble_eq_true rfl) hk
def f_X9_move_J14 (F : Nat) (I : II) : Option (Int32 × II) := bd2 (f_X9_finding (-1000001) I) fun r17 I17 => some (r17, I17)
def f_X9_move_J39 (F : Nat) (I : II) : Option (Int32 × II) := bd2 (f_X9_finding (-1000002) I) fun r42 I42 => some (r42, I42)
def f_X9_move_J117 (F : Nat) (I : II) : Option (Int32 × II) := bd2 (f_X9_finding (-1000001) I) fun r120 I120 => some (r120, I120)
def f_X9_move_L164 (F : Nat) (x3 : Int32) (x4 : Int32) (x5 : Int32) : Nat → Int32 → II → Option (Int32 × II)
  | 0, _, _ => none
  | n164 + 1, x6, I => if x5 ≤ x6 then some (x5, I) else oix x6 40 fun i191 => oix ((((nI 40) * x3) + x4) + x6) 160 fun i192 => (f_X9_move_L164 F x3 x4 x5 n164) (x6 + (nI 1)) (up2 I 46 i192 (I 47 i191))
def f_X9_move_L127 (F : Nat) (x1 : Int32) (x2 : Int32) (x3 : Int32) (x4 : Int32) (x5 : Int32) : Nat → Int32 → II → Option (Int32 × II)
  | 0, _, _ => none
  | n127 + 1, x6, I => if x5 ≤ x6 then f_X9_move_L164 F x3 x4 x5 F (nI 0) I else oix ((((nI 40) * x1) + x2) + x6) 160 fun i153 => oix x6 40 fun i154 => (f_X9_move_L127 F x1 x2 x3 x4 x5 n127) (x6 + (nI 1)) (up2 I 47 i154 (I 46 i153))
def f_X9_move (F : Nat) (x1 : Int32) (x2 : Int32) (x3 : Int32) (x4 : Int32) (x5 : Int32) (I : II) : Option (Int32 × II) := (f_X9_isSheet x1).bind fun r1 => if r1 = 0 then f_X9_move_J14 F I else (f_X9_isSheet x3).bind fun r8 => if r8 = 0 then f_X9_move_J14 F I else oix x1 4 fun i26 => if (I 44 i26) = 0 then f_X9_move_J39 F I else oix x3 4 fun i35 => if (I 44 i35) = 0 then f_X9_move_J39 F I else oix x1 4 fun i51 => oix x3 4 fun i57 => if (I 44 i51) = (I 44 i57) then if x5 < 0 then f_X9_move_J117 F I else if x2 < 0 then f_X9_move_J117 F I else if x4 < 0 then f_X9_move_J117 F I else oix x1 4 fun i93 => if 0 < (lg_cmp ((Int32.toInt64 x2) + (Int32.toInt64 x5)) (Int32.toInt64 (I 45 i93))) then f_X9_move_J117 F I else oix x3 4 fun i111 => if (lg_cmp ((Int32.toInt64 x4) + (Int32.toInt64 x5)) (Int32.toInt64 (I 45 i111))) ≤ 0 then f_X9_move_L127 F x1 x2 x3 x4 x5 F (nI 0) I else f_X9_move_J117 F I else bd2 (f_X9_finding (-1000005) I) fun r64 I64 => some (r64, I64)
abbrev rm_X9_move : Room := { frames := 2, cells := 0, slots := 0, locals := 42 }
theorem mv_X9_move : MV yX9_move cX9_move 7 (some .int) 5 := ⟨q2453, q2454, q106, q2455, by decide +kernel⟩
set_option maxHeartbeats 4000000 in
theorem ct_X9_move {G : WG} {l : Launch} {sh : SH} (hS : StM sh) {I : II} {F : Nat} {x1 : Int32} {x2 : Int32} {x3 : Int32} {x4 : Int32} {x5 : Int32} {r : Int32} {I9 : II} (hk : f_X9_move F x1 x2 x3 x4 x5 I = some (r, I9)) : CT G l yX9_move (ws_ yX9_move cX9_move 7 (some .int)) rm_X9_move [.ref (wad G 27), .int x1, .int x2, .int x3, .int x4, .int x5] (sh, I) (.returned (some (.int r))) (sh, I9) := by
  refine CT.ofJ "NineDemandsModel" rfl (by decide) (Nat.le_of_ble_eq_true rfl) ?_
  intro p e s m args below meth c C
  unfold f_X9_move at hk
  refine j_lv (lv' := [some (.ref (wad G 27)), some (.int x1), some (.int x2), some (.int x3), some (.int x4), some (.int x5), none]) rfl ?_
  refine j_iload_n (pc := 0) C dX9_move_0 rfl rfl ?_
  obtain ⟨r1, h1, hk⟩ := ob_some hk
  refine j_callS (pc := 1) C (ct_X9_isSheet h1) ms_X9_isSheet q2139 dX9_move_1 rfl rfl (Nat.le_of_ble_eq_true rfl) rfl ?_
  have Jn14 : ∀ (I : II), f_X9_move_J14 F I = some (r, I9) → J G p l e rm_X9_move s m args below meth c 7 (.returned (some (.int r))) (sh, I9) (rm_X9_move).cells (rm_X9_move).slots (sh, I) 0 0 14 [some (.ref (wad G 27)), none, none, none, none, none, none] [] := by
    intro I hk
    unfold f_X9_move_J14 at hk
    refine j_aload_n (pc := 14) C dX9_move_14 rfl rfl ?_
    refine j_ldc (pc := 15) (v := (-1000001)) C q2110 dX9_move_15 ?_
    obtain ⟨r17, I17, h2, hk⟩ := bd2_some hk
    refine j_callV (pc := 17) C (ct_X9_finding hS h2) mv_X9_finding (stM_o hS) rfl rfl q2111 dX9_move_17 rfl rfl (Nat.le_of_ble_eq_true rfl) rfl ?_
    exact j_iretW (pc := 20) C dX9_move_20 (Nat.le_of_ble_eq_true rfl) (Nat.le_of_ble_eq_true rfl) hk
  refine j_if_eq (pc := 4) 14 C dX9_move_4 (by decide) (fun h3 => ?_) (fun h3 => ?_)
  · have hk := it_t h3 hk
    exact j_mask [true, false, false, false, false, false, false] (Jn14 _ hk)
  · have hk := it_f h3 hk
    refine j_iload_n (pc := 7) C dX9_move_7 rfl rfl ?_
    obtain ⟨r8, h4, hk⟩ := ob_some hk
    refine j_callS (pc := 8) C (ct_X9_isSheet h4) ms_X9_isSheet q2139 dX9_move_8 rfl rfl (Nat.le_of_ble_eq_true rfl) rfl ?_
    refine j_if_ne (pc := 11) 21 C dX9_move_11 (by decide) (fun h5 => ?_) (fun h5 => ?_)
    · have hk := it_f h5 hk
      refine j_aload_n (pc := 21) C dX9_move_21 rfl rfl ?_
      refine j_getR (pc := 22) C fd_10_29 q2029 (stM_o hS) (stM_r29 hS) dX9_move_22 ?_
      refine j_iload_n (pc := 25) C dX9_move_25 rfl rfl ?_
      obtain ⟨i26, e26, h6, hk⟩ := oix_ex hk
      refine j_iald (pc := 26) C (stM_a44 hS) h6 e26 dX9_move_26 ?_
      have Jn39 : ∀ (I : II), f_X9_move_J39 F I = some (r, I9) → J G p l e rm_X9_move s m args below meth c 7 (.returned (some (.int r))) (sh, I9) (rm_X9_move).cells (rm_X9_move).slots (sh, I) 0 0 39 [some (.ref (wad G 27)), none, none, none, none, none, none] [] := by
        intro I hk
        unfold f_X9_move_J39 at hk
        refine j_aload_n (pc := 39) C dX9_move_39 rfl rfl ?_
        refine j_ldc (pc := 40) (v := (-1000002)) C q2123 dX9_move_40 ?_
        obtain ⟨r42, I42, h7, hk⟩ := bd2_some hk
        refine j_callV (pc := 42) C (ct_X9_finding hS h7) mv_X9_finding (stM_o hS) rfl rfl q2111 dX9_move_42 rfl rfl (Nat.le_of_ble_eq_true rfl) rfl ?_
        exact j_iretW (pc := 45) C dX9_move_45 (Nat.le_of_ble_eq_true rfl) (Nat.le_of_ble_eq_true rfl) hk
      refine j_if_eq (pc := 27) 39 C dX9_move_27 (by decide) (fun h8 => ?_) (fun h8 => ?_)
      · have hk := it_t h8 hk
        exact j_mask [true, false, false, false, false, false, false] (Jn39 _ hk)
      · have hk := it_f h8 hk
        refine j_aload_n (pc := 30) C dX9_move_30 rfl rfl ?_
        refine j_getR (pc := 31) C fd_10_29 q2029 (stM_o hS) (stM_r29 hS) dX9_move_31 ?_
        refine j_iload_n (pc := 34) C dX9_move_34 rfl rfl ?_
        obtain ⟨i35, e35, h9, hk⟩ := oix_ex hk
        refine j_iald (pc := 35) C (stM_a44 hS) h9 e35 dX9_move_35 ?_
        refine j_if_ne (pc := 36) 46 C dX9_move_36 (by decide) (fun h10 => ?_) (fun h10 => ?_)
        · have hk := it_f h10 hk
          refine j_aload_n (pc := 46) C dX9_move_46 rfl rfl ?_
          refine j_getR (pc := 47) C fd_10_29 q2029 (stM_o hS) (stM_r29 hS) dX9_move_47 ?_
          refine j_iload_n (pc := 50) C dX9_move_50 rfl rfl ?_
          obtain ⟨i51, e51, h11, hk⟩ := oix_ex hk
          refine j_iald (pc := 51) C (stM_a44 hS) h11 e51 dX9_move_51 ?_
          refine j_aload_n (pc := 52) C dX9_move_52 rfl rfl ?_
          refine j_getR (pc := 53) C fd_10_29 q2029 (stM_o hS) (stM_r29 hS) dX9_move_53 ?_
          refine j_iload_n (pc := 56) C dX9_move_56 rfl rfl ?_
          obtain ⟨i57, e57, h12, hk⟩ := oix_ex hk
          refine j_iald (pc := 57) C (stM_a44 hS) h12 e57 dX9_move_57 ?_
          refine j_icmp_eq (pc := 58) 68 C dX9_move_58 (by decide) (fun h13 => ?_) (fun h13 => ?_)
          · have hk := it_t h13 hk
            refine j_iload (pc := 68) C dX9_move_68 rfl ?_
            have Jn117 : ∀ (I : II), f_X9_move_J117 F I = some (r, I9) → J G p l e rm_X9_move s m args below meth c 7 (.returned (some (.int r))) (sh, I9) (rm_X9_move).cells (rm_X9_move).slots (sh, I) 0 0 117 [some (.ref (wad G 27)), none, none, none, none, none, none] [] := by
              intro I hk
              unfold f_X9_move_J117 at hk
              refine j_aload_n (pc := 117) C dX9_move_117 rfl rfl ?_
              refine j_ldc (pc := 118) (v := (-1000001)) C q2110 dX9_move_118 ?_
              obtain ⟨r120, I120, h14, hk⟩ := bd2_some hk
              refine j_callV (pc := 120) C (ct_X9_finding hS h14) mv_X9_finding (stM_o hS) rfl rfl q2111 dX9_move_120 rfl rfl (Nat.le_of_ble_eq_true rfl) rfl ?_
              exact j_iretW (pc := 123) C dX9_move_123 (Nat.le_of_ble_eq_true rfl) (Nat.le_of_ble_eq_true rfl) hk
            refine j_if_lt (pc := 70) 117 C dX9_move_70 (by decide) (fun h15 => ?_) (fun h15 => ?_)
            · have hk := it_t h15 hk
              exact j_mask [true, false, false, false, false, false, false] (Jn117 _ hk)
            · have hk := it_f h15 hk
              refine j_iload_n (pc := 73) C dX9_move_73 rfl rfl ?_
              refine j_if_lt (pc := 74) 117 C dX9_move_74 (by decide) (fun h16 => ?_) (fun h16 => ?_)
              · have hk := it_t h16 hk
                exact j_mask [true, false, false, false, false, false, false] (Jn117 _ hk)
              · have hk := it_f h16 hk
                refine j_iload (pc := 77) C dX9_move_77 rfl ?_
                refine j_if_lt (pc := 79) 117 C dX9_move_79 (by decide) (fun h17 => ?_) (fun h17 => ?_)
                · have hk := it_t h17 hk
                  exact j_mask [true, false, false, false, false, false, false] (Jn117 _ hk)
                · have hk := it_f h17 hk
                  refine j_iload_n (pc := 82) C dX9_move_82 rfl rfl ?_
                  refine j_i2l (pc := 83) C dX9_move_83 ?_
                  refine j_iload (pc := 84) C dX9_move_84 rfl ?_
                  refine j_i2l (pc := 86) C dX9_move_86 ?_
                  refine j_ladd (pc := 87) C dX9_move_87 ?_
                  refine j_aload_n (pc := 88) C dX9_move_88 rfl rfl ?_
                  refine j_getR (pc := 89) C fd_10_30 q2030 (stM_o hS) (stM_r30 hS) dX9_move_89 ?_
                  refine j_iload_n (pc := 92) C dX9_move_92 rfl rfl ?_
                  obtain ⟨i93, e93, h18, hk⟩ := oix_ex hk
                  refine j_iald (pc := 93) C (stM_a45 hS) h18 e93 dX9_move_93 ?_
                  refine j_i2l (pc := 94) C dX9_move_94 ?_
                  refine j_lcmp (pc := 95) C dX9_move_95 ?_
                  refine j_if_gt (pc := 96) 117 C dX9_move_96 (by decide) (fun h19 => ?_) (fun h19 => ?_)
                  · have hk := it_t h19 hk
                    exact j_mask [true, false, false, false, false, false, false] (Jn117 _ hk)
                  · have hk := it_f h19 hk
                    refine j_iload (pc := 99) C dX9_move_99 rfl ?_
                    refine j_i2l (pc := 101) C dX9_move_101 ?_
                    refine j_iload (pc := 102) C dX9_move_102 rfl ?_
                    refine j_i2l (pc := 104) C dX9_move_104 ?_
                    refine j_ladd (pc := 105) C dX9_move_105 ?_
                    refine j_aload_n (pc := 106) C dX9_move_106 rfl rfl ?_
                    refine j_getR (pc := 107) C fd_10_30 q2030 (stM_o hS) (stM_r30 hS) dX9_move_107 ?_
                    refine j_iload_n (pc := 110) C dX9_move_110 rfl rfl ?_
                    obtain ⟨i111, e111, h20, hk⟩ := oix_ex hk
                    refine j_iald (pc := 111) C (stM_a45 hS) h20 e111 dX9_move_111 ?_
                    refine j_i2l (pc := 112) C dX9_move_112 ?_
                    refine j_lcmp (pc := 113) C dX9_move_113 ?_
                    refine j_if_le (pc := 114) 124 C dX9_move_114 (by decide) (fun h21 => ?_) (fun h21 => ?_)
                    · have hk := it_t h21 hk
                      refine j_iconst (pc := 124) (v := nI 0) C dX9_move_124 (by decide) ?_
                      refine j_istore (pc := 125) C dX9_move_125 (Nat.le_of_ble_eq_true rfl) rfl ?_
                      have L127 : ∀ (x1 : Int32) (x2 : Int32) (x3 : Int32) (x4 : Int32) (x5 : Int32) (n127 : Nat) (x6 : Int32) (I : II), f_X9_move_L127 F x1 x2 x3 x4 x5 n127 x6 I = some (r, I9) → J G p l e rm_X9_move s m args below meth c 7 (.returned (some (.int r))) (sh, I9) (rm_X9_move).cells (rm_X9_move).slots (sh, I) 0 0 127 [some (.ref (wad G 27)), some (.int x1), some (.int x2), some (.int x3), some (.int x4), some (.int x5), some (.int x6)] [] := by
                        intro x1 x2 x3 x4 x5 n127
                        induction n127 with
                        | zero => intro x6 I hk; rw [f_X9_move_L127] at hk; cases hk
                        | succ n127 ih127 =>
                          intro x6 I hk
                          rw [f_X9_move_L127] at hk
                          generalize f_X9_move_L127 F x1 x2 x3 x4 x5 n127 = k127 at ih127 hk
                          refine j_iload (pc := 127) C dX9_move_127 rfl ?_
                          refine j_iload (pc := 129) C dX9_move_129 rfl ?_
                          refine j_icmp_ge (pc := 131) 161 C dX9_move_131 (by decide) (fun h22 => ?_) (fun h22 => ?_)
                          · have hk := it_t h22 hk
                            refine j_iconst (pc := 161) (v := nI 0) C dX9_move_161 (by decide) ?_
                            refine j_istore (pc := 162) C dX9_move_162 (Nat.le_of_ble_eq_true rfl) rfl ?_
                            have L164 : ∀ (x3 : Int32) (x4 : Int32) (x5 : Int32) (n164 : Nat) (x6 : Int32) (I : II), f_X9_move_L164 F x3 x4 x5 n164 x6 I = some (r, I9) → J G p l e rm_X9_move s m args below meth c 7 (.returned (some (.int r))) (sh, I9) (rm_X9_move).cells (rm_X9_move).slots (sh, I) 0 0 164 [some (.ref (wad G 27)), none, none, some (.int x3), some (.int x4), some (.int x5), some (.int x6)] [] := by
                              intro x3 x4 x5 n164
                              induction n164 with
                              | zero => intro x6 I hk; rw [f_X9_move_L164] at hk; cases hk
                              | succ n164 ih164 =>
                                intro x6 I hk
                                rw [f_X9_move_L164] at hk
                                generalize f_X9_move_L164 F x3 x4 x5 n164 = k164 at ih164 hk
                                refine j_iload (pc := 164) C dX9_move_164 rfl ?_
                                refine j_iload (pc := 166) C dX9_move_166 rfl ?_
                                refine j_icmp_ge (pc := 168) 199 C dX9_move_168 (by decide) (fun h23 => ?_) (fun h23 => ?_)
                                · have hk := it_t h23 hk
                                  refine j_iload (pc := 199) C dX9_move_199 rfl ?_
                                  exact j_iretW (pc := 201) C dX9_move_201 (Nat.le_of_ble_eq_true rfl) (Nat.le_of_ble_eq_true rfl) hk
                                · have hk := it_f h23 hk
                                  refine j_aload_n (pc := 171) C dX9_move_171 rfl rfl ?_
                                  refine j_getR (pc := 172) C fd_10_31 q2031 (stM_o hS) (stM_r31 hS) dX9_move_172 ?_
                                  refine j_bipush (pc := 175) (v := nI 40) C dX9_move_175 (by decide) ?_
                                  refine j_iload_n (pc := 177) C dX9_move_177 rfl rfl ?_
                                  refine j_imul (pc := 178) C dX9_move_178 ?_
                                  refine j_iload (pc := 179) C dX9_move_179 rfl ?_
                                  refine j_iadd (pc := 181) C dX9_move_181 ?_
                                  refine j_iload (pc := 182) C dX9_move_182 rfl ?_
                                  refine j_iadd (pc := 184) C dX9_move_184 ?_
                                  refine j_aload_n (pc := 185) C dX9_move_185 rfl rfl ?_
                                  refine j_getR (pc := 186) C fd_10_32 q2032 (stM_o hS) (stM_r32 hS) dX9_move_186 ?_
                                  refine j_iload (pc := 189) C dX9_move_189 rfl ?_
                                  obtain ⟨i191, e191, h24, hk⟩ := oix_ex hk
                                  refine j_iald (pc := 191) C (stM_a47 hS) h24 e191 dX9_move_191 ?_
                                  obtain ⟨i192, e192, h25, hk⟩ := oix_ex hk
                                  refine j_iast (pc := 192) C (stM_a46 hS) h25 e192 dX9_move_192 ?_
                                  refine j_iinc (pc := 193) (nI 1) C dX9_move_193 rfl (by decide) (Nat.le_of_ble_eq_true rfl) rfl ?_
                                  refine j_goto (pc := 196) 164 C dX9_move_196 (by decide) ?_
                                  exact j_mask [true, false, false, true, true, true, true] (ih164 _ _ hk)
                            exact j_mask [true, false, false, true, true, true, true] (L164 _ _ _ _ _ _ hk)
                          · have hk := it_f h22 hk
                            refine j_aload_n (pc := 134) C dX9_move_134 rfl rfl ?_
                            refine j_getR (pc := 135) C fd_10_32 q2032 (stM_o hS) (stM_r32 hS) dX9_move_135 ?_
                            refine j_iload (pc := 138) C dX9_move_138 rfl ?_
                            refine j_aload_n (pc := 140) C dX9_move_140 rfl rfl ?_
                            refine j_getR (pc := 141) C fd_10_31 q2031 (stM_o hS) (stM_r31 hS) dX9_move_141 ?_
                            refine j_bipush (pc := 144) (v := nI 40) C dX9_move_144 (by decide) ?_
                            refine j_iload_n (pc := 146) C dX9_move_146 rfl rfl ?_
                            refine j_imul (pc := 147) C dX9_move_147 ?_
                            refine j_iload_n (pc := 148) C dX9_move_148 rfl rfl ?_
                            refine j_iadd (pc := 149) C dX9_move_149 ?_
                            refine j_iload (pc := 150) C dX9_move_150 rfl ?_
                            refine j_iadd (pc := 152) C dX9_move_152 ?_
                            obtain ⟨i153, e153, h26, hk⟩ := oix_ex hk
                            refine j_iald (pc := 153) C (stM_a46 hS) h26 e153 dX9_move_153 ?_
                            obtain ⟨i154, e154, h27, hk⟩ := oix_ex hk
                            refine j_iast (pc := 154) C (stM_a47 hS) h27 e154 dX9_move_154 ?_
                            refine j_iinc (pc := 155) (nI 1) C dX9_move_155 rfl (by decide) (Nat.le_of_ble_eq_true rfl) rfl ?_
                            refine j_goto (pc := 158) 127 C dX9_move_158 (by decide) ?_
                            exact j_mask [true, true, true, true, true, true, true] (ih127 _ _ hk)
                      exact j_mask [true, true, true, true, true, true, true] (L127 _ _ _ _ _ _ _ _ hk)
                    · have hk := it_f h21 hk
                      exact j_mask [true, false, false, false, false, false, false] (Jn117 _ hk)
          · have hk := it_f h13 hk
            refine j_aload_n (pc := 61) C dX9_move_61 rfl rfl ?_
            refine j_ldc (pc := 62) (v := (-1000005)) C q2143 dX9_move_62 ?_
            obtain ⟨r64, I64, h28, hk⟩ := bd2_some hk
            refine j_callV (pc := 64) C (ct_X9_finding hS h28) mv_X9_finding (stM_o hS) rfl rfl q2111 dX9_move_64 rfl rfl (Nat.le_of_ble_eq_true rfl) rfl ?_
            exact j_iretW (pc := 67) C dX9_move_67 (Nat.le_of_ble_eq_true rfl) (Nat.le_of_ble_eq_true rfl) hk
        · have hk := it_t h10 hk
          exact j_mask [true, false, false, false, false, false, false] (Jn39 _ hk)
    · have hk := it_t h5 hk
      exact j_mask [true, false, false, false, false, false, false] (Jn14 _ hk)
def f_X9_image_L2 (F : Nat) : Nat → Int32 → II → Option (Int32 × II)
  | 0, _, _ => none
  | n2 + 1, x1, I => if (nI 366) ≤ x1 then some (((up2 I 27 2 ((I 27 2) + (nI 1))) 27 2), up2 I 27 2 ((I 27 2) + (nI 1))) else oix x1 366 fun i19 => oix x1 366 fun i20 => (f_X9_image_L2 F n2) (x1 + (nI 1)) (up2 I 29 i20 (I 28 i19))
def f_X9_image (F : Nat) (I : II) : Option (Int32 × II) := f_X9_image_L2 F F (nI 0) I
abbrev rm_X9_image : Room := { frames := 0, cells := 0, slots := 0, locals := 0 }
theorem mv_X9_image : MV yX9_image cX9_image 2 (some .int) 0 := ⟨q2457, q2458, q106, q2459, by decide +kernel⟩
set_option maxHeartbeats 4000000 in
theorem ct_X9_image {G : WG} {l : Launch} {sh : SH} (hS : StM sh) {I : II} {F : Nat}  {r : Int32} {I9 : II} (hk : f_X9_image F I = some (r, I9)) : CT G l yX9_image (ws_ yX9_image cX9_image 2 (some .int)) rm_X9_image [.ref (wad G 27)] (sh, I) (.returned (some (.int r))) (sh, I9) := by
  refine CT.ofJ "NineDemandsModel" rfl (by decide) (Nat.le_of_ble_eq_true rfl) ?_
  intro p e s m args below meth c C
  unfold f_X9_image at hk
  refine j_lv (lv' := [some (.ref (wad G 27)), none]) rfl ?_
  refine j_iconst (pc := 0) (v := nI 0) C dX9_image_0 (by decide) ?_
  refine j_istore_n (pc := 1) C dX9_image_1 rfl (Nat.le_of_ble_eq_true rfl) rfl ?_
  have L2 : ∀  (n2 : Nat) (x1 : Int32) (I : II), f_X9_image_L2 F n2 x1 I = some (r, I9) → J G p l e rm_X9_image s m args below meth c 2 (.returned (some (.int r))) (sh, I9) (rm_X9_image).cells (rm_X9_image).slots (sh, I) 0 0 2 [some (.ref (wad G 27)), some (.int x1)] [] := by
    intro  n2
    induction n2 with
    | zero => intro x1 I hk; rw [f_X9_image_L2] at hk; cases hk
    | succ n2 ih2 =>
      intro x1 I hk
      rw [f_X9_image_L2] at hk
      generalize f_X9_image_L2 F n2 = k2 at ih2 hk
      refine j_iload_n (pc := 2) C dX9_image_2 rfl rfl ?_
      refine j_sipush (pc := 3) (v := nI 366) C dX9_image_3 (by decide) ?_
      refine j_icmp_ge (pc := 6) 27 C dX9_image_6 (by decide) (fun h1 => ?_) (fun h1 => ?_)
      · have hk := it_t h1 hk
        refine j_aload_n (pc := 27) C dX9_image_27 rfl rfl ?_
        refine j_dup (pc := 28) C dX9_image_28 rfl ?_
        refine j_getI (pc := 29) C fd_10_2 q2002 (stM_o hS) dX9_image_29 ?_
        refine j_iconst (pc := 32) (v := nI 1) C dX9_image_32 (by decide) ?_
        refine j_iadd (pc := 33) C dX9_image_33 ?_
        refine j_putI (pc := 34) C fd_10_2 (C.2.2.2.2.1 _ q2002) (stM_o hS) rfl rfl dX9_image_34 ?_
        refine j_aload_n (pc := 37) C dX9_image_37 rfl rfl ?_
        refine j_getI (pc := 38) C fd_10_2 q2002 (stM_o hS) dX9_image_38 ?_
        exact j_iretW (pc := 41) C dX9_image_41 (Nat.le_of_ble_eq_true rfl) (Nat.le_of_ble_eq_true rfl) hk
      · have hk := it_f h1 hk
        refine j_aload_n (pc := 9) C dX9_image_9 rfl rfl ?_
        refine j_getR (pc := 10) C fd_10_1 q2001 (stM_o hS) (stM_r1 hS) dX9_image_10 ?_
        refine j_iload_n (pc := 13) C dX9_image_13 rfl rfl ?_
        refine j_aload_n (pc := 14) C dX9_image_14 rfl rfl ?_
        refine j_getR (pc := 15) C fd_10_0 q2000 (stM_o hS) (stM_r0 hS) dX9_image_15 ?_
        refine j_iload_n (pc := 18) C dX9_image_18 rfl rfl ?_
        obtain ⟨i19, e19, h2, hk⟩ := oix_ex hk
        refine j_iald (pc := 19) C (stM_a28 hS) h2 e19 dX9_image_19 ?_
        obtain ⟨i20, e20, h3, hk⟩ := oix_ex hk
        refine j_iast (pc := 20) C (stM_a29 hS) h3 e20 dX9_image_20 ?_
        refine j_iinc (pc := 21) (nI 1) C dX9_image_21 rfl (by decide) (Nat.le_of_ble_eq_true rfl) rfl ?_
        refine j_goto (pc := 24) 2 C dX9_image_24 (by decide) ?_
        exact j_mask [true, true] (ih2 _ _ hk)
  exact j_mask [true, true] (L2  _ _ _ hk)
def f_X9_restore_L16 (F : Nat) : Nat → Int32 → II → Option (Int32 × II)
  | 0, _, _ => none
  | n16 + 1, x1, I => if (nI 366) ≤ x1 then oix (nI 0) 366 fun i46 => some ((I 28 i46), I) else oix x1 366 fun i33 => oix x1 366 fun i34 => (f_X9_restore_L16 F n16) (x1 + (nI 1)) (up2 I 28 i34 (I 29 i33))
def f_X9_restore (F : Nat) (I : II) : Option (Int32 × II) := if (I 27 2) = 0 then bd2 (f_X9_finding (-1000002) I) fun r10 I10 => some (r10, I10) else f_X9_restore_L16 F F (nI 0) I
abbrev rm_X9_restore : Room := { frames := 1, cells := 0, slots := 0, locals := 21 }
theorem mv_X9_restore : MV yX9_restore cX9_restore 2 (some .int) 0 := ⟨q2461, q2462, q106, q2463, by decide +kernel⟩
set_option maxHeartbeats 4000000 in
theorem ct_X9_restore {G : WG} {l : Launch} {sh : SH} (hS : StM sh) {I : II} {F : Nat}  {r : Int32} {I9 : II} (hk : f_X9_restore F I = some (r, I9)) : CT G l yX9_restore (ws_ yX9_restore cX9_restore 2 (some .int)) rm_X9_restore [.ref (wad G 27)] (sh, I) (.returned (some (.int r))) (sh, I9) := by
  refine CT.ofJ "NineDemandsModel" rfl (by decide) (Nat.le_of_ble_eq_true rfl) ?_
  intro p e s m args below meth c C
  unfold f_X9_restore at hk
  refine j_lv (lv' := [some (.ref (wad G 27)), none]) rfl ?_
  refine j_aload_n (pc := 0) C dX9_restore_0 rfl rfl ?_
  refine j_getI (pc := 1) C fd_10_2 q2002 (stM_o hS) dX9_restore_1 ?_
  refine j_if_ne (pc := 4) 14 C dX9_restore_4 (by decide) (fun h1 => ?_) (fun h1 => ?_)
  · have hk := it_f h1 hk
    refine j_iconst (pc := 14) (v := nI 0) C dX9_restore_14 (by decide) ?_
    refine j_istore_n (pc := 15) C dX9_restore_15 rfl (Nat.le_of_ble_eq_true rfl) rfl ?_
    have L16 : ∀  (n16 : Nat) (x1 : Int32) (I : II), f_X9_restore_L16 F n16 x1 I = some (r, I9) → J G p l e rm_X9_restore s m args below meth c 2 (.returned (some (.int r))) (sh, I9) (rm_X9_restore).cells (rm_X9_restore).slots (sh, I) 0 0 16 [some (.ref (wad G 27)), some (.int x1)] [] := by
      intro  n16
      induction n16 with
      | zero => intro x1 I hk; rw [f_X9_restore_L16] at hk; cases hk
      | succ n16 ih16 =>
        intro x1 I hk
        rw [f_X9_restore_L16] at hk
        generalize f_X9_restore_L16 F n16 = k16 at ih16 hk
        refine j_iload_n (pc := 16) C dX9_restore_16 rfl rfl ?_
        refine j_sipush (pc := 17) (v := nI 366) C dX9_restore_17 (by decide) ?_
        refine j_icmp_ge (pc := 20) 41 C dX9_restore_20 (by decide) (fun h2 => ?_) (fun h2 => ?_)
        · have hk := it_t h2 hk
          refine j_aload_n (pc := 41) C dX9_restore_41 rfl rfl ?_
          refine j_getR (pc := 42) C fd_10_0 q2000 (stM_o hS) (stM_r0 hS) dX9_restore_42 ?_
          refine j_iconst (pc := 45) (v := nI 0) C dX9_restore_45 (by decide) ?_
          obtain ⟨i46, e46, h3, hk⟩ := oix_ex hk
          refine j_iald (pc := 46) C (stM_a28 hS) h3 e46 dX9_restore_46 ?_
          exact j_iretW (pc := 47) C dX9_restore_47 (Nat.le_of_ble_eq_true rfl) (Nat.le_of_ble_eq_true rfl) hk
        · have hk := it_f h2 hk
          refine j_aload_n (pc := 23) C dX9_restore_23 rfl rfl ?_
          refine j_getR (pc := 24) C fd_10_0 q2000 (stM_o hS) (stM_r0 hS) dX9_restore_24 ?_
          refine j_iload_n (pc := 27) C dX9_restore_27 rfl rfl ?_
          refine j_aload_n (pc := 28) C dX9_restore_28 rfl rfl ?_
          refine j_getR (pc := 29) C fd_10_1 q2001 (stM_o hS) (stM_r1 hS) dX9_restore_29 ?_
          refine j_iload_n (pc := 32) C dX9_restore_32 rfl rfl ?_
          obtain ⟨i33, e33, h4, hk⟩ := oix_ex hk
          refine j_iald (pc := 33) C (stM_a29 hS) h4 e33 dX9_restore_33 ?_
          obtain ⟨i34, e34, h5, hk⟩ := oix_ex hk
          refine j_iast (pc := 34) C (stM_a28 hS) h5 e34 dX9_restore_34 ?_
          refine j_iinc (pc := 35) (nI 1) C dX9_restore_35 rfl (by decide) (Nat.le_of_ble_eq_true rfl) rfl ?_
          refine j_goto (pc := 38) 16 C dX9_restore_38 (by decide) ?_
          exact j_mask [true, true] (ih16 _ _ hk)
    exact j_mask [true, true] (L16  _ _ _ hk)
  · have hk := it_t h1 hk
    refine j_aload_n (pc := 7) C dX9_restore_7 rfl rfl ?_
    refine j_ldc (pc := 8) (v := (-1000002)) C q2123 dX9_restore_8 ?_
    obtain ⟨r10, I10, h6, hk⟩ := bd2_some hk
    refine j_callV (pc := 10) C (ct_X9_finding hS h6) mv_X9_finding (stM_o hS) rfl rfl q2111 dX9_restore_10 rfl rfl (Nat.le_of_ble_eq_true rfl) rfl ?_
    exact j_iretW (pc := 13) C dX9_restore_13 (Nat.le_of_ble_eq_true rfl) (Nat.le_of_ble_eq_true rfl) hk
def f_X9_tell (x1 : Int32) (I : II) : Option (Int32 × II) := oix (nI 2) 366 fun i5 => if (I 28 i5) = (nI 20) then bd2 (f_X9_finding (-1000004) I) fun r14 I14 => some (r14, I14) else oix (nI 2) 366 fun i29 => oix ((nI 90) + (I 28 i29)) 366 fun i32 => oix (nI 2) 366 fun i39 => oix (nI 2) 366 fun i42 => oix (nI 2) 366 fun i48 => some (((up2 (up2 I 28 i32 x1) 28 i42 (((up2 I 28 i32 x1) 28 i39) + (nI 1))) 28 i48), up2 (up2 I 28 i32 x1) 28 i42 (((up2 I 28 i32 x1) 28 i39) + (nI 1)))
abbrev rm_X9_tell : Room := { frames := 1, cells := 0, slots := 0, locals := 21 }
theorem mv_X9_tell : MV yX9_tell cX9_tell 2 (some .int) 1 := ⟨q2465, q2466, q106, q2467, by decide +kernel⟩
set_option maxHeartbeats 4000000 in
theorem ct_X9_tell {G : WG} {l : Launch} {sh : SH} (hS : StM sh) {I : II} {x1 : Int32} {r : Int32} {I9 : II} (hk : f_X9_tell x1 I = some (r, I9)) : CT G l yX9_tell (ws_ yX9_tell cX9_tell 2 (some .int)) rm_X9_tell [.ref (wad G 27), .int x1] (sh, I) (.returned (some (.int r))) (sh, I9) := by
  refine CT.ofJ "NineDemandsModel" rfl (by decide) (Nat.le_of_ble_eq_true rfl) ?_
  intro p e s m args below meth c C
  unfold f_X9_tell at hk
  refine j_lv (lv' := [some (.ref (wad G 27)), some (.int x1)]) rfl ?_
  refine j_aload_n (pc := 0) C dX9_tell_0 rfl rfl ?_
  refine j_getR (pc := 1) C fd_10_0 q2000 (stM_o hS) (stM_r0 hS) dX9_tell_1 ?_
  refine j_iconst (pc := 4) (v := nI 2) C dX9_tell_4 (by decide) ?_
  obtain ⟨i5, e5, h1, hk⟩ := oix_ex hk
  refine j_iald (pc := 5) C (stM_a28 hS) h1 e5 dX9_tell_5 ?_
  refine j_bipush (pc := 6) (v := nI 20) C dX9_tell_6 (by decide) ?_
  refine j_icmp_ne (pc := 8) 18 C dX9_tell_8 (by decide) (fun h2 => ?_) (fun h2 => ?_)
  · have hk := it_f h2 hk
    refine j_aload_n (pc := 18) C dX9_tell_18 rfl rfl ?_
    refine j_getR (pc := 19) C fd_10_0 q2000 (stM_o hS) (stM_r0 hS) dX9_tell_19 ?_
    refine j_bipush (pc := 22) (v := nI 90) C dX9_tell_22 (by decide) ?_
    refine j_aload_n (pc := 24) C dX9_tell_24 rfl rfl ?_
    refine j_getR (pc := 25) C fd_10_0 q2000 (stM_o hS) (stM_r0 hS) dX9_tell_25 ?_
    refine j_iconst (pc := 28) (v := nI 2) C dX9_tell_28 (by decide) ?_
    obtain ⟨i29, e29, h3, hk⟩ := oix_ex hk
    refine j_iald (pc := 29) C (stM_a28 hS) h3 e29 dX9_tell_29 ?_
    refine j_iadd (pc := 30) C dX9_tell_30 ?_
    refine j_iload_n (pc := 31) C dX9_tell_31 rfl rfl ?_
    obtain ⟨i32, e32, h4, hk⟩ := oix_ex hk
    refine j_iast (pc := 32) C (stM_a28 hS) h4 e32 dX9_tell_32 ?_
    refine j_aload_n (pc := 33) C dX9_tell_33 rfl rfl ?_
    refine j_getR (pc := 34) C fd_10_0 q2000 (stM_o hS) (stM_r0 hS) dX9_tell_34 ?_
    refine j_iconst (pc := 37) (v := nI 2) C dX9_tell_37 (by decide) ?_
    refine j_dup2 (pc := 38) C dX9_tell_38 rfl rfl ?_
    obtain ⟨i39, e39, h5, hk⟩ := oix_ex hk
    refine j_iald (pc := 39) C (stM_a28 hS) h5 e39 dX9_tell_39 ?_
    refine j_iconst (pc := 40) (v := nI 1) C dX9_tell_40 (by decide) ?_
    refine j_iadd (pc := 41) C dX9_tell_41 ?_
    obtain ⟨i42, e42, h6, hk⟩ := oix_ex hk
    refine j_iast (pc := 42) C (stM_a28 hS) h6 e42 dX9_tell_42 ?_
    refine j_aload_n (pc := 43) C dX9_tell_43 rfl rfl ?_
    refine j_getR (pc := 44) C fd_10_0 q2000 (stM_o hS) (stM_r0 hS) dX9_tell_44 ?_
    refine j_iconst (pc := 47) (v := nI 2) C dX9_tell_47 (by decide) ?_
    obtain ⟨i48, e48, h7, hk⟩ := oix_ex hk
    refine j_iald (pc := 48) C (stM_a28 hS) h7 e48 dX9_tell_48 ?_
    exact j_iretW (pc := 49) C dX9_tell_49 (Nat.le_of_ble_eq_true rfl) (Nat.le_of_ble_eq_true rfl) hk
  · have hk := it_t h2 hk
    refine j_aload_n (pc := 11) C dX9_tell_11 rfl rfl ?_
    refine j_ldc (pc := 12) (v := (-1000004)) C q2155 dX9_tell_12 ?_
    obtain ⟨r14, I14, h8, hk⟩ := bd2_some hk
    refine j_callV (pc := 14) C (ct_X9_finding hS h8) mv_X9_finding (stM_o hS) rfl rfl q2111 dX9_tell_14 rfl rfl (Nat.le_of_ble_eq_true rfl) rfl ?_
    exact j_iretW (pc := 17) C dX9_tell_17 (Nat.le_of_ble_eq_true rfl) (Nat.le_of_ble_eq_true rfl) hk
def f_X9_learn_L46 (F : Nat) (x2 : Int32) : Nat → Int32 → II → Option (Int32 × II)
  | 0, _, _ => none
  | n46 + 1, x3, I => if x2 ≤ x3 then some ((nI 0), I) else if (nI 12) ≤ x3 then some (((nI 1) + x3), I) else oix ((nI 90) + x3) 366 fun i65 => oix x3 12 fun i71 => if (I 28 i65) = (I 39 i71) then (f_X9_learn_L46 F x2 n46) (x3 + (nI 1)) I else some (((nI 1) + x3), I)
def f_X9_learn (F : Nat) (x1 : Int32) (I : II) : Option (Int32 × II) := oix (nI 2) 366 fun i5 => oix (nI 2) 366 fun i13 => (f_X9_isSet x1 (up2 I 28 i13 (nI 0))).bind fun r16 => if r16 = 0 then bd2 (f_X9_finding (-1000001) (up2 I 28 i13 (nI 0))) fun r25 I25 => some (r25, I25) else bd2 (f_X9_fitsSome F x1 (up2 I 28 i13 (nI 0))) fun r31 I31 => if r31 = 0 then bd2 (f_X9_finding (-1000002) I31) fun r40 I40 => some (r40, I40) else f_X9_learn_L46 F (I 28 i5) F (nI 0) I31
abbrev rm_X9_learn : Room := { frames := 17, cells := 0, slots := 0, locals := 389 }
theorem mv_X9_learn : MV yX9_learn cX9_learn 4 (some .int) 1 := ⟨q2469, q2470, q106, q2471, by decide +kernel⟩
set_option maxHeartbeats 4000000 in
theorem ct_X9_learn {G : WG} {l : Launch} {sh : SH} (hS : StM sh) {I : II} {F : Nat} {x1 : Int32} {r : Int32} {I9 : II} (hk : f_X9_learn F x1 I = some (r, I9)) : CT G l yX9_learn (ws_ yX9_learn cX9_learn 4 (some .int)) rm_X9_learn [.ref (wad G 27), .int x1] (sh, I) (.returned (some (.int r))) (sh, I9) := by
  refine CT.ofJ "NineDemandsModel" rfl (by decide) (Nat.le_of_ble_eq_true rfl) ?_
  intro p e s m args below meth c C
  unfold f_X9_learn at hk
  refine j_lv (lv' := [some (.ref (wad G 27)), some (.int x1), none, none]) rfl ?_
  refine j_aload_n (pc := 0) C dX9_learn_0 rfl rfl ?_
  refine j_getR (pc := 1) C fd_10_0 q2000 (stM_o hS) (stM_r0 hS) dX9_learn_1 ?_
  refine j_iconst (pc := 4) (v := nI 2) C dX9_learn_4 (by decide) ?_
  obtain ⟨i5, e5, h1, hk⟩ := oix_ex hk
  refine j_iald (pc := 5) C (stM_a28 hS) h1 e5 dX9_learn_5 ?_
  refine j_istore_n (pc := 6) C dX9_learn_6 rfl (Nat.le_of_ble_eq_true rfl) rfl ?_
  refine j_aload_n (pc := 7) C dX9_learn_7 rfl rfl ?_
  refine j_getR (pc := 8) C fd_10_0 q2000 (stM_o hS) (stM_r0 hS) dX9_learn_8 ?_
  refine j_iconst (pc := 11) (v := nI 2) C dX9_learn_11 (by decide) ?_
  refine j_iconst (pc := 12) (v := nI 0) C dX9_learn_12 (by decide) ?_
  obtain ⟨i13, e13, h2, hk⟩ := oix_ex hk
  refine j_iast (pc := 13) C (stM_a28 hS) h2 e13 dX9_learn_13 ?_
  refine j_aload_n (pc := 14) C dX9_learn_14 rfl rfl ?_
  refine j_iload_n (pc := 15) C dX9_learn_15 rfl rfl ?_
  obtain ⟨r16, h3, hk⟩ := ob_some hk
  refine j_callV (pc := 16) C (ct_X9_isSet hS h3) mv_X9_isSet (stM_o hS) rfl rfl q2289 dX9_learn_16 rfl rfl (Nat.le_of_ble_eq_true rfl) rfl ?_
  refine j_if_ne (pc := 19) 29 C dX9_learn_19 (by decide) (fun h4 => ?_) (fun h4 => ?_)
  · have hk := it_f h4 hk
    refine j_aload_n (pc := 29) C dX9_learn_29 rfl rfl ?_
    refine j_iload_n (pc := 30) C dX9_learn_30 rfl rfl ?_
    obtain ⟨r31, I31, h5, hk⟩ := bd2_some hk
    refine j_callV (pc := 31) C (ct_X9_fitsSome hS h5) mv_X9_fitsSome (stM_o hS) rfl rfl q2293 dX9_learn_31 rfl rfl (Nat.le_of_ble_eq_true rfl) rfl ?_
    refine j_if_ne (pc := 34) 44 C dX9_learn_34 (by decide) (fun h6 => ?_) (fun h6 => ?_)
    · have hk := it_f h6 hk
      refine j_iconst (pc := 44) (v := nI 0) C dX9_learn_44 (by decide) ?_
      refine j_istore_n (pc := 45) C dX9_learn_45 rfl (Nat.le_of_ble_eq_true rfl) rfl ?_
      have L46 : ∀ (x2 : Int32) (n46 : Nat) (x3 : Int32) (I : II), f_X9_learn_L46 F x2 n46 x3 I = some (r, I9) → J G p l e rm_X9_learn s m args below meth c 4 (.returned (some (.int r))) (sh, I9) (rm_X9_learn).cells (rm_X9_learn).slots (sh, I) 0 0 46 [some (.ref (wad G 27)), none, some (.int x2), some (.int x3)] [] := by
        intro x2 n46
        induction n46 with
        | zero => intro x3 I hk; rw [f_X9_learn_L46] at hk; cases hk
        | succ n46 ih46 =>
          intro x3 I hk
          rw [f_X9_learn_L46] at hk
          generalize f_X9_learn_L46 F x2 n46 = k46 at ih46 hk
          refine j_iload_n (pc := 46) C dX9_learn_46 rfl rfl ?_
          refine j_iload_n (pc := 47) C dX9_learn_47 rfl rfl ?_
          refine j_icmp_ge (pc := 48) 85 C dX9_learn_48 (by decide) (fun h7 => ?_) (fun h7 => ?_)
          · have hk := it_t h7 hk
            refine j_iconst (pc := 85) (v := nI 0) C dX9_learn_85 (by decide) ?_
            exact j_iretW (pc := 86) C dX9_learn_86 (Nat.le_of_ble_eq_true rfl) (Nat.le_of_ble_eq_true rfl) hk
          · have hk := it_f h7 hk
            refine j_iload_n (pc := 51) C dX9_learn_51 rfl rfl ?_
            refine j_bipush (pc := 52) (v := nI 12) C dX9_learn_52 (by decide) ?_
            refine j_icmp_ge (pc := 54) 75 C dX9_learn_54 (by decide) (fun h8 => ?_) (fun h8 => ?_)
            · have hk := it_t h8 hk
              refine j_iconst (pc := 75) (v := nI 1) C dX9_learn_75 (by decide) ?_
              refine j_iload_n (pc := 76) C dX9_learn_76 rfl rfl ?_
              refine j_iadd (pc := 77) C dX9_learn_77 ?_
              exact j_iretW (pc := 78) C dX9_learn_78 (Nat.le_of_ble_eq_true rfl) (Nat.le_of_ble_eq_true rfl) hk
            · have hk := it_f h8 hk
              refine j_aload_n (pc := 57) C dX9_learn_57 rfl rfl ?_
              refine j_getR (pc := 58) C fd_10_0 q2000 (stM_o hS) (stM_r0 hS) dX9_learn_58 ?_
              refine j_bipush (pc := 61) (v := nI 90) C dX9_learn_61 (by decide) ?_
              refine j_iload_n (pc := 63) C dX9_learn_63 rfl rfl ?_
              refine j_iadd (pc := 64) C dX9_learn_64 ?_
              obtain ⟨i65, e65, h9, hk⟩ := oix_ex hk
              refine j_iald (pc := 65) C (stM_a28 hS) h9 e65 dX9_learn_65 ?_
              refine j_aload_n (pc := 66) C dX9_learn_66 rfl rfl ?_
              refine j_getR (pc := 67) C fd_10_21 q2021 (stM_o hS) (stM_r21 hS) dX9_learn_67 ?_
              refine j_iload_n (pc := 70) C dX9_learn_70 rfl rfl ?_
              obtain ⟨i71, e71, h10, hk⟩ := oix_ex hk
              refine j_iald (pc := 71) C (stM_a39 hS) h10 e71 dX9_learn_71 ?_
              refine j_icmp_eq (pc := 72) 79 C dX9_learn_72 (by decide) (fun h11 => ?_) (fun h11 => ?_)
              · have hk := it_t h11 hk
                refine j_iinc (pc := 79) (nI 1) C dX9_learn_79 rfl (by decide) (Nat.le_of_ble_eq_true rfl) rfl ?_
                refine j_goto (pc := 82) 46 C dX9_learn_82 (by decide) ?_
                exact j_mask [true, false, true, true] (ih46 _ _ hk)
              · have hk := it_f h11 hk
                refine j_iconst (pc := 75) (v := nI 1) C dX9_learn_75 (by decide) ?_
                refine j_iload_n (pc := 76) C dX9_learn_76 rfl rfl ?_
                refine j_iadd (pc := 77) C dX9_learn_77 ?_
                exact j_iretW (pc := 78) C dX9_learn_78 (Nat.le_of_ble_eq_true rfl) (Nat.le_of_ble_eq_true rfl) hk
      exact j_mask [true, false, true, true] (L46 _ _ _ _ hk)
    · have hk := it_t h6 hk
      refine j_aload_n (pc := 37) C dX9_learn_37 rfl rfl ?_
      refine j_ldc (pc := 38) (v := (-1000002)) C q2123 dX9_learn_38 ?_
      obtain ⟨r40, I40, h12, hk⟩ := bd2_some hk
      refine j_callV (pc := 40) C (ct_X9_finding hS h12) mv_X9_finding (stM_o hS) rfl rfl q2111 dX9_learn_40 rfl rfl (Nat.le_of_ble_eq_true rfl) rfl ?_
      exact j_iretW (pc := 43) C dX9_learn_43 (Nat.le_of_ble_eq_true rfl) (Nat.le_of_ble_eq_true rfl) hk
  · have hk := it_t h4 hk
    refine j_aload_n (pc := 22) C dX9_learn_22 rfl rfl ?_
    refine j_ldc (pc := 23) (v := (-1000001)) C q2110 dX9_learn_23 ?_
    obtain ⟨r25, I25, h13, hk⟩ := bd2_some hk
    refine j_callV (pc := 25) C (ct_X9_finding hS h13) mv_X9_finding (stM_o hS) rfl rfl q2111 dX9_learn_25 rfl rfl (Nat.le_of_ble_eq_true rfl) rfl ?_
    exact j_iretW (pc := 28) C dX9_learn_28 (Nat.le_of_ble_eq_true rfl) (Nat.le_of_ble_eq_true rfl) hk
def f_X9_count_L64 (F : Nat) : Nat → Int32 → Int32 → II → Option (Int32 × II)
  | 0, _, _, _ => none
  | n64 + 1, x2, x3, I => if (nI 12) ≤ x3 then some (x2, I) else oix ((nI 10) + x3) 366 fun i79 => if (I 28 i79) = (nI 3) then (f_X9_count_L64 F n64) (x2 + (nI 1)) (x3 + (nI 1)) I else (f_X9_count_L64 F n64) (x2 + (nI 0)) (x3 + (nI 1)) I
def f_X9_count (F : Nat) (x1 : Int32) (I : II) : Option (Int32 × II) := if x1 = nI 0 then oix (nI 0) 366 fun i45 => some ((I 28 i45), I) else if x1 = nI 1 then oix (nI 0) 366 fun i54 => (f_X9_priceOf F (((nI 1) <<< ((I 28 i54) &&& 31)) - (nI 1)) I).bind fun r58 => some (r58, I) else if x1 = nI 2 then f_X9_count_L64 F F (nI 0) (nI 0) I else if x1 = nI 3 then oix (nI 1) 366 fun i104 => some ((I 28 i104), I) else if x1 = nI 4 then oix (nI 2) 366 fun i111 => some ((I 28 i111), I) else if x1 = nI 5 then some ((I 27 27), I) else bd2 (f_X9_finding (-1000001) I) fun r121 I121 => some (r121, I121)
abbrev rm_X9_count : Room := { frames := 2, cells := 0, slots := 0, locals := 44 }
theorem mv_X9_count : MV yX9_count cX9_count 4 (some .int) 1 := ⟨q2473, q2474, q106, q2475, by decide +kernel⟩
set_option maxHeartbeats 4000000 in
theorem ct_X9_count {G : WG} {l : Launch} {sh : SH} (hS : StM sh) {I : II} {F : Nat} {x1 : Int32} {r : Int32} {I9 : II} (hk : f_X9_count F x1 I = some (r, I9)) : CT G l yX9_count (ws_ yX9_count cX9_count 4 (some .int)) rm_X9_count [.ref (wad G 27), .int x1] (sh, I) (.returned (some (.int r))) (sh, I9) := by
  refine CT.ofJ "NineDemandsModel" rfl (by decide) (Nat.le_of_ble_eq_true rfl) ?_
  intro p e s m args below meth c C
  unfold f_X9_count at hk
  refine j_lv (lv' := [some (.ref (wad G 27)), some (.int x1), none, none]) rfl ?_
  refine j_iconst (pc := 0) (v := nI 0) C dX9_count_0 (by decide) ?_
  refine j_istore_n (pc := 1) C dX9_count_1 rfl (Nat.le_of_ble_eq_true rfl) rfl ?_
  refine j_iload_n (pc := 2) C dX9_count_2 rfl rfl ?_
  by_cases h1 : x1 = nI 0
  · have hk := it_t h1 hk
    refine j_tableIn (pc := 3) 40 0 C dX9_count_3 (sw_in h1 (by decide)) (by decide) (by decide) rfl (by decide) ?_
    refine j_aload_n (pc := 40) C dX9_count_40 rfl rfl ?_
    refine j_getR (pc := 41) C fd_10_0 q2000 (stM_o hS) (stM_r0 hS) dX9_count_41 ?_
    refine j_iconst (pc := 44) (v := nI 0) C dX9_count_44 (by decide) ?_
    obtain ⟨i45, e45, h2, hk⟩ := oix_ex hk
    refine j_iald (pc := 45) C (stM_a28 hS) h2 e45 dX9_count_45 ?_
    exact j_iretW (pc := 46) C dX9_count_46 (Nat.le_of_ble_eq_true rfl) (Nat.le_of_ble_eq_true rfl) hk
  have hk := it_f h1 hk
  by_cases h3 : x1 = nI 1
  · have hk := it_t h3 hk
    refine j_tableIn (pc := 3) 47 1 C dX9_count_3 (sw_in h3 (by decide)) (by decide) (by decide) rfl (by decide) ?_
    refine j_aload_n (pc := 47) C dX9_count_47 rfl rfl ?_
    refine j_iconst (pc := 48) (v := nI 1) C dX9_count_48 (by decide) ?_
    refine j_aload_n (pc := 49) C dX9_count_49 rfl rfl ?_
    refine j_getR (pc := 50) C fd_10_0 q2000 (stM_o hS) (stM_r0 hS) dX9_count_50 ?_
    refine j_iconst (pc := 53) (v := nI 0) C dX9_count_53 (by decide) ?_
    obtain ⟨i54, e54, h4, hk⟩ := oix_ex hk
    refine j_iald (pc := 54) C (stM_a28 hS) h4 e54 dX9_count_54 ?_
    refine j_ishl (pc := 55) C dX9_count_55 ?_
    refine j_iconst (pc := 56) (v := nI 1) C dX9_count_56 (by decide) ?_
    refine j_isub (pc := 57) C dX9_count_57 ?_
    obtain ⟨r58, h5, hk⟩ := ob_some hk
    refine j_callV (pc := 58) C (ct_X9_priceOf hS h5) mv_X9_priceOf (stM_o hS) rfl rfl q2392 dX9_count_58 rfl rfl (Nat.le_of_ble_eq_true rfl) rfl ?_
    exact j_iretW (pc := 61) C dX9_count_61 (Nat.le_of_ble_eq_true rfl) (Nat.le_of_ble_eq_true rfl) hk
  have hk := it_f h3 hk
  by_cases h6 : x1 = nI 2
  · have hk := it_t h6 hk
    refine j_tableIn (pc := 3) 62 2 C dX9_count_3 (sw_in h6 (by decide)) (by decide) (by decide) rfl (by decide) ?_
    refine j_iconst (pc := 62) (v := nI 0) C dX9_count_62 (by decide) ?_
    refine j_istore_n (pc := 63) C dX9_count_63 rfl (Nat.le_of_ble_eq_true rfl) rfl ?_
    have L64 : ∀  (n64 : Nat) (x2 : Int32) (x3 : Int32) (I : II), f_X9_count_L64 F n64 x2 x3 I = some (r, I9) → J G p l e rm_X9_count s m args below meth c 4 (.returned (some (.int r))) (sh, I9) (rm_X9_count).cells (rm_X9_count).slots (sh, I) 0 0 64 [some (.ref (wad G 27)), none, some (.int x2), some (.int x3)] [] := by
      intro  n64
      induction n64 with
      | zero => intro x2 x3 I hk; rw [f_X9_count_L64] at hk; cases hk
      | succ n64 ih64 =>
        intro x2 x3 I hk
        rw [f_X9_count_L64] at hk
        generalize f_X9_count_L64 F n64 = k64 at ih64 hk
        refine j_iload_n (pc := 64) C dX9_count_64 rfl rfl ?_
        refine j_bipush (pc := 65) (v := nI 12) C dX9_count_65 (by decide) ?_
        refine j_icmp_ge (pc := 67) 97 C dX9_count_67 (by decide) (fun h7 => ?_) (fun h7 => ?_)
        · have hk := it_t h7 hk
          refine j_iload_n (pc := 97) C dX9_count_97 rfl rfl ?_
          exact j_iretW (pc := 98) C dX9_count_98 (Nat.le_of_ble_eq_true rfl) (Nat.le_of_ble_eq_true rfl) hk
        · have hk := it_f h7 hk
          refine j_iload_n (pc := 70) C dX9_count_70 rfl rfl ?_
          refine j_aload_n (pc := 71) C dX9_count_71 rfl rfl ?_
          refine j_getR (pc := 72) C fd_10_0 q2000 (stM_o hS) (stM_r0 hS) dX9_count_72 ?_
          refine j_bipush (pc := 75) (v := nI 10) C dX9_count_75 (by decide) ?_
          refine j_iload_n (pc := 77) C dX9_count_77 rfl rfl ?_
          refine j_iadd (pc := 78) C dX9_count_78 ?_
          obtain ⟨i79, e79, h8, hk⟩ := oix_ex hk
          refine j_iald (pc := 79) C (stM_a28 hS) h8 e79 dX9_count_79 ?_
          refine j_iconst (pc := 80) (v := nI 3) C dX9_count_80 (by decide) ?_
          refine j_icmp_ne (pc := 81) 88 C dX9_count_81 (by decide) (fun h9 => ?_) (fun h9 => ?_)
          · have hk := it_f h9 hk
            refine j_iconst (pc := 88) (v := nI 0) C dX9_count_88 (by decide) ?_
            refine j_iadd (pc := 89) C dX9_count_89 ?_
            refine j_istore_n (pc := 90) C dX9_count_90 rfl (Nat.le_of_ble_eq_true rfl) rfl ?_
            refine j_iinc (pc := 91) (nI 1) C dX9_count_91 rfl (by decide) (Nat.le_of_ble_eq_true rfl) rfl ?_
            refine j_goto (pc := 94) 64 C dX9_count_94 (by decide) ?_
            exact j_mask [true, false, true, true] (ih64 _ _ _ hk)
          · have hk := it_t h9 hk
            refine j_iconst (pc := 84) (v := nI 1) C dX9_count_84 (by decide) ?_
            refine j_goto (pc := 85) 89 C dX9_count_85 (by decide) ?_
            refine j_iadd (pc := 89) C dX9_count_89 ?_
            refine j_istore_n (pc := 90) C dX9_count_90 rfl (Nat.le_of_ble_eq_true rfl) rfl ?_
            refine j_iinc (pc := 91) (nI 1) C dX9_count_91 rfl (by decide) (Nat.le_of_ble_eq_true rfl) rfl ?_
            refine j_goto (pc := 94) 64 C dX9_count_94 (by decide) ?_
            exact j_mask [true, false, true, true] (ih64 _ _ _ hk)
    exact j_mask [true, false, true, true] (L64  _ _ _ _ hk)
  have hk := it_f h6 hk
  by_cases h10 : x1 = nI 3
  · have hk := it_t h10 hk
    refine j_tableIn (pc := 3) 99 3 C dX9_count_3 (sw_in h10 (by decide)) (by decide) (by decide) rfl (by decide) ?_
    refine j_aload_n (pc := 99) C dX9_count_99 rfl rfl ?_
    refine j_getR (pc := 100) C fd_10_0 q2000 (stM_o hS) (stM_r0 hS) dX9_count_100 ?_
    refine j_iconst (pc := 103) (v := nI 1) C dX9_count_103 (by decide) ?_
    obtain ⟨i104, e104, h11, hk⟩ := oix_ex hk
    refine j_iald (pc := 104) C (stM_a28 hS) h11 e104 dX9_count_104 ?_
    exact j_iretW (pc := 105) C dX9_count_105 (Nat.le_of_ble_eq_true rfl) (Nat.le_of_ble_eq_true rfl) hk
  have hk := it_f h10 hk
  by_cases h12 : x1 = nI 4
  · have hk := it_t h12 hk
    refine j_tableIn (pc := 3) 106 4 C dX9_count_3 (sw_in h12 (by decide)) (by decide) (by decide) rfl (by decide) ?_
    refine j_aload_n (pc := 106) C dX9_count_106 rfl rfl ?_
    refine j_getR (pc := 107) C fd_10_0 q2000 (stM_o hS) (stM_r0 hS) dX9_count_107 ?_
    refine j_iconst (pc := 110) (v := nI 2) C dX9_count_110 (by decide) ?_
    obtain ⟨i111, e111, h13, hk⟩ := oix_ex hk
    refine j_iald (pc := 111) C (stM_a28 hS) h13 e111 dX9_count_111 ?_
    exact j_iretW (pc := 112) C dX9_count_112 (Nat.le_of_ble_eq_true rfl) (Nat.le_of_ble_eq_true rfl) hk
  have hk := it_f h12 hk
  by_cases h14 : x1 = nI 5
  · have hk := it_t h14 hk
    refine j_tableIn (pc := 3) 113 5 C dX9_count_3 (sw_in h14 (by decide)) (by decide) (by decide) rfl (by decide) ?_
    refine j_aload_n (pc := 113) C dX9_count_113 rfl rfl ?_
    refine j_getI (pc := 114) C fd_10_27 q2027 (stM_o hS) dX9_count_114 ?_
    exact j_iretW (pc := 117) C dX9_count_117 (Nat.le_of_ble_eq_true rfl) (Nat.le_of_ble_eq_true rfl) hk
  have hk := it_f h14 hk
  refine j_tableOut (pc := 3) 118 C dX9_count_3 (sw_out (lo := 0) (hi := 5) (by decide) (fun j a1 a2 => by
    have a3 : j = 0 ∨ j = 1 ∨ j = 2 ∨ j = 3 ∨ j = 4 ∨ j = 5 := by omega
    rcases a3 with rfl | rfl | rfl | rfl | rfl | rfl
    · exact h1
    · exact h3
    · exact h6
    · exact h10
    · exact h12
    · exact h14)) (by decide) ?_
  refine j_aload_n (pc := 118) C dX9_count_118 rfl rfl ?_
  refine j_ldc (pc := 119) (v := (-1000001)) C q2110 dX9_count_119 ?_
  obtain ⟨r121, I121, h15, hk⟩ := bd2_some hk
  refine j_callV (pc := 121) C (ct_X9_finding hS h15) mv_X9_finding (stM_o hS) rfl rfl q2111 dX9_count_121 rfl rfl (Nat.le_of_ble_eq_true rfl) rfl ?_
  exact j_iretW (pc := 124) C dX9_count_124 (Nat.le_of_ble_eq_true rfl) (Nat.le_of_ble_eq_true rfl) hk
def f_X9_told (x1 : Int32) (I : II) : Option (Int32 × II) := (f_X9_within x1 (nI 1) (nI 5)).bind fun r3 => if r3 = 0 then bd2 (f_X9_finding (-1000001) I) fun r21 I21 => some (r21, I21) else oix x1 6 fun i14 => some ((I 30 i14), I)
abbrev rm_X9_told : Room := { frames := 1, cells := 0, slots := 0, locals := 22 }
theorem mv_X9_told : MV yX9_told cX9_told 2 (some .int) 1 := ⟨q2477, q2478, q106, q2479, by decide +kernel⟩
set_option maxHeartbeats 4000000 in
theorem ct_X9_told {G : WG} {l : Launch} {sh : SH} (hS : StM sh) {I : II} {x1 : Int32} {r : Int32} {I9 : II} (hk : f_X9_told x1 I = some (r, I9)) : CT G l yX9_told (ws_ yX9_told cX9_told 2 (some .int)) rm_X9_told [.ref (wad G 27), .int x1] (sh, I) (.returned (some (.int r))) (sh, I9) := by
  refine CT.ofJ "NineDemandsModel" rfl (by decide) (Nat.le_of_ble_eq_true rfl) ?_
  intro p e s m args below meth c C
  unfold f_X9_told at hk
  refine j_lv (lv' := [some (.ref (wad G 27)), some (.int x1)]) rfl ?_
  refine j_iload_n (pc := 0) C dX9_told_0 rfl rfl ?_
  refine j_iconst (pc := 1) (v := nI 1) C dX9_told_1 (by decide) ?_
  refine j_iconst (pc := 2) (v := nI 5) C dX9_told_2 (by decide) ?_
  obtain ⟨r3, h1, hk⟩ := ob_some hk
  refine j_callS (pc := 3) C (ct_X9_within h1) ms_X9_within q2107 dX9_told_3 rfl rfl (Nat.le_of_ble_eq_true rfl) rfl ?_
  refine j_if_eq (pc := 6) 18 C dX9_told_6 (by decide) (fun h2 => ?_) (fun h2 => ?_)
  · have hk := it_t h2 hk
    refine j_aload_n (pc := 18) C dX9_told_18 rfl rfl ?_
    refine j_ldc (pc := 19) (v := (-1000001)) C q2110 dX9_told_19 ?_
    obtain ⟨r21, I21, h3, hk⟩ := bd2_some hk
    refine j_callV (pc := 21) C (ct_X9_finding hS h3) mv_X9_finding (stM_o hS) rfl rfl q2111 dX9_told_21 rfl rfl (Nat.le_of_ble_eq_true rfl) rfl ?_
    exact j_iretW (pc := 24) C dX9_told_24 (Nat.le_of_ble_eq_true rfl) (Nat.le_of_ble_eq_true rfl) hk
  · have hk := it_f h2 hk
    refine j_aload_n (pc := 9) C dX9_told_9 rfl rfl ?_
    refine j_getR (pc := 10) C fd_10_3 q2003 (stM_o hS) (stM_r3 hS) dX9_told_10 ?_
    refine j_iload_n (pc := 13) C dX9_told_13 rfl rfl ?_
    obtain ⟨i14, e14, h4, hk⟩ := oix_ex hk
    refine j_iald (pc := 14) C (stM_a30 hS) h4 e14 dX9_told_14 ?_
    refine j_goto (pc := 15) 24 C dX9_told_15 (by decide) ?_
    exact j_iretW (pc := 24) C dX9_told_24 (Nat.le_of_ble_eq_true rfl) (Nat.le_of_ble_eq_true rfl) hk
