/-! the reference: walks -/
set_option maxRecDepth 100000
def f_X9_waysBy_L28 (F : Nat) (k13 : Int32 → Int32 → II → Option (Int32 × II)) (x1 : Int32) (x2 : Int32) (x3 : Int32) : Nat → Int32 → Int32 → Int32 → II → Option (Int32 × II)
  | 0, _, _, _, _ => none
  | n28 + 1, x4, x5, x6, I => if (nI 4) ≤ x6 then if x4 = 0 then k13 (x2 + (nI 0)) (x3 + (nI 1)) I else k13 (x2 + (nI 1)) (x3 + (nI 1)) I else oix x6 12 fun i46 => if x4 = 0 then (f_X9_waysBy_L28 F k13 x1 x2 x3 n28) (nI 0) (x5 / (nI 3)) (x6 + (nI 1)) (up2 I 39 i46 ((x5 - x5 / (nI 3) * (nI 3)) + (nI 1))) else oix x6 12 fun i69 => (f_X9_has x1 ((((nI 3) * x6) + ((up2 I 39 i46 ((x5 - x5 / (nI 3) * (nI 3)) + (nI 1))) 39 i69)) - (nI 1))).bind fun r73 => if r73 = 0 then (f_X9_waysBy_L28 F k13 x1 x2 x3 n28) (nI 0) (x5 / (nI 3)) (x6 + (nI 1)) (up2 I 39 i46 ((x5 - x5 / (nI 3) * (nI 3)) + (nI 1))) else oix x6 12 fun i88 => (f_X9_fitsAhead F x6 ((up2 I 39 i46 ((x5 - x5 / (nI 3) * (nI 3)) + (nI 1))) 39 i88) (nI 15) (up2 I 39 i46 ((x5 - x5 / (nI 3) * (nI 3)) + (nI 1)))).bind fun r91 => if r91 = 0 then (f_X9_waysBy_L28 F k13 x1 x2 x3 n28) (nI 0) (x5 / (nI 3)) (x6 + (nI 1)) (up2 I 39 i46 ((x5 - x5 / (nI 3) * (nI 3)) + (nI 1))) else (f_X9_waysBy_L28 F k13 x1 x2 x3 n28) (nI 1) (x5 / (nI 3)) (x6 + (nI 1)) (up2 I 39 i46 ((x5 - x5 / (nI 3) * (nI 3)) + (nI 1)))
def f_X9_waysBy_L13 (F : Nat) (x1 : Int32) : Nat → Int32 → Int32 → II → Option (Int32 × II)
  | 0, _, _, _ => none
  | n13 + 1, x2, x3, I => if (nI 81) ≤ x3 then oix x1 4096 fun i135 => oix x1 4096 fun i141 => some (((up2 I 40 i135 x2) 40 i141), up2 I 40 i135 x2) else f_X9_waysBy_L28 F (f_X9_waysBy_L13 F x1 n13) x1 x2 x3 F (nI 1) x3 (nI 0) I
def f_X9_waysBy (F : Nat) (x1 : Int32) (I : II) : Option (Int32 × II) := oix x1 4096 fun i5 => if 0 ≤ (I 40 i5) then oix x1 4096 fun i141 => some ((I 40 i141), I) else f_X9_waysBy_L13 F x1 F (nI 0) (nI 0) I
abbrev rm_X9_waysBy : Room := { frames := 2, cells := 0, slots := 0, locals := 46 }
theorem mv_X9_waysBy : MV yX9_waysBy cX9_waysBy 7 (some .int) 1 := ⟨q2326, qs75, q106, q2327, by decide +kernel⟩
set_option maxHeartbeats 4000000 in
theorem ct_X9_waysBy {G : WG} {l : Launch} {sh : SH} (hS : StM sh) {I : II} {F : Nat} {x1 : Int32} {r : Int32} {I9 : II} (hk : f_X9_waysBy F x1 I = some (r, I9)) : CT G l yX9_waysBy (ws_ yX9_waysBy cX9_waysBy 7 (some .int)) rm_X9_waysBy [.ref (wad G 27), .int x1] (sh, I) (.returned (some (.int r))) (sh, I9) := by
  refine CT.ofJ "NineDemandsModel" rfl (by decide) (Nat.le_of_ble_eq_true rfl) ?_
  intro p e s m args below meth c C
  unfold f_X9_waysBy at hk
  refine j_lv (lv' := [some (.ref (wad G 27)), some (.int x1), none, none, none, none, none]) rfl ?_
  refine j_aload_n (pc := 0) C dX9_waysBy_0 rfl rfl ?_
  refine j_getR (pc := 1) C fd_10_22 q2022 (stM_o hS) (stM_r22 hS) dX9_waysBy_1 ?_
  refine j_iload_n (pc := 4) C dX9_waysBy_4 rfl rfl ?_
  obtain ⟨i5, e5, h1, hk⟩ := oix_ex hk
  refine j_iald (pc := 5) C (stM_a40 hS) h1 e5 dX9_waysBy_5 ?_
  refine j_if_ge (pc := 6) 136 C dX9_waysBy_6 (by decide) (fun h2 => ?_) (fun h2 => ?_)
  · have hk := it_t h2 hk
    refine j_aload_n (pc := 136) C dX9_waysBy_136 rfl rfl ?_
    refine j_getR (pc := 137) C fd_10_22 q2022 (stM_o hS) (stM_r22 hS) dX9_waysBy_137 ?_
    refine j_iload_n (pc := 140) C dX9_waysBy_140 rfl rfl ?_
    obtain ⟨i141, e141, h3, hk⟩ := oix_ex hk
    refine j_iald (pc := 141) C (stM_a40 hS) h3 e141 dX9_waysBy_141 ?_
    exact j_iretW (pc := 142) C dX9_waysBy_142 (Nat.le_of_ble_eq_true rfl) (Nat.le_of_ble_eq_true rfl) hk
  · have hk := it_f h2 hk
    refine j_iconst (pc := 9) (v := nI 0) C dX9_waysBy_9 (by decide) ?_
    refine j_istore_n (pc := 10) C dX9_waysBy_10 rfl (Nat.le_of_ble_eq_true rfl) rfl ?_
    refine j_iconst (pc := 11) (v := nI 0) C dX9_waysBy_11 (by decide) ?_
    refine j_istore_n (pc := 12) C dX9_waysBy_12 rfl (Nat.le_of_ble_eq_true rfl) rfl ?_
    have L13 : ∀ (x1 : Int32) (n13 : Nat) (x2 : Int32) (x3 : Int32) (I : II), f_X9_waysBy_L13 F x1 n13 x2 x3 I = some (r, I9) → J G p l e rm_X9_waysBy s m args below meth c 7 (.returned (some (.int r))) (sh, I9) (rm_X9_waysBy).cells (rm_X9_waysBy).slots (sh, I) 0 0 13 [some (.ref (wad G 27)), some (.int x1), some (.int x2), some (.int x3), none, none, none] [] := by
      intro x1 n13
      induction n13 with
      | zero => intro x2 x3 I hk; rw [f_X9_waysBy_L13] at hk; cases hk
      | succ n13 ih13 =>
        intro x2 x3 I hk
        rw [f_X9_waysBy_L13] at hk
        generalize f_X9_waysBy_L13 F x1 n13 = k13 at ih13 hk
        refine j_iload_n (pc := 13) C dX9_waysBy_13 rfl rfl ?_
        refine j_bipush (pc := 14) (v := nI 81) C dX9_waysBy_14 (by decide) ?_
        refine j_icmp_ge (pc := 16) 129 C dX9_waysBy_16 (by decide) (fun h4 => ?_) (fun h4 => ?_)
        · have hk := it_t h4 hk
          refine j_aload_n (pc := 129) C dX9_waysBy_129 rfl rfl ?_
          refine j_getR (pc := 130) C fd_10_22 q2022 (stM_o hS) (stM_r22 hS) dX9_waysBy_130 ?_
          refine j_iload_n (pc := 133) C dX9_waysBy_133 rfl rfl ?_
          refine j_iload_n (pc := 134) C dX9_waysBy_134 rfl rfl ?_
          obtain ⟨i135, e135, h5, hk⟩ := oix_ex hk
          refine j_iast (pc := 135) C (stM_a40 hS) h5 e135 dX9_waysBy_135 ?_
          refine j_aload_n (pc := 136) C dX9_waysBy_136 rfl rfl ?_
          refine j_getR (pc := 137) C fd_10_22 q2022 (stM_o hS) (stM_r22 hS) dX9_waysBy_137 ?_
          refine j_iload_n (pc := 140) C dX9_waysBy_140 rfl rfl ?_
          obtain ⟨i141, e141, h6, hk⟩ := oix_ex hk
          refine j_iald (pc := 141) C (stM_a40 hS) h6 e141 dX9_waysBy_141 ?_
          exact j_iretW (pc := 142) C dX9_waysBy_142 (Nat.le_of_ble_eq_true rfl) (Nat.le_of_ble_eq_true rfl) hk
        · have hk := it_f h4 hk
          refine j_iconst (pc := 19) (v := nI 1) C dX9_waysBy_19 (by decide) ?_
          refine j_istore (pc := 20) C dX9_waysBy_20 (Nat.le_of_ble_eq_true rfl) rfl ?_
          refine j_iload_n (pc := 22) C dX9_waysBy_22 rfl rfl ?_
          refine j_istore (pc := 23) C dX9_waysBy_23 (Nat.le_of_ble_eq_true rfl) rfl ?_
          refine j_iconst (pc := 25) (v := nI 0) C dX9_waysBy_25 (by decide) ?_
          refine j_istore (pc := 26) C dX9_waysBy_26 (Nat.le_of_ble_eq_true rfl) rfl ?_
          have L28 : ∀ (x2 : Int32) (x3 : Int32) (n28 : Nat) (x4 : Int32) (x5 : Int32) (x6 : Int32) (I : II), f_X9_waysBy_L28 F k13 x1 x2 x3 n28 x4 x5 x6 I = some (r, I9) → J G p l e rm_X9_waysBy s m args below meth c 7 (.returned (some (.int r))) (sh, I9) (rm_X9_waysBy).cells (rm_X9_waysBy).slots (sh, I) 0 0 28 [some (.ref (wad G 27)), some (.int x1), some (.int x2), some (.int x3), some (.int x4), some (.int x5), some (.int x6)] [] := by
            intro x2 x3 n28
            induction n28 with
            | zero => intro x4 x5 x6 I hk; rw [f_X9_waysBy_L28] at hk; cases hk
            | succ n28 ih28 =>
              intro x4 x5 x6 I hk
              rw [f_X9_waysBy_L28] at hk
              generalize f_X9_waysBy_L28 F k13 x1 x2 x3 n28 = k28 at ih28 hk
              refine j_iload (pc := 28) C dX9_waysBy_28 rfl ?_
              refine j_iconst (pc := 30) (v := nI 4) C dX9_waysBy_30 (by decide) ?_
              refine j_icmp_ge (pc := 31) 110 C dX9_waysBy_31 (by decide) (fun h7 => ?_) (fun h7 => ?_)
              · have hk := it_t h7 hk
                refine j_iload_n (pc := 110) C dX9_waysBy_110 rfl rfl ?_
                refine j_iload (pc := 111) C dX9_waysBy_111 rfl ?_
                refine j_if_eq (pc := 113) 120 C dX9_waysBy_113 (by decide) (fun h8 => ?_) (fun h8 => ?_)
                · have hk := it_t h8 hk
                  refine j_iconst (pc := 120) (v := nI 0) C dX9_waysBy_120 (by decide) ?_
                  refine j_iadd (pc := 121) C dX9_waysBy_121 ?_
                  refine j_istore_n (pc := 122) C dX9_waysBy_122 rfl (Nat.le_of_ble_eq_true rfl) rfl ?_
                  refine j_iinc (pc := 123) (nI 1) C dX9_waysBy_123 rfl (by decide) (Nat.le_of_ble_eq_true rfl) rfl ?_
                  refine j_goto (pc := 126) 13 C dX9_waysBy_126 (by decide) ?_
                  exact j_mask [true, true, true, true, false, false, false] (ih13 _ _ _ hk)
                · have hk := it_f h8 hk
                  refine j_iconst (pc := 116) (v := nI 1) C dX9_waysBy_116 (by decide) ?_
                  refine j_goto (pc := 117) 121 C dX9_waysBy_117 (by decide) ?_
                  refine j_iadd (pc := 121) C dX9_waysBy_121 ?_
                  refine j_istore_n (pc := 122) C dX9_waysBy_122 rfl (Nat.le_of_ble_eq_true rfl) rfl ?_
                  refine j_iinc (pc := 123) (nI 1) C dX9_waysBy_123 rfl (by decide) (Nat.le_of_ble_eq_true rfl) rfl ?_
                  refine j_goto (pc := 126) 13 C dX9_waysBy_126 (by decide) ?_
                  exact j_mask [true, true, true, true, false, false, false] (ih13 _ _ _ hk)
              · have hk := it_f h7 hk
                refine j_aload_n (pc := 34) C dX9_waysBy_34 rfl rfl ?_
                refine j_getR (pc := 35) C fd_10_21 q2021 (stM_o hS) (stM_r21 hS) dX9_waysBy_35 ?_
                refine j_iload (pc := 38) C dX9_waysBy_38 rfl ?_
                refine j_iload (pc := 40) C dX9_waysBy_40 rfl ?_
                refine j_iconst (pc := 42) (v := nI 3) C dX9_waysBy_42 (by decide) ?_
                refine j_irem (pc := 43) C dX9_waysBy_43 (by decide) ?_
                refine j_iconst (pc := 44) (v := nI 1) C dX9_waysBy_44 (by decide) ?_
                refine j_iadd (pc := 45) C dX9_waysBy_45 ?_
                obtain ⟨i46, e46, h9, hk⟩ := oix_ex hk
                refine j_iast (pc := 46) C (stM_a39 hS) h9 e46 dX9_waysBy_46 ?_
                refine j_iload (pc := 47) C dX9_waysBy_47 rfl ?_
                refine j_iconst (pc := 49) (v := nI 3) C dX9_waysBy_49 (by decide) ?_
                refine j_idiv (pc := 50) C dX9_waysBy_50 (by decide) ?_
                refine j_istore (pc := 51) C dX9_waysBy_51 (Nat.le_of_ble_eq_true rfl) rfl ?_
                refine j_iload (pc := 53) C dX9_waysBy_53 rfl ?_
                refine j_if_eq (pc := 55) 101 C dX9_waysBy_55 (by decide) (fun h10 => ?_) (fun h10 => ?_)
                · have hk := it_t h10 hk
                  refine j_iconst (pc := 101) (v := nI 0) C dX9_waysBy_101 (by decide) ?_
                  refine j_istore (pc := 102) C dX9_waysBy_102 (Nat.le_of_ble_eq_true rfl) rfl ?_
                  refine j_iinc (pc := 104) (nI 1) C dX9_waysBy_104 rfl (by decide) (Nat.le_of_ble_eq_true rfl) rfl ?_
                  refine j_goto (pc := 107) 28 C dX9_waysBy_107 (by decide) ?_
                  exact j_mask [true, true, true, true, true, true, true] (ih28 _ _ _ _ hk)
                · have hk := it_f h10 hk
                  refine j_iload_n (pc := 58) C dX9_waysBy_58 rfl rfl ?_
                  refine j_iconst (pc := 59) (v := nI 3) C dX9_waysBy_59 (by decide) ?_
                  refine j_iload (pc := 60) C dX9_waysBy_60 rfl ?_
                  refine j_imul (pc := 62) C dX9_waysBy_62 ?_
                  refine j_aload_n (pc := 63) C dX9_waysBy_63 rfl rfl ?_
                  refine j_getR (pc := 64) C fd_10_21 q2021 (stM_o hS) (stM_r21 hS) dX9_waysBy_64 ?_
                  refine j_iload (pc := 67) C dX9_waysBy_67 rfl ?_
                  obtain ⟨i69, e69, h11, hk⟩ := oix_ex hk
                  refine j_iald (pc := 69) C (stM_a39 hS) h11 e69 dX9_waysBy_69 ?_
                  refine j_iadd (pc := 70) C dX9_waysBy_70 ?_
                  refine j_iconst (pc := 71) (v := nI 1) C dX9_waysBy_71 (by decide) ?_
                  refine j_isub (pc := 72) C dX9_waysBy_72 ?_
                  obtain ⟨r73, h12, hk⟩ := ob_some hk
                  refine j_callS (pc := 73) C (ct_X9_has h12) ms_X9_has q2270 dX9_waysBy_73 rfl rfl (Nat.le_of_ble_eq_true rfl) rfl ?_
                  refine j_if_eq (pc := 76) 101 C dX9_waysBy_76 (by decide) (fun h13 => ?_) (fun h13 => ?_)
                  · have hk := it_t h13 hk
                    refine j_iconst (pc := 101) (v := nI 0) C dX9_waysBy_101 (by decide) ?_
                    refine j_istore (pc := 102) C dX9_waysBy_102 (Nat.le_of_ble_eq_true rfl) rfl ?_
                    refine j_iinc (pc := 104) (nI 1) C dX9_waysBy_104 rfl (by decide) (Nat.le_of_ble_eq_true rfl) rfl ?_
                    refine j_goto (pc := 107) 28 C dX9_waysBy_107 (by decide) ?_
                    exact j_mask [true, true, true, true, true, true, true] (ih28 _ _ _ _ hk)
                  · have hk := it_f h13 hk
                    refine j_aload_n (pc := 79) C dX9_waysBy_79 rfl rfl ?_
                    refine j_iload (pc := 80) C dX9_waysBy_80 rfl ?_
                    refine j_aload_n (pc := 82) C dX9_waysBy_82 rfl rfl ?_
                    refine j_getR (pc := 83) C fd_10_21 q2021 (stM_o hS) (stM_r21 hS) dX9_waysBy_83 ?_
                    refine j_iload (pc := 86) C dX9_waysBy_86 rfl ?_
                    obtain ⟨i88, e88, h14, hk⟩ := oix_ex hk
                    refine j_iald (pc := 88) C (stM_a39 hS) h14 e88 dX9_waysBy_88 ?_
                    refine j_bipush (pc := 89) (v := nI 15) C dX9_waysBy_89 (by decide) ?_
                    obtain ⟨r91, h15, hk⟩ := ob_some hk
                    refine j_callV (pc := 91) C (ct_X9_fitsAhead hS h15) mv_X9_fitsAhead (stM_o hS) rfl rfl q2308 dX9_waysBy_91 rfl rfl (Nat.le_of_ble_eq_true rfl) rfl ?_
                    refine j_if_eq (pc := 94) 101 C dX9_waysBy_94 (by decide) (fun h16 => ?_) (fun h16 => ?_)
                    · have hk := it_t h16 hk
                      refine j_iconst (pc := 101) (v := nI 0) C dX9_waysBy_101 (by decide) ?_
                      refine j_istore (pc := 102) C dX9_waysBy_102 (Nat.le_of_ble_eq_true rfl) rfl ?_
                      refine j_iinc (pc := 104) (nI 1) C dX9_waysBy_104 rfl (by decide) (Nat.le_of_ble_eq_true rfl) rfl ?_
                      refine j_goto (pc := 107) 28 C dX9_waysBy_107 (by decide) ?_
                      exact j_mask [true, true, true, true, true, true, true] (ih28 _ _ _ _ hk)
                    · have hk := it_f h16 hk
                      refine j_iconst (pc := 97) (v := nI 1) C dX9_waysBy_97 (by decide) ?_
                      refine j_goto (pc := 98) 102 C dX9_waysBy_98 (by decide) ?_
                      refine j_istore (pc := 102) C dX9_waysBy_102 (Nat.le_of_ble_eq_true rfl) rfl ?_
                      refine j_iinc (pc := 104) (nI 1) C dX9_waysBy_104 rfl (by decide) (Nat.le_of_ble_eq_true rfl) rfl ?_
                      refine j_goto (pc := 107) 28 C dX9_waysBy_107 (by decide) ?_
                      exact j_mask [true, true, true, true, true, true, true] (ih28 _ _ _ _ hk)
          exact j_mask [true, true, true, true, true, true, true] (L28 _ _ _ _ _ _ _ hk)
    exact j_mask [true, true, true, true, false, false, false] (L13 _ _ _ _ _ hk)
def f_X9_countFrom_L125 (F : Nat) (c_X9_countFrom : Int32 → II → Option (Int64 × II)) (x1 : Int32) : Nat → Int64 → Int32 → II → Option (Int64 × II)
  | 0, _, _, _ => none
  | n125 + 1, x2, x4, I => if (nI 3) < x4 then some (x2, I) else (f_X9_fitsAhead F x1 x4 (nI 4080) I).bind fun r138 => if r138 = 0 then (f_X9_countFrom_L125 F c_X9_countFrom x1 n125) x2 (x4 + (nI 1)) I else oix x1 12 fun i151 => bd2 (c_X9_countFrom (x1 + (nI 1)) (up2 I 39 i151 x4)) fun r157 I157 => (f_X9_countFrom_L125 F c_X9_countFrom x1 n125) (x2 + r157) (x4 + (nI 1)) I157
def f_X9_countFrom_J79 (F : Nat) (c_X9_countFrom : Int32 → II → Option (Int64 × II)) (k10 : Int32 → Int32 → II → Option (Int64 × II)) (k18 : Int32 → Int32 → II → Option (Int64 × II)) (x3 : Int32) (x2 : Int32) (x4 : Int32) (x5 : Int32) (I : II) : Option (Int64 × II) := if x5 = 0 then k18 (x2 ||| (nI 0)) (x4 + (nI 1)) I else k18 (x2 ||| ((nI 1) <<< (((((nI 3) * x3) + x4) - (nI 1)) &&& 31))) (x4 + (nI 1)) I
def f_X9_countFrom_L30 (F : Nat) (c_X9_countFrom : Int32 → II → Option (Int64 × II)) (k10 : Int32 → Int32 → II → Option (Int64 × II)) (k18 : Int32 → Int32 → II → Option (Int64 × II)) (x3 : Int32) (x2 : Int32) (x4 : Int32) : Nat → Int32 → Int32 → II → Option (Int64 × II)
  | 0, _, _, _ => none
  | n30 + 1, x5, x6, I => if (nI 12) ≤ x6 then f_X9_countFrom_J79 F c_X9_countFrom k10 k18 x3 x2 x4 x5 I else if x5 = 0 then f_X9_countFrom_J79 F c_X9_countFrom k10 k18 x3 x2 x4 x5 I else oix (((nI 12) * x3) + x6) 144 fun i53 => oix x6 12 fun i64 => (f_X9_has (I 38 i53) ((((nI 3) * x4) + (I 39 i64)) - (nI 4))).bind fun r68 => (f_X9_countFrom_L30 F c_X9_countFrom k10 k18 x3 x2 x4 n30) r68 (x6 + (nI 1)) I
def f_X9_countFrom_L18 (F : Nat) (c_X9_countFrom : Int32 → II → Option (Int64 × II)) (k10 : Int32 → Int32 → II → Option (Int64 × II)) (x3 : Int32) : Nat → Int32 → Int32 → II → Option (Int64 × II)
  | 0, _, _, _ => none
  | n18 + 1, x2, x4, I => if (nI 3) < x4 then k10 x2 (x3 + (nI 1)) I else f_X9_countFrom_L30 F c_X9_countFrom k10 (f_X9_countFrom_L18 F c_X9_countFrom k10 x3 n18) x3 x2 x4 F (nI 1) (nI 4) I
def f_X9_countFrom_L10 (F : Nat) (c_X9_countFrom : Int32 → II → Option (Int64 × II)) : Nat → Int32 → Int32 → II → Option (Int64 × II)
  | 0, _, _, _ => none
  | n10 + 1, x2, x3, I => if (nI 4) ≤ x3 then bd2 (f_X9_waysBy F x2 I) fun r115 I115 => some ((Int32.toInt64 r115), I115) else f_X9_countFrom_L18 F c_X9_countFrom (f_X9_countFrom_L10 F c_X9_countFrom n10) x3 F x2 (nI 1) I
def fb_X9_countFrom (F : Nat) (c_X9_countFrom : Int32 → II → Option (Int64 × II)) (x1 : Int32) (I : II) : Option (Int64 × II) := if x1 = (nI 12) then f_X9_countFrom_L10 F c_X9_countFrom F (nI 0) (nI 0) I else f_X9_countFrom_L125 F c_X9_countFrom x1 F (0) (nI 1) I
theorem mv_X9_countFrom : MV yX9_countFrom cX9_countFrom 7 (some .long) 1 := ⟨q2322, qs74, q106, q2323, by decide +kernel⟩
set_option maxHeartbeats 4000000 in
theorem ctb_X9_countFrom {G : WG} {l : Launch} {sh : SH} (hS : StM sh) {Rf Rl : Nat} {fc_X9_countFrom lc_X9_countFrom : Nat} {c_X9_countFrom : Int32 → II → Option (Int64 × II)} {F : Nat} (hc_X9_countFrom : ∀ {x1 : Int32} {I : II} {r : Int64} {I9 : II}, c_X9_countFrom x1 I = some (r, I9) → CT G l yX9_countFrom (ws_ yX9_countFrom cX9_countFrom 7 (some .long)) (rmZ fc_X9_countFrom lc_X9_countFrom) [.ref (wad G 27), .int x1] (sh, I) (.returned (some (.long r))) (sh, I9)) (hr_X9_fitsAhead : rmOK rm_X9_fitsAhead (rmZ Rf Rl) 6 0 0 = true) (hr_X9_countFrom : rmOK (rmZ fc_X9_countFrom lc_X9_countFrom) (rmZ Rf Rl) 7 0 0 = true) (hr_X9_waysBy : rmOK rm_X9_waysBy (rmZ Rf Rl) 7 0 0 = true) (hr_X9_has : rmOK rm_X9_has (rmZ Rf Rl) 2 0 0 = true) {I : II} {x1 : Int32} {r : Int64} {I9 : II} (hk : fb_X9_countFrom F c_X9_countFrom x1 I = some (r, I9)) : CT G l yX9_countFrom (ws_ yX9_countFrom cX9_countFrom 7 (some .long)) (rmZ Rf Rl) [.ref (wad G 27), .int x1] (sh, I) (.returned (some (.long r))) (sh, I9) := by
  refine CT.ofJ "NineDemandsModel" rfl (by decide) (Nat.le_of_ble_eq_true rfl) ?_
  intro p e s m args below meth c C
  unfold fb_X9_countFrom at hk
  refine j_lv (lv' := [some (.ref (wad G 27)), some (.int x1), none, none, none, none, none]) rfl ?_
  refine j_iload_n (pc := 0) C dX9_countFrom_0 rfl rfl ?_
  refine j_bipush (pc := 1) (v := nI 12) C dX9_countFrom_1 (by decide) ?_
  refine j_icmp_ne (pc := 3) 120 C dX9_countFrom_3 (by decide) (fun h1 => ?_) (fun h1 => ?_)
  · have hk := it_f h1 hk
    refine j_lconst (pc := 120) (v := 0) C dX9_countFrom_120 (by decide) ?_
    refine j_lstore_n (pc := 121) C dX9_countFrom_121 rfl (Nat.le_of_ble_eq_true rfl) rfl ?_
    refine j_iconst (pc := 122) (v := nI 1) C dX9_countFrom_122 (by decide) ?_
    refine j_istore (pc := 123) C dX9_countFrom_123 (Nat.le_of_ble_eq_true rfl) rfl ?_
    have L125 : ∀ (x1 : Int32) (n125 : Nat) (x2 : Int64) (x4 : Int32) (I : II), f_X9_countFrom_L125 F c_X9_countFrom x1 n125 x2 x4 I = some (r, I9) → J G p l e (rmZ Rf Rl) s m args below meth c 7 (.returned (some (.long r))) (sh, I9) (rmZ Rf Rl).cells (rmZ Rf Rl).slots (sh, I) 0 0 125 [some (.ref (wad G 27)), some (.int x1), some (.long x2), none, some (.int x4), none, none] [] := by
      intro x1 n125
      induction n125 with
      | zero => intro x2 x4 I hk; rw [f_X9_countFrom_L125] at hk; cases hk
      | succ n125 ih125 =>
        intro x2 x4 I hk
        rw [f_X9_countFrom_L125] at hk
        generalize f_X9_countFrom_L125 F c_X9_countFrom x1 n125 = k125 at ih125 hk
        refine j_iload (pc := 125) C dX9_countFrom_125 rfl ?_
        refine j_iconst (pc := 127) (v := nI 3) C dX9_countFrom_127 (by decide) ?_
        refine j_icmp_gt (pc := 128) 168 C dX9_countFrom_128 (by decide) (fun h2 => ?_) (fun h2 => ?_)
        · have hk := it_t h2 hk
          refine j_lload_n (pc := 168) C dX9_countFrom_168 rfl rfl ?_
          exact j_lretW (pc := 169) C dX9_countFrom_169 (Nat.zero_le _) (Nat.zero_le _) hk
        · have hk := it_f h2 hk
          refine j_aload_n (pc := 131) C dX9_countFrom_131 rfl rfl ?_
          refine j_iload_n (pc := 132) C dX9_countFrom_132 rfl rfl ?_
          refine j_iload (pc := 133) C dX9_countFrom_133 rfl ?_
          refine j_sipush (pc := 135) (v := nI 4080) C dX9_countFrom_135 (by decide) ?_
          obtain ⟨r138, h3, hk⟩ := ob_some hk
          refine j_callV (pc := 138) C (ct_X9_fitsAhead hS h3) mv_X9_fitsAhead (stM_o hS) rfl rfl q2308 dX9_countFrom_138 rfl rfl (Nat.le_of_ble_eq_true rfl) hr_X9_fitsAhead ?_
          refine j_if_eq (pc := 141) 162 C dX9_countFrom_141 (by decide) (fun h4 => ?_) (fun h4 => ?_)
          · have hk := it_t h4 hk
            refine j_iinc (pc := 162) (nI 1) C dX9_countFrom_162 rfl (by decide) (Nat.le_of_ble_eq_true rfl) rfl ?_
            refine j_goto (pc := 165) 125 C dX9_countFrom_165 (by decide) ?_
            exact j_mask [true, true, true, false, true, false, false] (ih125 _ _ _ hk)
          · have hk := it_f h4 hk
            refine j_aload_n (pc := 144) C dX9_countFrom_144 rfl rfl ?_
            refine j_getR (pc := 145) C fd_10_21 q2021 (stM_o hS) (stM_r21 hS) dX9_countFrom_145 ?_
            refine j_iload_n (pc := 148) C dX9_countFrom_148 rfl rfl ?_
            refine j_iload (pc := 149) C dX9_countFrom_149 rfl ?_
            obtain ⟨i151, e151, h5, hk⟩ := oix_ex hk
            refine j_iast (pc := 151) C (stM_a39 hS) h5 e151 dX9_countFrom_151 ?_
            refine j_lload_n (pc := 152) C dX9_countFrom_152 rfl rfl ?_
            refine j_aload_n (pc := 153) C dX9_countFrom_153 rfl rfl ?_
            refine j_iload_n (pc := 154) C dX9_countFrom_154 rfl rfl ?_
            refine j_iconst (pc := 155) (v := nI 1) C dX9_countFrom_155 (by decide) ?_
            refine j_iadd (pc := 156) C dX9_countFrom_156 ?_
            obtain ⟨r157, I157, h6, hk⟩ := bd2_some hk
            refine j_callV (pc := 157) C (hc_X9_countFrom h6) mv_X9_countFrom (stM_o hS) rfl rfl q2320 dX9_countFrom_157 rfl rfl (Nat.le_of_ble_eq_true rfl) hr_X9_countFrom ?_
            refine j_ladd (pc := 160) C dX9_countFrom_160 ?_
            refine j_lstore_n (pc := 161) C dX9_countFrom_161 rfl (Nat.le_of_ble_eq_true rfl) rfl ?_
            refine j_iinc (pc := 162) (nI 1) C dX9_countFrom_162 rfl (by decide) (Nat.le_of_ble_eq_true rfl) rfl ?_
            refine j_goto (pc := 165) 125 C dX9_countFrom_165 (by decide) ?_
            exact j_mask [true, true, true, false, true, false, false] (ih125 _ _ _ hk)
    exact j_mask [true, true, true, false, true, false, false] (L125 _ _ _ _ _ hk)
  · have hk := it_t h1 hk
    refine j_iconst (pc := 6) (v := nI 0) C dX9_countFrom_6 (by decide) ?_
    refine j_istore_n (pc := 7) C dX9_countFrom_7 rfl (Nat.le_of_ble_eq_true rfl) rfl ?_
    refine j_iconst (pc := 8) (v := nI 0) C dX9_countFrom_8 (by decide) ?_
    refine j_istore_n (pc := 9) C dX9_countFrom_9 rfl (Nat.le_of_ble_eq_true rfl) rfl ?_
    have L10 : ∀  (n10 : Nat) (x2 : Int32) (x3 : Int32) (I : II), f_X9_countFrom_L10 F c_X9_countFrom n10 x2 x3 I = some (r, I9) → J G p l e (rmZ Rf Rl) s m args below meth c 7 (.returned (some (.long r))) (sh, I9) (rmZ Rf Rl).cells (rmZ Rf Rl).slots (sh, I) 0 0 10 [some (.ref (wad G 27)), none, some (.int x2), some (.int x3), none, none, none] [] := by
      intro  n10
      induction n10 with
      | zero => intro x2 x3 I hk; rw [f_X9_countFrom_L10] at hk; cases hk
      | succ n10 ih10 =>
        intro x2 x3 I hk
        rw [f_X9_countFrom_L10] at hk
        generalize f_X9_countFrom_L10 F c_X9_countFrom n10 = k10 at ih10 hk
        refine j_iload_n (pc := 10) C dX9_countFrom_10 rfl rfl ?_
        refine j_iconst (pc := 11) (v := nI 4) C dX9_countFrom_11 (by decide) ?_
        refine j_icmp_ge (pc := 12) 113 C dX9_countFrom_12 (by decide) (fun h7 => ?_) (fun h7 => ?_)
        · have hk := it_t h7 hk
          refine j_aload_n (pc := 113) C dX9_countFrom_113 rfl rfl ?_
          refine j_iload_n (pc := 114) C dX9_countFrom_114 rfl rfl ?_
          obtain ⟨r115, I115, h8, hk⟩ := bd2_some hk
          refine j_callV (pc := 115) C (ct_X9_waysBy hS h8) mv_X9_waysBy (stM_o hS) rfl rfl q2324 dX9_countFrom_115 rfl rfl (Nat.le_of_ble_eq_true rfl) hr_X9_waysBy ?_
          refine j_i2l (pc := 118) C dX9_countFrom_118 ?_
          exact j_lretW (pc := 119) C dX9_countFrom_119 (Nat.zero_le _) (Nat.zero_le _) hk
        · have hk := it_f h7 hk
          refine j_iconst (pc := 15) (v := nI 1) C dX9_countFrom_15 (by decide) ?_
          refine j_istore (pc := 16) C dX9_countFrom_16 (Nat.le_of_ble_eq_true rfl) rfl ?_
          have L18 : ∀ (x3 : Int32) (n18 : Nat) (x2 : Int32) (x4 : Int32) (I : II), f_X9_countFrom_L18 F c_X9_countFrom k10 x3 n18 x2 x4 I = some (r, I9) → J G p l e (rmZ Rf Rl) s m args below meth c 7 (.returned (some (.long r))) (sh, I9) (rmZ Rf Rl).cells (rmZ Rf Rl).slots (sh, I) 0 0 18 [some (.ref (wad G 27)), none, some (.int x2), some (.int x3), some (.int x4), none, none] [] := by
            intro x3 n18
            induction n18 with
            | zero => intro x2 x4 I hk; rw [f_X9_countFrom_L18] at hk; cases hk
            | succ n18 ih18 =>
              intro x2 x4 I hk
              rw [f_X9_countFrom_L18] at hk
              generalize f_X9_countFrom_L18 F c_X9_countFrom k10 x3 n18 = k18 at ih18 hk
              refine j_iload (pc := 18) C dX9_countFrom_18 rfl ?_
              refine j_iconst (pc := 20) (v := nI 3) C dX9_countFrom_20 (by decide) ?_
              refine j_icmp_gt (pc := 21) 107 C dX9_countFrom_21 (by decide) (fun h9 => ?_) (fun h9 => ?_)
              · have hk := it_t h9 hk
                refine j_iinc (pc := 107) (nI 1) C dX9_countFrom_107 rfl (by decide) (Nat.le_of_ble_eq_true rfl) rfl ?_
                refine j_goto (pc := 110) 10 C dX9_countFrom_110 (by decide) ?_
                exact j_mask [true, false, true, true, false, false, false] (ih10 _ _ _ hk)
              · have hk := it_f h9 hk
                refine j_iconst (pc := 24) (v := nI 1) C dX9_countFrom_24 (by decide) ?_
                refine j_istore (pc := 25) C dX9_countFrom_25 (Nat.le_of_ble_eq_true rfl) rfl ?_
                refine j_iconst (pc := 27) (v := nI 4) C dX9_countFrom_27 (by decide) ?_
                refine j_istore (pc := 28) C dX9_countFrom_28 (Nat.le_of_ble_eq_true rfl) rfl ?_
                have L30 : ∀ (x2 : Int32) (x4 : Int32) (n30 : Nat) (x5 : Int32) (x6 : Int32) (I : II), f_X9_countFrom_L30 F c_X9_countFrom k10 k18 x3 x2 x4 n30 x5 x6 I = some (r, I9) → J G p l e (rmZ Rf Rl) s m args below meth c 7 (.returned (some (.long r))) (sh, I9) (rmZ Rf Rl).cells (rmZ Rf Rl).slots (sh, I) 0 0 30 [some (.ref (wad G 27)), none, some (.int x2), some (.int x3), some (.int x4), some (.int x5), some (.int x6)] [] := by
                  intro x2 x4 n30
                  induction n30 with
                  | zero => intro x5 x6 I hk; rw [f_X9_countFrom_L30] at hk; cases hk
                  | succ n30 ih30 =>
                    intro x5 x6 I hk
                    rw [f_X9_countFrom_L30] at hk
                    generalize f_X9_countFrom_L30 F c_X9_countFrom k10 k18 x3 x2 x4 n30 = k30 at ih30 hk
                    refine j_iload (pc := 30) C dX9_countFrom_30 rfl ?_
                    refine j_bipush (pc := 32) (v := nI 12) C dX9_countFrom_32 (by decide) ?_
                    have Jn79 : ∀ (x2 : Int32) (x4 : Int32) (x5 : Int32) (I : II), f_X9_countFrom_J79 F c_X9_countFrom k10 k18 x3 x2 x4 x5 I = some (r, I9) → J G p l e (rmZ Rf Rl) s m args below meth c 7 (.returned (some (.long r))) (sh, I9) (rmZ Rf Rl).cells (rmZ Rf Rl).slots (sh, I) 0 0 79 [some (.ref (wad G 27)), none, some (.int x2), some (.int x3), some (.int x4), some (.int x5), none] [] := by
                      intro x2 x4 x5 I hk
                      unfold f_X9_countFrom_J79 at hk
                      refine j_iload_n (pc := 79) C dX9_countFrom_79 rfl rfl ?_
                      refine j_iload (pc := 80) C dX9_countFrom_80 rfl ?_
                      refine j_if_eq (pc := 82) 98 C dX9_countFrom_82 (by decide) (fun h10 => ?_) (fun h10 => ?_)
                      · have hk := it_t h10 hk
                        refine j_iconst (pc := 98) (v := nI 0) C dX9_countFrom_98 (by decide) ?_
                        refine j_ior (pc := 99) C dX9_countFrom_99 ?_
                        refine j_istore_n (pc := 100) C dX9_countFrom_100 rfl (Nat.le_of_ble_eq_true rfl) rfl ?_
                        refine j_iinc (pc := 101) (nI 1) C dX9_countFrom_101 rfl (by decide) (Nat.le_of_ble_eq_true rfl) rfl ?_
                        refine j_goto (pc := 104) 18 C dX9_countFrom_104 (by decide) ?_
                        exact j_mask [true, false, true, true, true, false, false] (ih18 _ _ _ hk)
                      · have hk := it_f h10 hk
                        refine j_iconst (pc := 85) (v := nI 1) C dX9_countFrom_85 (by decide) ?_
                        refine j_iconst (pc := 86) (v := nI 3) C dX9_countFrom_86 (by decide) ?_
                        refine j_iload_n (pc := 87) C dX9_countFrom_87 rfl rfl ?_
                        refine j_imul (pc := 88) C dX9_countFrom_88 ?_
                        refine j_iload (pc := 89) C dX9_countFrom_89 rfl ?_
                        refine j_iadd (pc := 91) C dX9_countFrom_91 ?_
                        refine j_iconst (pc := 92) (v := nI 1) C dX9_countFrom_92 (by decide) ?_
                        refine j_isub (pc := 93) C dX9_countFrom_93 ?_
                        refine j_ishl (pc := 94) C dX9_countFrom_94 ?_
                        refine j_goto (pc := 95) 99 C dX9_countFrom_95 (by decide) ?_
                        refine j_ior (pc := 99) C dX9_countFrom_99 ?_
                        refine j_istore_n (pc := 100) C dX9_countFrom_100 rfl (Nat.le_of_ble_eq_true rfl) rfl ?_
                        refine j_iinc (pc := 101) (nI 1) C dX9_countFrom_101 rfl (by decide) (Nat.le_of_ble_eq_true rfl) rfl ?_
                        refine j_goto (pc := 104) 18 C dX9_countFrom_104 (by decide) ?_
                        exact j_mask [true, false, true, true, true, false, false] (ih18 _ _ _ hk)
                    refine j_icmp_ge (pc := 34) 79 C dX9_countFrom_34 (by decide) (fun h11 => ?_) (fun h11 => ?_)
                    · have hk := it_t h11 hk
                      exact j_mask [true, false, true, true, true, true, false] (Jn79 _ _ _ _ hk)
                    · have hk := it_f h11 hk
                      refine j_iload (pc := 37) C dX9_countFrom_37 rfl ?_
                      refine j_if_eq (pc := 39) 79 C dX9_countFrom_39 (by decide) (fun h12 => ?_) (fun h12 => ?_)
                      · have hk := it_t h12 hk
                        exact j_mask [true, false, true, true, true, true, false] (Jn79 _ _ _ _ hk)
                      · have hk := it_f h12 hk
                        refine j_aload_n (pc := 42) C dX9_countFrom_42 rfl rfl ?_
                        refine j_getR (pc := 43) C fd_10_20 q2020 (stM_o hS) (stM_r20 hS) dX9_countFrom_43 ?_
                        refine j_bipush (pc := 46) (v := nI 12) C dX9_countFrom_46 (by decide) ?_
                        refine j_iload_n (pc := 48) C dX9_countFrom_48 rfl rfl ?_
                        refine j_imul (pc := 49) C dX9_countFrom_49 ?_
                        refine j_iload (pc := 50) C dX9_countFrom_50 rfl ?_
                        refine j_iadd (pc := 52) C dX9_countFrom_52 ?_
                        obtain ⟨i53, e53, h13, hk⟩ := oix_ex hk
                        refine j_iald (pc := 53) C (stM_a38 hS) h13 e53 dX9_countFrom_53 ?_
                        refine j_iconst (pc := 54) (v := nI 3) C dX9_countFrom_54 (by decide) ?_
                        refine j_iload (pc := 55) C dX9_countFrom_55 rfl ?_
                        refine j_imul (pc := 57) C dX9_countFrom_57 ?_
                        refine j_aload_n (pc := 58) C dX9_countFrom_58 rfl rfl ?_
                        refine j_getR (pc := 59) C fd_10_21 q2021 (stM_o hS) (stM_r21 hS) dX9_countFrom_59 ?_
                        refine j_iload (pc := 62) C dX9_countFrom_62 rfl ?_
                        obtain ⟨i64, e64, h14, hk⟩ := oix_ex hk
                        refine j_iald (pc := 64) C (stM_a39 hS) h14 e64 dX9_countFrom_64 ?_
                        refine j_iadd (pc := 65) C dX9_countFrom_65 ?_
                        refine j_iconst (pc := 66) (v := nI 4) C dX9_countFrom_66 (by decide) ?_
                        refine j_isub (pc := 67) C dX9_countFrom_67 ?_
                        obtain ⟨r68, h15, hk⟩ := ob_some hk
                        refine j_callS (pc := 68) C (ct_X9_has h15) ms_X9_has q2270 dX9_countFrom_68 rfl rfl (Nat.le_of_ble_eq_true rfl) hr_X9_has ?_
                        refine j_istore (pc := 71) C dX9_countFrom_71 (Nat.le_of_ble_eq_true rfl) rfl ?_
                        refine j_iinc (pc := 73) (nI 1) C dX9_countFrom_73 rfl (by decide) (Nat.le_of_ble_eq_true rfl) rfl ?_
                        refine j_goto (pc := 76) 30 C dX9_countFrom_76 (by decide) ?_
                        exact j_mask [true, false, true, true, true, true, true] (ih30 _ _ _ hk)
                exact j_mask [true, false, true, true, true, true, true] (L30 _ _ _ _ _ _ hk)
          exact j_mask [true, false, true, true, true, false, false] (L18 _ _ _ _ _ hk)
    exact j_mask [true, false, true, true, false, false, false] (L10  _ _ _ _ hk)
def f_X9_countFrom (F : Nat) : Nat → Int32 → II → Option (Int64 × II)
  | 0 => fun _ _ => none
  | d + 1 => fb_X9_countFrom F (f_X9_countFrom F d)
theorem f_X9_countFrom_s (F d : Nat) : f_X9_countFrom F (d + 1) = fb_X9_countFrom F (f_X9_countFrom F d) := rfl
abbrev rm_X9_countFrom (d : Nat) : Room := rmZ (d + 3) (26 * d + 72)
set_option maxHeartbeats 4000000 in
theorem ctg_X9_countFrom {G : WG} {l : Launch} {sh : SH} (hS : StM sh) (F : Nat) : ∀ d : Nat, (∀ (x1 : Int32) (I : II) (r : Int64) (I9 : II), f_X9_countFrom F d x1 I = some (r, I9) → CT G l yX9_countFrom (ws_ yX9_countFrom cX9_countFrom 7 (some .long)) (rm_X9_countFrom d) [.ref (wad G 27), .int x1] (sh, I) (.returned (some (.long r))) (sh, I9)) := by
  intro d
  induction d with
  | zero =>
    (intros; rename_i hk; cases hk)
  | succ d ih =>
    have ih_X9_countFrom := ih
    · intro v0 v1 v2 v3 hk
      exact ctb_X9_countFrom (F := F) hS (fun {a0 a1 a2 a3} hk => ih_X9_countFrom a0 a1 a2 a3 hk) (rmOK.i (by dsimp only; omega) (by dsimp only; omega) (by dsimp only; omega) (by dsimp only; omega)) (rmOK.i (by dsimp only; omega) (by dsimp only; omega) (by dsimp only; omega) (by dsimp only; omega)) (rmOK.i (by dsimp only; omega) (by dsimp only; omega) (by dsimp only; omega) (by dsimp only; omega)) (rmOK.i (by dsimp only; omega) (by dsimp only; omega) (by dsimp only; omega) (by dsimp only; omega)) hk
theorem ct_X9_countFrom {G : WG} {l : Launch} {sh : SH} (hS : StM sh) {F d : Nat} {I : II} {x1 : Int32} {r : Int64} {I9 : II} (hk : f_X9_countFrom F d x1 I = some (r, I9)) : CT G l yX9_countFrom (ws_ yX9_countFrom cX9_countFrom 7 (some .long)) (rm_X9_countFrom d) [.ref (wad G 27), .int x1] (sh, I) (.returned (some (.long r))) (sh, I9) := (ctg_X9_countFrom hS F d) _ _ _ _ hk
def f_X9_rules_L23 (F : Nat) : Nat → Int32 → II → Option (Int64 × II)
  | 0, _, _ => none
  | n23 + 1, x2, I => if (nI 4096) ≤ x2 then bd2 (f_X9_countFrom F 13 (nI 4) I) fun r45 I45 => some (r45, I45) else oix x2 4096 fun i36 => (f_X9_rules_L23 F n23) (x2 + (nI 1)) (up2 I 40 i36 (-1))
def f_X9_rules (F : Nat) (x1 : Int32) (I : II) : Option (Int64 × II) := (f_X9_isSet x1 I).bind fun r2 => if r2 = 0 then bd2 (f_X9_finding (-1000001) I) fun r11 I11 => some ((Int32.toInt64 r11), I11) else (f_X9_gather F x1 I).bind fun I18 => f_X9_rules_L23 F F (nI 0) I18
abbrev rm_X9_rules : Room := { frames := 17, cells := 0, slots := 0, locals := 436 }
theorem mv_X9_rules : MV yX9_rules cX9_rules 3 (some .long) 1 := ⟨q2317, q2318, q106, q2319, by decide +kernel⟩
set_option maxHeartbeats 4000000 in
theorem ct_X9_rules {G : WG} {l : Launch} {sh : SH} (hS : StM sh) {I : II} {F : Nat} {x1 : Int32} {r : Int64} {I9 : II} (hk : f_X9_rules F x1 I = some (r, I9)) : CT G l yX9_rules (ws_ yX9_rules cX9_rules 3 (some .long)) rm_X9_rules [.ref (wad G 27), .int x1] (sh, I) (.returned (some (.long r))) (sh, I9) := by
  refine CT.ofJ "NineDemandsModel" rfl (by decide) (Nat.le_of_ble_eq_true rfl) ?_
  intro p e s m args below meth c C
  unfold f_X9_rules at hk
  refine j_lv (lv' := [some (.ref (wad G 27)), some (.int x1), none]) rfl ?_
  refine j_aload_n (pc := 0) C dX9_rules_0 rfl rfl ?_
  refine j_iload_n (pc := 1) C dX9_rules_1 rfl rfl ?_
  obtain ⟨r2, h1, hk⟩ := ob_some hk
  refine j_callV (pc := 2) C (ct_X9_isSet hS h1) mv_X9_isSet (stM_o hS) rfl rfl q2289 dX9_rules_2 rfl rfl (Nat.le_of_ble_eq_true rfl) rfl ?_
  refine j_if_ne (pc := 5) 16 C dX9_rules_5 (by decide) (fun h2 => ?_) (fun h2 => ?_)
  · have hk := it_f h2 hk
    refine j_aload_n (pc := 16) C dX9_rules_16 rfl rfl ?_
    refine j_iload_n (pc := 17) C dX9_rules_17 rfl rfl ?_
    obtain ⟨I18, h3, hk⟩ := ob_some hk
    refine j_callV (pc := 18) C (ct_X9_gather hS h3) mv_X9_gather (stM_o hS) rfl rfl q2297 dX9_rules_18 rfl rfl (Nat.le_of_ble_eq_true rfl) rfl ?_
    refine j_iconst (pc := 21) (v := nI 0) C dX9_rules_21 (by decide) ?_
    refine j_istore_n (pc := 22) C dX9_rules_22 rfl (Nat.le_of_ble_eq_true rfl) rfl ?_
    have L23 : ∀  (n23 : Nat) (x2 : Int32) (I : II), f_X9_rules_L23 F n23 x2 I = some (r, I9) → J G p l e rm_X9_rules s m args below meth c 3 (.returned (some (.long r))) (sh, I9) (rm_X9_rules).cells (rm_X9_rules).slots (sh, I) 0 0 23 [some (.ref (wad G 27)), none, some (.int x2)] [] := by
      intro  n23
      induction n23 with
      | zero => intro x2 I hk; rw [f_X9_rules_L23] at hk; cases hk
      | succ n23 ih23 =>
        intro x2 I hk
        rw [f_X9_rules_L23] at hk
        generalize f_X9_rules_L23 F n23 = k23 at ih23 hk
        refine j_iload_n (pc := 23) C dX9_rules_23 rfl rfl ?_
        refine j_sipush (pc := 24) (v := nI 4096) C dX9_rules_24 (by decide) ?_
        refine j_icmp_ge (pc := 27) 43 C dX9_rules_27 (by decide) (fun h4 => ?_) (fun h4 => ?_)
        · have hk := it_t h4 hk
          refine j_aload_n (pc := 43) C dX9_rules_43 rfl rfl ?_
          refine j_iconst (pc := 44) (v := nI 4) C dX9_rules_44 (by decide) ?_
          obtain ⟨r45, I45, h5, hk⟩ := bd2_some hk
          refine j_callV (pc := 45) C (ct_X9_countFrom hS h5) mv_X9_countFrom (stM_o hS) rfl rfl q2320 dX9_rules_45 rfl rfl (Nat.le_of_ble_eq_true rfl) rfl ?_
          exact j_lretW (pc := 48) C dX9_rules_48 (Nat.le_of_ble_eq_true rfl) (Nat.le_of_ble_eq_true rfl) hk
        · have hk := it_f h4 hk
          refine j_aload_n (pc := 30) C dX9_rules_30 rfl rfl ?_
          refine j_getR (pc := 31) C fd_10_22 q2022 (stM_o hS) (stM_r22 hS) dX9_rules_31 ?_
          refine j_iload_n (pc := 34) C dX9_rules_34 rfl rfl ?_
          refine j_iconst (pc := 35) (v := (-1)) C dX9_rules_35 (by decide) ?_
          obtain ⟨i36, e36, h6, hk⟩ := oix_ex hk
          refine j_iast (pc := 36) C (stM_a40 hS) h6 e36 dX9_rules_36 ?_
          refine j_iinc (pc := 37) (nI 1) C dX9_rules_37 rfl (by decide) (Nat.le_of_ble_eq_true rfl) rfl ?_
          refine j_goto (pc := 40) 23 C dX9_rules_40 (by decide) ?_
          exact j_mask [true, false, true] (ih23 _ _ hk)
    exact j_mask [true, false, true] (L23  _ _ _ hk)
  · have hk := it_t h2 hk
    refine j_aload_n (pc := 8) C dX9_rules_8 rfl rfl ?_
    refine j_ldc (pc := 9) (v := (-1000001)) C q2110 dX9_rules_9 ?_
    obtain ⟨r11, I11, h7, hk⟩ := bd2_some hk
    refine j_callV (pc := 11) C (ct_X9_finding hS h7) mv_X9_finding (stM_o hS) rfl rfl q2111 dX9_rules_11 rfl rfl (Nat.le_of_ble_eq_true rfl) rfl ?_
    refine j_i2l (pc := 14) C dX9_rules_14 ?_
    exact j_lretW (pc := 15) C dX9_rules_15 (Nat.le_of_ble_eq_true rfl) (Nat.le_of_ble_eq_true rfl) hk
def f_X9_may_J15 (F : Nat) (I : II) : Option (Int32 × II) := bd2 (f_X9_finding (-1000001) I) fun r18 I18 => some (r18, I18)
def f_X9_may_L40 (F : Nat) (x2 : Int32) (x3 : Int32) : Nat → Int32 → Int32 → II → Option (Int32 × II)
  | 0, _, _, _ => none
  | n40 + 1, x4, x5, I => if (nI 3) < x5 then some (x4, I) else oix x2 12 fun i59 => bd2 (f_X9_seek F 13 (nI 0) (nI 4095) (up2 I 37 i59 (x3 &&& ((nI 1) <<< ((x5 - (nI 1)) &&& 31))))) fun r67 I67 => if r67 = 0 then (f_X9_may_L40 F x2 x3 n40) (x4 ||| (nI 0)) (x5 + (nI 1)) I67 else (f_X9_may_L40 F x2 x3 n40) (x4 ||| ((nI 1) <<< (x5 &&& 31))) (x5 + (nI 1)) I67
def f_X9_may (F : Nat) (x1 : Int32) (x2 : Int32) (I : II) : Option (Int32 × II) := (f_X9_isSet x1 I).bind fun r2 => if r2 = 0 then f_X9_may_J15 F I else (f_X9_isHall x2).bind fun r9 => if r9 = 0 then f_X9_may_J15 F I else (f_X9_gather F x1 I).bind fun I24 => oix x2 12 fun i32 => f_X9_may_L40 F x2 (I24 37 i32) F (nI 0) (nI 1) I24
abbrev rm_X9_may : Room := { frames := 16, cells := 0, slots := 0, locals := 368 }
theorem mv_X9_may : MV yX9_may cX9_may 6 (some .int) 2 := ⟨q2329, q2330, q106, q2331, by decide +kernel⟩
set_option maxHeartbeats 4000000 in
theorem ct_X9_may {G : WG} {l : Launch} {sh : SH} (hS : StM sh) {I : II} {F : Nat} {x1 : Int32} {x2 : Int32} {r : Int32} {I9 : II} (hk : f_X9_may F x1 x2 I = some (r, I9)) : CT G l yX9_may (ws_ yX9_may cX9_may 6 (some .int)) rm_X9_may [.ref (wad G 27), .int x1, .int x2] (sh, I) (.returned (some (.int r))) (sh, I9) := by
  refine CT.ofJ "NineDemandsModel" rfl (by decide) (Nat.le_of_ble_eq_true rfl) ?_
  intro p e s m args below meth c C
  unfold f_X9_may at hk
  refine j_lv (lv' := [some (.ref (wad G 27)), some (.int x1), some (.int x2), none, none, none]) rfl ?_
  refine j_aload_n (pc := 0) C dX9_may_0 rfl rfl ?_
  refine j_iload_n (pc := 1) C dX9_may_1 rfl rfl ?_
  obtain ⟨r2, h1, hk⟩ := ob_some hk
  refine j_callV (pc := 2) C (ct_X9_isSet hS h1) mv_X9_isSet (stM_o hS) rfl rfl q2289 dX9_may_2 rfl rfl (Nat.le_of_ble_eq_true rfl) rfl ?_
  have Jn15 : ∀ (I : II), f_X9_may_J15 F I = some (r, I9) → J G p l e rm_X9_may s m args below meth c 6 (.returned (some (.int r))) (sh, I9) (rm_X9_may).cells (rm_X9_may).slots (sh, I) 0 0 15 [some (.ref (wad G 27)), none, none, none, none, none] [] := by
    intro I hk
    unfold f_X9_may_J15 at hk
    refine j_aload_n (pc := 15) C dX9_may_15 rfl rfl ?_
    refine j_ldc (pc := 16) (v := (-1000001)) C q2110 dX9_may_16 ?_
    obtain ⟨r18, I18, h2, hk⟩ := bd2_some hk
    refine j_callV (pc := 18) C (ct_X9_finding hS h2) mv_X9_finding (stM_o hS) rfl rfl q2111 dX9_may_18 rfl rfl (Nat.le_of_ble_eq_true rfl) rfl ?_
    exact j_iretW (pc := 21) C dX9_may_21 (Nat.le_of_ble_eq_true rfl) (Nat.le_of_ble_eq_true rfl) hk
  refine j_if_eq (pc := 5) 15 C dX9_may_5 (by decide) (fun h3 => ?_) (fun h3 => ?_)
  · have hk := it_t h3 hk
    exact j_mask [true, false, false, false, false, false] (Jn15 _ hk)
  · have hk := it_f h3 hk
    refine j_iload_n (pc := 8) C dX9_may_8 rfl rfl ?_
    obtain ⟨r9, h4, hk⟩ := ob_some hk
    refine j_callS (pc := 9) C (ct_X9_isHall h4) ms_X9_isHall q2104 dX9_may_9 rfl rfl (Nat.le_of_ble_eq_true rfl) rfl ?_
    refine j_if_ne (pc := 12) 22 C dX9_may_12 (by decide) (fun h5 => ?_) (fun h5 => ?_)
    · have hk := it_f h5 hk
      refine j_aload_n (pc := 22) C dX9_may_22 rfl rfl ?_
      refine j_iload_n (pc := 23) C dX9_may_23 rfl rfl ?_
      obtain ⟨I24, h6, hk⟩ := ob_some hk
      refine j_callV (pc := 24) C (ct_X9_gather hS h6) mv_X9_gather (stM_o hS) rfl rfl q2297 dX9_may_24 rfl rfl (Nat.le_of_ble_eq_true rfl) rfl ?_
      refine j_aload_n (pc := 27) C dX9_may_27 rfl rfl ?_
      refine j_getR (pc := 28) C fd_10_19 q2019 (stM_o hS) (stM_r19 hS) dX9_may_28 ?_
      refine j_iload_n (pc := 31) C dX9_may_31 rfl rfl ?_
      obtain ⟨i32, e32, h7, hk⟩ := oix_ex hk
      refine j_iald (pc := 32) C (stM_a37 hS) h7 e32 dX9_may_32 ?_
      refine j_istore_n (pc := 33) C dX9_may_33 rfl (Nat.le_of_ble_eq_true rfl) rfl ?_
      refine j_iconst (pc := 34) (v := nI 0) C dX9_may_34 (by decide) ?_
      refine j_istore (pc := 35) C dX9_may_35 (Nat.le_of_ble_eq_true rfl) rfl ?_
      refine j_iconst (pc := 37) (v := nI 1) C dX9_may_37 (by decide) ?_
      refine j_istore (pc := 38) C dX9_may_38 (Nat.le_of_ble_eq_true rfl) rfl ?_
      have L40 : ∀ (x2 : Int32) (x3 : Int32) (n40 : Nat) (x4 : Int32) (x5 : Int32) (I : II), f_X9_may_L40 F x2 x3 n40 x4 x5 I = some (r, I9) → J G p l e rm_X9_may s m args below meth c 6 (.returned (some (.int r))) (sh, I9) (rm_X9_may).cells (rm_X9_may).slots (sh, I) 0 0 40 [some (.ref (wad G 27)), none, some (.int x2), some (.int x3), some (.int x4), some (.int x5)] [] := by
        intro x2 x3 n40
        induction n40 with
        | zero => intro x4 x5 I hk; rw [f_X9_may_L40] at hk; cases hk
        | succ n40 ih40 =>
          intro x4 x5 I hk
          rw [f_X9_may_L40] at hk
          generalize f_X9_may_L40 F x2 x3 n40 = k40 at ih40 hk
          refine j_iload (pc := 40) C dX9_may_40 rfl ?_
          refine j_iconst (pc := 42) (v := nI 3) C dX9_may_42 (by decide) ?_
          refine j_icmp_gt (pc := 43) 90 C dX9_may_43 (by decide) (fun h8 => ?_) (fun h8 => ?_)
          · have hk := it_t h8 hk
            refine j_iload (pc := 90) C dX9_may_90 rfl ?_
            exact j_iretW (pc := 92) C dX9_may_92 (Nat.le_of_ble_eq_true rfl) (Nat.le_of_ble_eq_true rfl) hk
          · have hk := it_f h8 hk
            refine j_aload_n (pc := 46) C dX9_may_46 rfl rfl ?_
            refine j_getR (pc := 47) C fd_10_19 q2019 (stM_o hS) (stM_r19 hS) dX9_may_47 ?_
            refine j_iload_n (pc := 50) C dX9_may_50 rfl rfl ?_
            refine j_iload_n (pc := 51) C dX9_may_51 rfl rfl ?_
            refine j_iconst (pc := 52) (v := nI 1) C dX9_may_52 (by decide) ?_
            refine j_iload (pc := 53) C dX9_may_53 rfl ?_
            refine j_iconst (pc := 55) (v := nI 1) C dX9_may_55 (by decide) ?_
            refine j_isub (pc := 56) C dX9_may_56 ?_
            refine j_ishl (pc := 57) C dX9_may_57 ?_
            refine j_iand (pc := 58) C dX9_may_58 ?_
            obtain ⟨i59, e59, h9, hk⟩ := oix_ex hk
            refine j_iast (pc := 59) C (stM_a37 hS) h9 e59 dX9_may_59 ?_
            refine j_iload (pc := 60) C dX9_may_60 rfl ?_
            refine j_aload_n (pc := 62) C dX9_may_62 rfl rfl ?_
            refine j_iconst (pc := 63) (v := nI 0) C dX9_may_63 (by decide) ?_
            refine j_sipush (pc := 64) (v := nI 4095) C dX9_may_64 (by decide) ?_
            obtain ⟨r67, I67, h10, hk⟩ := bd2_some hk
            refine j_callV (pc := 67) C (ct_X9_seek hS h10) mv_X9_seek (stM_o hS) rfl rfl q2304 dX9_may_67 rfl rfl (Nat.le_of_ble_eq_true rfl) rfl ?_
            refine j_if_eq (pc := 70) 80 C dX9_may_70 (by decide) (fun h11 => ?_) (fun h11 => ?_)
            · have hk := it_t h11 hk
              refine j_iconst (pc := 80) (v := nI 0) C dX9_may_80 (by decide) ?_
              refine j_ior (pc := 81) C dX9_may_81 ?_
              refine j_istore (pc := 82) C dX9_may_82 (Nat.le_of_ble_eq_true rfl) rfl ?_
              refine j_iinc (pc := 84) (nI 1) C dX9_may_84 rfl (by decide) (Nat.le_of_ble_eq_true rfl) rfl ?_
              refine j_goto (pc := 87) 40 C dX9_may_87 (by decide) ?_
              exact j_mask [true, false, true, true, true, true] (ih40 _ _ _ hk)
            · have hk := it_f h11 hk
              refine j_iconst (pc := 73) (v := nI 1) C dX9_may_73 (by decide) ?_
              refine j_iload (pc := 74) C dX9_may_74 rfl ?_
              refine j_ishl (pc := 76) C dX9_may_76 ?_
              refine j_goto (pc := 77) 81 C dX9_may_77 (by decide) ?_
              refine j_ior (pc := 81) C dX9_may_81 ?_
              refine j_istore (pc := 82) C dX9_may_82 (Nat.le_of_ble_eq_true rfl) rfl ?_
              refine j_iinc (pc := 84) (nI 1) C dX9_may_84 rfl (by decide) (Nat.le_of_ble_eq_true rfl) rfl ?_
              refine j_goto (pc := 87) 40 C dX9_may_87 (by decide) ?_
              exact j_mask [true, false, true, true, true, true] (ih40 _ _ _ hk)
      exact j_mask [true, false, true, true, true, true] (L40 _ _ _ _ _ _ hk)
    · have hk := it_t h5 hk
      exact j_mask [true, false, false, false, false, false] (Jn15 _ hk)
def f_X9_seekNear_J35 (F : Nat) (c_X9_seekNear : Int32 → Int32 → II → Option (Int32 × II)) (k10 : Int32 → II → Option (Int32 × II)) (x1 : Int32) (x2 : Int32) (x3 : Int32) (s0 : Int32) (I : II) : Option (Int32 × II) := if s0 < 0 then k10 (x3 + (nI 1)) I else (f_X9_fitsAhead F x1 x3 (nI 4095) I).bind fun r48 => if r48 = 0 then k10 (x3 + (nI 1)) I else oix x1 12 fun i60 => bd2 (c_X9_seekNear (x1 + (nI 1)) s0 (up2 I 39 i60 x3)) fun r67 I67 => if r67 = 0 then k10 (x3 + (nI 1)) I67 else some ((nI 1), I67)
def f_X9_seekNear_L10 (F : Nat) (c_X9_seekNear : Int32 → Int32 → II → Option (Int32 × II)) (x1 : Int32) (x2 : Int32) : Nat → Int32 → II → Option (Int32 × II)
  | 0, _, _ => none
  | n10 + 1, x3, I => if (nI 3) < x3 then some ((nI 0), I) else oix ((nI 10) + x1) 366 fun i24 => if x3 = (I 28 i24) then f_X9_seekNear_J35 F c_X9_seekNear (f_X9_seekNear_L10 F c_X9_seekNear x1 x2 n10) x1 x2 x3 x2 I else f_X9_seekNear_J35 F c_X9_seekNear (f_X9_seekNear_L10 F c_X9_seekNear x1 x2 n10) x1 x2 x3 (x2 - (nI 1)) I
def fb_X9_seekNear (F : Nat) (c_X9_seekNear : Int32 → Int32 → II → Option (Int32 × II)) (x1 : Int32) (x2 : Int32) (I : II) : Option (Int32 × II) := if x1 = (nI 12) then some ((nI 1), I) else f_X9_seekNear_L10 F c_X9_seekNear x1 x2 F (nI 1) I
theorem mv_X9_seekNear : MV yX9_seekNear cX9_seekNear 5 (some .boolean) 2 := ⟨q2338, qs76, q106, q2339, by decide +kernel⟩
set_option maxHeartbeats 4000000 in
theorem ctb_X9_seekNear {G : WG} {l : Launch} {sh : SH} (hS : StM sh) {Rf Rl : Nat} {fc_X9_seekNear lc_X9_seekNear : Nat} {c_X9_seekNear : Int32 → Int32 → II → Option (Int32 × II)} {F : Nat} (hc_X9_seekNear : ∀ {x1 : Int32} {x2 : Int32} {I : II} {r : Int32} {I9 : II}, c_X9_seekNear x1 x2 I = some (r, I9) → CT G l yX9_seekNear (ws_ yX9_seekNear cX9_seekNear 5 (some .boolean)) (rmZ fc_X9_seekNear lc_X9_seekNear) [.ref (wad G 27), .int x1, .int x2] (sh, I) (.returned (some (.int r))) (sh, I9)) (hr_X9_fitsAhead : rmOK rm_X9_fitsAhead (rmZ Rf Rl) 6 0 0 = true) (hr_X9_seekNear : rmOK (rmZ fc_X9_seekNear lc_X9_seekNear) (rmZ Rf Rl) 5 0 0 = true) {I : II} {x1 : Int32} {x2 : Int32} {r : Int32} {I9 : II} (hk : fb_X9_seekNear F c_X9_seekNear x1 x2 I = some (r, I9)) : CT G l yX9_seekNear (ws_ yX9_seekNear cX9_seekNear 5 (some .boolean)) (rmZ Rf Rl) [.ref (wad G 27), .int x1, .int x2] (sh, I) (.returned (some (.int r))) (sh, I9) := by
  refine CT.ofJ "NineDemandsModel" rfl (by decide) (Nat.le_of_ble_eq_true rfl) ?_
  intro p e s m args below meth c C
  unfold fb_X9_seekNear at hk
  refine j_lv (lv' := [some (.ref (wad G 27)), some (.int x1), some (.int x2), none, none]) rfl ?_
  refine j_iload_n (pc := 0) C dX9_seekNear_0 rfl rfl ?_
  refine j_bipush (pc := 1) (v := nI 12) C dX9_seekNear_1 (by decide) ?_
  refine j_icmp_ne (pc := 3) 8 C dX9_seekNear_3 (by decide) (fun h1 => ?_) (fun h1 => ?_)
  · have hk := it_f h1 hk
    refine j_iconst (pc := 8) (v := nI 1) C dX9_seekNear_8 (by decide) ?_
    refine j_istore_n (pc := 9) C dX9_seekNear_9 rfl (Nat.le_of_ble_eq_true rfl) rfl ?_
    have L10 : ∀ (x1 : Int32) (x2 : Int32) (n10 : Nat) (x3 : Int32) (I : II), f_X9_seekNear_L10 F c_X9_seekNear x1 x2 n10 x3 I = some (r, I9) → J G p l e (rmZ Rf Rl) s m args below meth c 5 (.returned (some (.int r))) (sh, I9) (rmZ Rf Rl).cells (rmZ Rf Rl).slots (sh, I) 0 0 10 [some (.ref (wad G 27)), some (.int x1), some (.int x2), some (.int x3), none] [] := by
      intro x1 x2 n10
      induction n10 with
      | zero => intro x3 I hk; rw [f_X9_seekNear_L10] at hk; cases hk
      | succ n10 ih10 =>
        intro x3 I hk
        rw [f_X9_seekNear_L10] at hk
        generalize f_X9_seekNear_L10 F c_X9_seekNear x1 x2 n10 = k10 at ih10 hk
        refine j_iload_n (pc := 10) C dX9_seekNear_10 rfl rfl ?_
        refine j_iconst (pc := 11) (v := nI 3) C dX9_seekNear_11 (by decide) ?_
        refine j_icmp_gt (pc := 12) 81 C dX9_seekNear_12 (by decide) (fun h2 => ?_) (fun h2 => ?_)
        · have hk := it_t h2 hk
          refine j_iconst (pc := 81) (v := nI 0) C dX9_seekNear_81 (by decide) ?_
          exact j_zretW (pc := 82) C dX9_seekNear_82 (Nat.zero_le _) (Nat.zero_le _) rfl hk
        · have hk := it_f h2 hk
          refine j_iload_n (pc := 15) C dX9_seekNear_15 rfl rfl ?_
          refine j_aload_n (pc := 16) C dX9_seekNear_16 rfl rfl ?_
          refine j_getR (pc := 17) C fd_10_0 q2000 (stM_o hS) (stM_r0 hS) dX9_seekNear_17 ?_
          refine j_bipush (pc := 20) (v := nI 10) C dX9_seekNear_20 (by decide) ?_
          refine j_iload_n (pc := 22) C dX9_seekNear_22 rfl rfl ?_
          refine j_iadd (pc := 23) C dX9_seekNear_23 ?_
          obtain ⟨i24, e24, h3, hk⟩ := oix_ex hk
          refine j_iald (pc := 24) C (stM_a28 hS) h3 e24 dX9_seekNear_24 ?_
          have Jn35 : ∀ (x3 : Int32) (s0 : Int32) (I : II), f_X9_seekNear_J35 F c_X9_seekNear k10 x1 x2 x3 s0 I = some (r, I9) → J G p l e (rmZ Rf Rl) s m args below meth c 5 (.returned (some (.int r))) (sh, I9) (rmZ Rf Rl).cells (rmZ Rf Rl).slots (sh, I) 0 0 35 [some (.ref (wad G 27)), some (.int x1), some (.int x2), some (.int x3), none] [.int s0] := by
            intro x3 s0 I hk
            unfold f_X9_seekNear_J35 at hk
            refine j_istore (pc := 35) C dX9_seekNear_35 (Nat.le_of_ble_eq_true rfl) rfl ?_
            refine j_iload (pc := 37) C dX9_seekNear_37 rfl ?_
            refine j_if_lt (pc := 39) 75 C dX9_seekNear_39 (by decide) (fun h4 => ?_) (fun h4 => ?_)
            · have hk := it_t h4 hk
              refine j_iinc (pc := 75) (nI 1) C dX9_seekNear_75 rfl (by decide) (Nat.le_of_ble_eq_true rfl) rfl ?_
              refine j_goto (pc := 78) 10 C dX9_seekNear_78 (by decide) ?_
              exact j_mask [true, true, true, true, false] (ih10 _ _ hk)
            · have hk := it_f h4 hk
              refine j_aload_n (pc := 42) C dX9_seekNear_42 rfl rfl ?_
              refine j_iload_n (pc := 43) C dX9_seekNear_43 rfl rfl ?_
              refine j_iload_n (pc := 44) C dX9_seekNear_44 rfl rfl ?_
              refine j_sipush (pc := 45) (v := nI 4095) C dX9_seekNear_45 (by decide) ?_
              obtain ⟨r48, h5, hk⟩ := ob_some hk
              refine j_callV (pc := 48) C (ct_X9_fitsAhead hS h5) mv_X9_fitsAhead (stM_o hS) rfl rfl q2308 dX9_seekNear_48 rfl rfl (Nat.le_of_ble_eq_true rfl) hr_X9_fitsAhead ?_
              refine j_if_eq (pc := 51) 75 C dX9_seekNear_51 (by decide) (fun h6 => ?_) (fun h6 => ?_)
              · have hk := it_t h6 hk
                refine j_iinc (pc := 75) (nI 1) C dX9_seekNear_75 rfl (by decide) (Nat.le_of_ble_eq_true rfl) rfl ?_
                refine j_goto (pc := 78) 10 C dX9_seekNear_78 (by decide) ?_
                exact j_mask [true, true, true, true, false] (ih10 _ _ hk)
              · have hk := it_f h6 hk
                refine j_aload_n (pc := 54) C dX9_seekNear_54 rfl rfl ?_
                refine j_getR (pc := 55) C fd_10_21 q2021 (stM_o hS) (stM_r21 hS) dX9_seekNear_55 ?_
                refine j_iload_n (pc := 58) C dX9_seekNear_58 rfl rfl ?_
                refine j_iload_n (pc := 59) C dX9_seekNear_59 rfl rfl ?_
                obtain ⟨i60, e60, h7, hk⟩ := oix_ex hk
                refine j_iast (pc := 60) C (stM_a39 hS) h7 e60 dX9_seekNear_60 ?_
                refine j_aload_n (pc := 61) C dX9_seekNear_61 rfl rfl ?_
                refine j_iload_n (pc := 62) C dX9_seekNear_62 rfl rfl ?_
                refine j_iconst (pc := 63) (v := nI 1) C dX9_seekNear_63 (by decide) ?_
                refine j_iadd (pc := 64) C dX9_seekNear_64 ?_
                refine j_iload (pc := 65) C dX9_seekNear_65 rfl ?_
                obtain ⟨r67, I67, h8, hk⟩ := bd2_some hk
                refine j_callV (pc := 67) C (hc_X9_seekNear h8) mv_X9_seekNear (stM_o hS) rfl rfl q2336 dX9_seekNear_67 rfl rfl (Nat.le_of_ble_eq_true rfl) hr_X9_seekNear ?_
                refine j_if_eq (pc := 70) 75 C dX9_seekNear_70 (by decide) (fun h9 => ?_) (fun h9 => ?_)
                · have hk := it_t h9 hk
                  refine j_iinc (pc := 75) (nI 1) C dX9_seekNear_75 rfl (by decide) (Nat.le_of_ble_eq_true rfl) rfl ?_
                  refine j_goto (pc := 78) 10 C dX9_seekNear_78 (by decide) ?_
                  exact j_mask [true, true, true, true, false] (ih10 _ _ hk)
                · have hk := it_f h9 hk
                  refine j_iconst (pc := 73) (v := nI 1) C dX9_seekNear_73 (by decide) ?_
                  exact j_zretW (pc := 74) C dX9_seekNear_74 (Nat.zero_le _) (Nat.zero_le _) rfl hk
          refine j_icmp_ne (pc := 25) 32 C dX9_seekNear_25 (by decide) (fun h10 => ?_) (fun h10 => ?_)
          · have hk := it_f h10 hk
            refine j_iload_n (pc := 32) C dX9_seekNear_32 rfl rfl ?_
            refine j_iconst (pc := 33) (v := nI 1) C dX9_seekNear_33 (by decide) ?_
            refine j_isub (pc := 34) C dX9_seekNear_34 ?_
            exact j_mask [true, true, true, true, false] (Jn35 _ _ _ hk)
          · have hk := it_t h10 hk
            refine j_iload_n (pc := 28) C dX9_seekNear_28 rfl rfl ?_
            refine j_goto (pc := 29) 35 C dX9_seekNear_29 (by decide) ?_
            exact j_mask [true, true, true, true, false] (Jn35 _ _ _ hk)
    exact j_mask [true, true, true, true, false] (L10 _ _ _ _ _ hk)
  · have hk := it_t h1 hk
    refine j_iconst (pc := 6) (v := nI 1) C dX9_seekNear_6 (by decide) ?_
    exact j_zretW (pc := 7) C dX9_seekNear_7 (Nat.zero_le _) (Nat.zero_le _) rfl hk
def f_X9_seekNear (F : Nat) : Nat → Int32 → Int32 → II → Option (Int32 × II)
  | 0 => fun _ _ _ => none
  | d + 1 => fb_X9_seekNear F (f_X9_seekNear F d)
theorem f_X9_seekNear_s (F d : Nat) : f_X9_seekNear F (d + 1) = fb_X9_seekNear F (f_X9_seekNear F d) := rfl
abbrev rm_X9_seekNear (d : Nat) : Room := rmZ (d + 2) (24 * d + 46)
set_option maxHeartbeats 4000000 in
theorem ctg_X9_seekNear {G : WG} {l : Launch} {sh : SH} (hS : StM sh) (F : Nat) : ∀ d : Nat, (∀ (x1 : Int32) (x2 : Int32) (I : II) (r : Int32) (I9 : II), f_X9_seekNear F d x1 x2 I = some (r, I9) → CT G l yX9_seekNear (ws_ yX9_seekNear cX9_seekNear 5 (some .boolean)) (rm_X9_seekNear d) [.ref (wad G 27), .int x1, .int x2] (sh, I) (.returned (some (.int r))) (sh, I9)) := by
  intro d
  induction d with
  | zero =>
    (intros; rename_i hk; cases hk)
  | succ d ih =>
    have ih_X9_seekNear := ih
    · intro v0 v1 v2 v3 v4 hk
      exact ctb_X9_seekNear (F := F) hS (fun {a0 a1 a2 a3 a4} hk => ih_X9_seekNear a0 a1 a2 a3 a4 hk) (rmOK.i (by dsimp only; omega) (by dsimp only; omega) (by dsimp only; omega) (by dsimp only; omega)) (rmOK.i (by dsimp only; omega) (by dsimp only; omega) (by dsimp only; omega) (by dsimp only; omega)) hk
theorem ct_X9_seekNear {G : WG} {l : Launch} {sh : SH} (hS : StM sh) {F d : Nat} {I : II} {x1 : Int32} {x2 : Int32} {r : Int32} {I9 : II} (hk : f_X9_seekNear F d x1 x2 I = some (r, I9)) : CT G l yX9_seekNear (ws_ yX9_seekNear cX9_seekNear 5 (some .boolean)) (rm_X9_seekNear d) [.ref (wad G 27), .int x1, .int x2] (sh, I) (.returned (some (.int r))) (sh, I9) := (ctg_X9_seekNear hS F d) _ _ _ _ _ hk
def f_X9_near_L32 (F : Nat) : Nat → Int32 → II → Option (Int32 × II)
  | 0, _, _ => none
  | n32 + 1, x2, I => bd2 (f_X9_seekNear F 13 (nI 0) x2 I) fun r35 I35 => if r35 = 0 then (f_X9_near_L32 F n32) (x2 + (nI 1)) I35 else some (x2, I35)
def f_X9_near (F : Nat) (x1 : Int32) (I : II) : Option (Int32 × II) := (f_X9_isSet x1 I).bind fun r2 => if r2 = 0 then bd2 (f_X9_finding (-1000001) I) fun r11 I11 => some (r11, I11) else bd2 (f_X9_fitsSome F x1 I) fun r17 I17 => if r17 = 0 then bd2 (f_X9_finding (-1000002) I17) fun r26 I26 => some (r26, I26) else f_X9_near_L32 F F (nI 0) I17
abbrev rm_X9_near : Room := { frames := 17, cells := 0, slots := 0, locals := 389 }
theorem mv_X9_near : MV yX9_near cX9_near 3 (some .int) 1 := ⟨q2333, q2334, q106, q2335, by decide +kernel⟩
set_option maxHeartbeats 4000000 in
theorem ct_X9_near {G : WG} {l : Launch} {sh : SH} (hS : StM sh) {I : II} {F : Nat} {x1 : Int32} {r : Int32} {I9 : II} (hk : f_X9_near F x1 I = some (r, I9)) : CT G l yX9_near (ws_ yX9_near cX9_near 3 (some .int)) rm_X9_near [.ref (wad G 27), .int x1] (sh, I) (.returned (some (.int r))) (sh, I9) := by
  refine CT.ofJ "NineDemandsModel" rfl (by decide) (Nat.le_of_ble_eq_true rfl) ?_
  intro p e s m args below meth c C
  unfold f_X9_near at hk
  refine j_lv (lv' := [some (.ref (wad G 27)), some (.int x1), none]) rfl ?_
  refine j_aload_n (pc := 0) C dX9_near_0 rfl rfl ?_
  refine j_iload_n (pc := 1) C dX9_near_1 rfl rfl ?_
  obtain ⟨r2, h1, hk⟩ := ob_some hk
  refine j_callV (pc := 2) C (ct_X9_isSet hS h1) mv_X9_isSet (stM_o hS) rfl rfl q2289 dX9_near_2 rfl rfl (Nat.le_of_ble_eq_true rfl) rfl ?_
  refine j_if_ne (pc := 5) 15 C dX9_near_5 (by decide) (fun h2 => ?_) (fun h2 => ?_)
  · have hk := it_f h2 hk
    refine j_aload_n (pc := 15) C dX9_near_15 rfl rfl ?_
    refine j_iload_n (pc := 16) C dX9_near_16 rfl rfl ?_
    obtain ⟨r17, I17, h3, hk⟩ := bd2_some hk
    refine j_callV (pc := 17) C (ct_X9_fitsSome hS h3) mv_X9_fitsSome (stM_o hS) rfl rfl q2293 dX9_near_17 rfl rfl (Nat.le_of_ble_eq_true rfl) rfl ?_
    refine j_if_ne (pc := 20) 30 C dX9_near_20 (by decide) (fun h4 => ?_) (fun h4 => ?_)
    · have hk := it_f h4 hk
      refine j_iconst (pc := 30) (v := nI 0) C dX9_near_30 (by decide) ?_
      refine j_istore_n (pc := 31) C dX9_near_31 rfl (Nat.le_of_ble_eq_true rfl) rfl ?_
      have L32 : ∀  (n32 : Nat) (x2 : Int32) (I : II), f_X9_near_L32 F n32 x2 I = some (r, I9) → J G p l e rm_X9_near s m args below meth c 3 (.returned (some (.int r))) (sh, I9) (rm_X9_near).cells (rm_X9_near).slots (sh, I) 0 0 32 [some (.ref (wad G 27)), none, some (.int x2)] [] := by
        intro  n32
        induction n32 with
        | zero => intro x2 I hk; rw [f_X9_near_L32] at hk; cases hk
        | succ n32 ih32 =>
          intro x2 I hk
          rw [f_X9_near_L32] at hk
          generalize f_X9_near_L32 F n32 = k32 at ih32 hk
          refine j_aload_n (pc := 32) C dX9_near_32 rfl rfl ?_
          refine j_iconst (pc := 33) (v := nI 0) C dX9_near_33 (by decide) ?_
          refine j_iload_n (pc := 34) C dX9_near_34 rfl rfl ?_
          obtain ⟨r35, I35, h5, hk⟩ := bd2_some hk
          refine j_callV (pc := 35) C (ct_X9_seekNear hS h5) mv_X9_seekNear (stM_o hS) rfl rfl q2336 dX9_near_35 rfl rfl (Nat.le_of_ble_eq_true rfl) rfl ?_
          refine j_if_ne (pc := 38) 47 C dX9_near_38 (by decide) (fun h6 => ?_) (fun h6 => ?_)
          · have hk := it_f h6 hk
            refine j_iload_n (pc := 47) C dX9_near_47 rfl rfl ?_
            exact j_iretW (pc := 48) C dX9_near_48 (Nat.le_of_ble_eq_true rfl) (Nat.le_of_ble_eq_true rfl) hk
          · have hk := it_t h6 hk
            refine j_iinc (pc := 41) (nI 1) C dX9_near_41 rfl (by decide) (Nat.le_of_ble_eq_true rfl) rfl ?_
            refine j_goto (pc := 44) 32 C dX9_near_44 (by decide) ?_
            exact j_mask [true, false, true] (ih32 _ _ hk)
      exact j_mask [true, false, true] (L32  _ _ _ hk)
    · have hk := it_t h4 hk
      refine j_aload_n (pc := 23) C dX9_near_23 rfl rfl ?_
      refine j_ldc (pc := 24) (v := (-1000002)) C q2123 dX9_near_24 ?_
      obtain ⟨r26, I26, h7, hk⟩ := bd2_some hk
      refine j_callV (pc := 26) C (ct_X9_finding hS h7) mv_X9_finding (stM_o hS) rfl rfl q2111 dX9_near_26 rfl rfl (Nat.le_of_ble_eq_true rfl) rfl ?_
      exact j_iretW (pc := 29) C dX9_near_29 (Nat.le_of_ble_eq_true rfl) (Nat.le_of_ble_eq_true rfl) hk
  · have hk := it_t h2 hk
    refine j_aload_n (pc := 8) C dX9_near_8 rfl rfl ?_
    refine j_ldc (pc := 9) (v := (-1000001)) C q2110 dX9_near_9 ?_
    obtain ⟨r11, I11, h8, hk⟩ := bd2_some hk
    refine j_callV (pc := 11) C (ct_X9_finding hS h8) mv_X9_finding (stM_o hS) rfl rfl q2111 dX9_near_11 rfl rfl (Nat.le_of_ble_eq_true rfl) rfl ?_
    exact j_iretW (pc := 14) C dX9_near_14 (Nat.le_of_ble_eq_true rfl) (Nat.le_of_ble_eq_true rfl) hk
def f_X9_broken_39_J52 (F : Nat) (I : II) (k3 : Int32 → Option Int32) (x1 : Int32) (x3 : Int32) (x4 : Int32) (s1 : Int32) (s2 : Int32) (s3 : Int32) (s4 : Int32) : Option Int32 := (f_X9_goes s1 s2 s3 s4 I).bind fun r52 => if r52 = 0 then some x4 else k3 (x4 + (nI 1))
def f_X9_broken_39_L3 (F : Nat) (I : II) (x1 : Int32) (x3 : Int32) : Nat → Int32 → Option Int32
  | 0, _ => none
  | n3 + 1, x4 => (f_X9_casesOf x1 I).bind fun r7 => if r7 ≤ x4 then some (-1) else (f_X9_otherOf x1 x4 I).bind fun r17 => (f_X9_hallOf x1 x4 I).bind fun r32 => oix (x3 + r32) 12 fun i36 => if 0 ≤ r17 then oix (x3 + r17) 12 fun i51 => f_X9_broken_39_J52 F I (f_X9_broken_39_L3 F I x1 x3 n3) x1 x3 x4 x1 x4 (I 39 i36) (I 39 i51) else f_X9_broken_39_J52 F I (f_X9_broken_39_L3 F I x1 x3 n3) x1 x3 x4 x1 x4 (I 39 i36) (nI 0)
def f_X9_broken_39 (F : Nat) (x1 : Int32) (x3 : Int32) (I : II) : Option Int32 := f_X9_broken_39_L3 F I x1 x3 F (nI 0)
abbrev rm_X9_broken_39 : Room := { frames := 3, cells := 0, slots := 0, locals := 67 }
set_option maxHeartbeats 4000000 in
theorem ct_X9_broken_39 {G : WG} {l : Launch} {sh : SH} (hS : StM sh) {I : II} {F : Nat} {x1 : Int32} {x3 : Int32} {r : Int32} (hk : f_X9_broken_39 F x1 x3 I = some r) : CT G l yX9_broken (ws_ yX9_broken cX9_broken 6 (some .int)) rm_X9_broken_39 [.ref (wad G 27), .int x1, .ref (wad G 39), .int x3] (sh, I) (.returned (some (.int r))) (sh, I) := by
  refine CT.ofJ "NineDemandsModel" rfl (by decide) (Nat.le_of_ble_eq_true rfl) ?_
  intro p e s m args below meth c C
  unfold f_X9_broken_39 at hk
  refine j_lv (lv' := [some (.ref (wad G 27)), some (.int x1), some (.ref (wad G 39)), some (.int x3), none, none]) rfl ?_
  refine j_iconst (pc := 0) (v := nI 0) C dX9_broken_0 (by decide) ?_
  refine j_istore (pc := 1) C dX9_broken_1 (Nat.le_of_ble_eq_true rfl) rfl ?_
  have L3 : ∀ (x1 : Int32) (x3 : Int32) (n3 : Nat) (x4 : Int32), f_X9_broken_39_L3 F I x1 x3 n3 x4 = some r → J G p l e rm_X9_broken_39 s m args below meth c 6 (.returned (some (.int r))) (sh, I) (rm_X9_broken_39).cells (rm_X9_broken_39).slots (sh, I) 0 0 3 [some (.ref (wad G 27)), some (.int x1), some (.ref (wad G 39)), some (.int x3), some (.int x4), none] [] := by
    intro x1 x3 n3
    induction n3 with
    | zero => intro x4 hk; rw [f_X9_broken_39_L3] at hk; cases hk
    | succ n3 ih3 =>
      intro x4 hk
      rw [f_X9_broken_39_L3] at hk
      generalize f_X9_broken_39_L3 F I x1 x3 n3 = k3 at ih3 hk
      refine j_iload (pc := 3) C dX9_broken_3 rfl ?_
      refine j_aload_n (pc := 5) C dX9_broken_5 rfl rfl ?_
      refine j_iload_n (pc := 6) C dX9_broken_6 rfl rfl ?_
      obtain ⟨r7, h1, hk⟩ := ob_some hk
      refine j_callV (pc := 7) C (ct_X9_casesOf hS h1) mv_X9_casesOf (stM_o hS) rfl rfl q2238 dX9_broken_7 rfl rfl (Nat.le_of_ble_eq_true rfl) rfl ?_
      refine j_icmp_ge (pc := 10) 67 C dX9_broken_10 (by decide) (fun h2 => ?_) (fun h2 => ?_)
      · have hk := it_t h2 hk
        refine j_iconst (pc := 67) (v := (-1)) C dX9_broken_67 (by decide) ?_
        exact j_iretR (pc := 68) C dX9_broken_68 (Nat.le_of_ble_eq_true rfl) (Nat.le_of_ble_eq_true rfl) hk
      · have hk := it_f h2 hk
        refine j_aload_n (pc := 13) C dX9_broken_13 rfl rfl ?_
        refine j_iload_n (pc := 14) C dX9_broken_14 rfl rfl ?_
        refine j_iload (pc := 15) C dX9_broken_15 rfl ?_
        obtain ⟨r17, h3, hk⟩ := ob_some hk
        refine j_callV (pc := 17) C (ct_X9_otherOf hS h3) mv_X9_otherOf (stM_o hS) rfl rfl q2258 dX9_broken_17 rfl rfl (Nat.le_of_ble_eq_true rfl) rfl ?_
        refine j_istore (pc := 20) C dX9_broken_20 (Nat.le_of_ble_eq_true rfl) rfl ?_
        refine j_aload_n (pc := 22) C dX9_broken_22 rfl rfl ?_
        refine j_iload_n (pc := 23) C dX9_broken_23 rfl rfl ?_
        refine j_iload (pc := 24) C dX9_broken_24 rfl ?_
        refine j_aload_n (pc := 26) C dX9_broken_26 rfl rfl ?_
        refine j_iload_n (pc := 27) C dX9_broken_27 rfl rfl ?_
        refine j_aload_n (pc := 28) C dX9_broken_28 rfl rfl ?_
        refine j_iload_n (pc := 29) C dX9_broken_29 rfl rfl ?_
        refine j_iload (pc := 30) C dX9_broken_30 rfl ?_
        obtain ⟨r32, h4, hk⟩ := ob_some hk
        refine j_callV (pc := 32) C (ct_X9_hallOf hS h4) mv_X9_hallOf (stM_o hS) rfl rfl q2250 dX9_broken_32 rfl rfl (Nat.le_of_ble_eq_true rfl) rfl ?_
        refine j_iadd (pc := 35) C dX9_broken_35 ?_
        obtain ⟨i36, e36, h5, hk⟩ := oix_ex hk
        refine j_iald (pc := 36) C (stM_a39 hS) h5 e36 dX9_broken_36 ?_
        refine j_iload (pc := 37) C dX9_broken_37 rfl ?_
        have Jn52 : ∀ (x4 : Int32) (s1 : Int32) (s2 : Int32) (s3 : Int32) (s4 : Int32), f_X9_broken_39_J52 F I k3 x1 x3 x4 s1 s2 s3 s4 = some r → J G p l e rm_X9_broken_39 s m args below meth c 6 (.returned (some (.int r))) (sh, I) (rm_X9_broken_39).cells (rm_X9_broken_39).slots (sh, I) 0 0 52 [some (.ref (wad G 27)), some (.int x1), some (.ref (wad G 39)), some (.int x3), some (.int x4), none] [.int s4, .int s3, .int s2, .int s1, .ref (wad G 27)] := by
          intro x4 s1 s2 s3 s4 hk
          unfold f_X9_broken_39_J52 at hk
          obtain ⟨r52, h6, hk⟩ := ob_some hk
          refine j_callV (pc := 52) C (ct_X9_goes hS h6) mv_X9_goes (stM_o hS) rfl rfl q2266 dX9_broken_52 rfl rfl (Nat.le_of_ble_eq_true rfl) rfl ?_
          refine j_if_ne (pc := 55) 61 C dX9_broken_55 (by decide) (fun h7 => ?_) (fun h7 => ?_)
          · have hk := it_f h7 hk
            refine j_iinc (pc := 61) (nI 1) C dX9_broken_61 rfl (by decide) (Nat.le_of_ble_eq_true rfl) rfl ?_
            refine j_goto (pc := 64) 3 C dX9_broken_64 (by decide) ?_
            exact j_mask [true, true, true, true, true, false] (ih3 _ hk)
          · have hk := it_t h7 hk
            refine j_iload (pc := 58) C dX9_broken_58 rfl ?_
            exact j_iretR (pc := 60) C dX9_broken_60 (Nat.le_of_ble_eq_true rfl) (Nat.le_of_ble_eq_true rfl) hk
        refine j_if_ge (pc := 39) 46 C dX9_broken_39 (by decide) (fun h8 => ?_) (fun h8 => ?_)
        · have hk := it_t h8 hk
          refine j_aload_n (pc := 46) C dX9_broken_46 rfl rfl ?_
          refine j_iload_n (pc := 47) C dX9_broken_47 rfl rfl ?_
          refine j_iload (pc := 48) C dX9_broken_48 rfl ?_
          refine j_iadd (pc := 50) C dX9_broken_50 ?_
          obtain ⟨i51, e51, h9, hk⟩ := oix_ex hk
          refine j_iald (pc := 51) C (stM_a39 hS) h9 e51 dX9_broken_51 ?_
          exact j_mask [true, true, true, true, true, false] (Jn52 _ _ _ _ _ hk)
        · have hk := it_f h8 hk
          refine j_iconst (pc := 42) (v := nI 0) C dX9_broken_42 (by decide) ?_
          refine j_goto (pc := 43) 52 C dX9_broken_43 (by decide) ?_
          exact j_mask [true, true, true, true, true, false] (Jn52 _ _ _ _ _ hk)
  exact j_mask [true, true, true, true, true, false] (L3 _ _ _ _ hk)
def f_X9_word_L57 (F : Nat) (k17 : Int32 → II → Option (Int32 × II)) (x1 : Int32) (x2 : Int32) : Nat → Int32 → Int32 → II → Option (Int32 × II)
  | 0, _, _, _ => none
  | n57 + 1, x3, x4, I => oix (nI 0) 366 fun i64 => if (I 28 i64) ≤ x4 then if x3 = 0 then k17 (x2 + (nI 1)) I else some (x2, I) else if x3 = 0 then if x3 = 0 then k17 (x2 + (nI 1)) I else some (x2, I) else (f_X9_has x1 x4).bind fun r75 => if r75 = 0 then (f_X9_word_L57 F k17 x1 x2 n57) (nI 1) (x4 + (nI 1)) I else (f_X9_broken_39 F x4 (nI 0) I).bind fun r89 => if 0 ≤ r89 then (f_X9_word_L57 F k17 x1 x2 n57) (nI 0) (x4 + (nI 1)) I else (f_X9_word_L57 F k17 x1 x2 n57) (nI 1) (x4 + (nI 1)) I
def f_X9_word_L28 (F : Nat) (k17 : Int32 → II → Option (Int32 × II)) (x1 : Int32) (x2 : Int32) (x3 : Int32) : Nat → Int32 → II → Option (Int32 × II)
  | 0, _, _ => none
  | n28 + 1, x4, I => if (nI 12) ≤ x4 then f_X9_word_L57 F k17 x1 x2 F x3 (nI 0) I else (f_X9_formed F x2 x4).bind fun r44 => oix x4 12 fun i47 => (f_X9_word_L28 F k17 x1 x2 x3 n28) (x4 + (nI 1)) (up2 I 39 i47 r44)
def f_X9_word_L17 (F : Nat) (x1 : Int32) : Nat → Int32 → II → Option (Int32 × II)
  | 0, _, _ => none
  | n17 + 1, x2, I => if (nI 12) ≤ x2 then bd2 (f_X9_finding (-1000002) I) fun r122 I122 => some (r122, I122) else f_X9_word_L28 F (f_X9_word_L17 F x1 n17) x1 x2 (nI 1) F (nI 0) I
def f_X9_word (F : Nat) (x1 : Int32) (I : II) : Option (Int32 × II) := (f_X9_isSet x1 I).bind fun r2 => if r2 = 0 then bd2 (f_X9_finding (-1000001) I) fun r11 I11 => some (r11, I11) else f_X9_word_L17 F x1 F (nI 0) I
abbrev rm_X9_word : Room := { frames := 4, cells := 0, slots := 0, locals := 92 }
theorem mv_X9_word : MV yX9_word cX9_word 5 (some .int) 1 := ⟨q2341, q2342, q106, q2343, by decide +kernel⟩
set_option maxHeartbeats 4000000 in
theorem ct_X9_word {G : WG} {l : Launch} {sh : SH} (hS : StM sh) {I : II} {F : Nat} {x1 : Int32} {r : Int32} {I9 : II} (hk : f_X9_word F x1 I = some (r, I9)) : CT G l yX9_word (ws_ yX9_word cX9_word 5 (some .int)) rm_X9_word [.ref (wad G 27), .int x1] (sh, I) (.returned (some (.int r))) (sh, I9) := by
  refine CT.ofJ "NineDemandsModel" rfl (by decide) (Nat.le_of_ble_eq_true rfl) ?_
  intro p e s m args below meth c C
  unfold f_X9_word at hk
  refine j_lv (lv' := [some (.ref (wad G 27)), some (.int x1), none, none, none]) rfl ?_
  refine j_aload_n (pc := 0) C dX9_word_0 rfl rfl ?_
  refine j_iload_n (pc := 1) C dX9_word_1 rfl rfl ?_
  obtain ⟨r2, h1, hk⟩ := ob_some hk
  refine j_callV (pc := 2) C (ct_X9_isSet hS h1) mv_X9_isSet (stM_o hS) rfl rfl q2289 dX9_word_2 rfl rfl (Nat.le_of_ble_eq_true rfl) rfl ?_
  refine j_if_ne (pc := 5) 15 C dX9_word_5 (by decide) (fun h2 => ?_) (fun h2 => ?_)
  · have hk := it_f h2 hk
    refine j_iconst (pc := 15) (v := nI 0) C dX9_word_15 (by decide) ?_
    refine j_istore_n (pc := 16) C dX9_word_16 rfl (Nat.le_of_ble_eq_true rfl) rfl ?_
    have L17 : ∀ (x1 : Int32) (n17 : Nat) (x2 : Int32) (I : II), f_X9_word_L17 F x1 n17 x2 I = some (r, I9) → J G p l e rm_X9_word s m args below meth c 5 (.returned (some (.int r))) (sh, I9) (rm_X9_word).cells (rm_X9_word).slots (sh, I) 0 0 17 [some (.ref (wad G 27)), some (.int x1), some (.int x2), none, none] [] := by
      intro x1 n17
      induction n17 with
      | zero => intro x2 I hk; rw [f_X9_word_L17] at hk; cases hk
      | succ n17 ih17 =>
        intro x2 I hk
        rw [f_X9_word_L17] at hk
        generalize f_X9_word_L17 F x1 n17 = k17 at ih17 hk
        refine j_iload_n (pc := 17) C dX9_word_17 rfl rfl ?_
        refine j_bipush (pc := 18) (v := nI 12) C dX9_word_18 (by decide) ?_
        refine j_icmp_ge (pc := 20) 119 C dX9_word_20 (by decide) (fun h3 => ?_) (fun h3 => ?_)
        · have hk := it_t h3 hk
          refine j_aload_n (pc := 119) C dX9_word_119 rfl rfl ?_
          refine j_ldc (pc := 120) (v := (-1000002)) C q2123 dX9_word_120 ?_
          obtain ⟨r122, I122, h4, hk⟩ := bd2_some hk
          refine j_callV (pc := 122) C (ct_X9_finding hS h4) mv_X9_finding (stM_o hS) rfl rfl q2111 dX9_word_122 rfl rfl (Nat.le_of_ble_eq_true rfl) rfl ?_
          exact j_iretW (pc := 125) C dX9_word_125 (Nat.le_of_ble_eq_true rfl) (Nat.le_of_ble_eq_true rfl) hk
        · have hk := it_f h3 hk
          refine j_iconst (pc := 23) (v := nI 1) C dX9_word_23 (by decide) ?_
          refine j_istore_n (pc := 24) C dX9_word_24 rfl (Nat.le_of_ble_eq_true rfl) rfl ?_
          refine j_iconst (pc := 25) (v := nI 0) C dX9_word_25 (by decide) ?_
          refine j_istore (pc := 26) C dX9_word_26 (Nat.le_of_ble_eq_true rfl) rfl ?_
          have L28 : ∀ (x2 : Int32) (x3 : Int32) (n28 : Nat) (x4 : Int32) (I : II), f_X9_word_L28 F k17 x1 x2 x3 n28 x4 I = some (r, I9) → J G p l e rm_X9_word s m args below meth c 5 (.returned (some (.int r))) (sh, I9) (rm_X9_word).cells (rm_X9_word).slots (sh, I) 0 0 28 [some (.ref (wad G 27)), some (.int x1), some (.int x2), some (.int x3), some (.int x4)] [] := by
            intro x2 x3 n28
            induction n28 with
            | zero => intro x4 I hk; rw [f_X9_word_L28] at hk; cases hk
            | succ n28 ih28 =>
              intro x4 I hk
              rw [f_X9_word_L28] at hk
              generalize f_X9_word_L28 F k17 x1 x2 x3 n28 = k28 at ih28 hk
              refine j_iload (pc := 28) C dX9_word_28 rfl ?_
              refine j_bipush (pc := 30) (v := nI 12) C dX9_word_30 (by decide) ?_
              refine j_icmp_ge (pc := 32) 54 C dX9_word_32 (by decide) (fun h5 => ?_) (fun h5 => ?_)
              · have hk := it_t h5 hk
                refine j_iconst (pc := 54) (v := nI 0) C dX9_word_54 (by decide) ?_
                refine j_istore (pc := 55) C dX9_word_55 (Nat.le_of_ble_eq_true rfl) rfl ?_
                have L57 : ∀ (x2 : Int32) (n57 : Nat) (x3 : Int32) (x4 : Int32) (I : II), f_X9_word_L57 F k17 x1 x2 n57 x3 x4 I = some (r, I9) → J G p l e rm_X9_word s m args below meth c 5 (.returned (some (.int r))) (sh, I9) (rm_X9_word).cells (rm_X9_word).slots (sh, I) 0 0 57 [some (.ref (wad G 27)), some (.int x1), some (.int x2), some (.int x3), some (.int x4)] [] := by
                  intro x2 n57
                  induction n57 with
                  | zero => intro x3 x4 I hk; rw [f_X9_word_L57] at hk; cases hk
                  | succ n57 ih57 =>
                    intro x3 x4 I hk
                    rw [f_X9_word_L57] at hk
                    generalize f_X9_word_L57 F k17 x1 x2 n57 = k57 at ih57 hk
                    refine j_iload (pc := 57) C dX9_word_57 rfl ?_
                    refine j_aload_n (pc := 59) C dX9_word_59 rfl rfl ?_
                    refine j_getR (pc := 60) C fd_10_0 q2000 (stM_o hS) (stM_r0 hS) dX9_word_60 ?_
                    refine j_iconst (pc := 63) (v := nI 0) C dX9_word_63 (by decide) ?_
                    obtain ⟨i64, e64, h6, hk⟩ := oix_ex hk
                    refine j_iald (pc := 64) C (stM_a28 hS) h6 e64 dX9_word_64 ?_
                    refine j_icmp_ge (pc := 65) 107 C dX9_word_65 (by decide) (fun h7 => ?_) (fun h7 => ?_)
                    · have hk := it_t h7 hk
                      refine j_iload_n (pc := 107) C dX9_word_107 rfl rfl ?_
                      refine j_if_eq (pc := 108) 113 C dX9_word_108 (by decide) (fun h8 => ?_) (fun h8 => ?_)
                      · have hk := it_t h8 hk
                        refine j_iinc (pc := 113) (nI 1) C dX9_word_113 rfl (by decide) (Nat.le_of_ble_eq_true rfl) rfl ?_
                        refine j_goto (pc := 116) 17 C dX9_word_116 (by decide) ?_
                        exact j_mask [true, true, true, false, false] (ih17 _ _ hk)
                      · have hk := it_f h8 hk
                        refine j_iload_n (pc := 111) C dX9_word_111 rfl rfl ?_
                        exact j_iretW (pc := 112) C dX9_word_112 (Nat.le_of_ble_eq_true rfl) (Nat.le_of_ble_eq_true rfl) hk
                    · have hk := it_f h7 hk
                      refine j_iload_n (pc := 68) C dX9_word_68 rfl rfl ?_
                      refine j_if_eq (pc := 69) 107 C dX9_word_69 (by decide) (fun h9 => ?_) (fun h9 => ?_)
                      · have hk := it_t h9 hk
                        refine j_iload_n (pc := 107) C dX9_word_107 rfl rfl ?_
                        refine j_if_eq (pc := 108) 113 C dX9_word_108 (by decide) (fun h10 => ?_) (fun h10 => ?_)
                        · have hk := it_t h10 hk
                          refine j_iinc (pc := 113) (nI 1) C dX9_word_113 rfl (by decide) (Nat.le_of_ble_eq_true rfl) rfl ?_
                          refine j_goto (pc := 116) 17 C dX9_word_116 (by decide) ?_
                          exact j_mask [true, true, true, false, false] (ih17 _ _ hk)
                        · have hk := it_f h10 hk
                          refine j_iload_n (pc := 111) C dX9_word_111 rfl rfl ?_
                          exact j_iretW (pc := 112) C dX9_word_112 (Nat.le_of_ble_eq_true rfl) (Nat.le_of_ble_eq_true rfl) hk
                      · have hk := it_f h9 hk
                        refine j_iload_n (pc := 72) C dX9_word_72 rfl rfl ?_
                        refine j_iload (pc := 73) C dX9_word_73 rfl ?_
                        obtain ⟨r75, h11, hk⟩ := ob_some hk
                        refine j_callS (pc := 75) C (ct_X9_has h11) ms_X9_has q2270 dX9_word_75 rfl rfl (Nat.le_of_ble_eq_true rfl) rfl ?_
                        refine j_if_eq (pc := 78) 95 C dX9_word_78 (by decide) (fun h12 => ?_) (fun h12 => ?_)
                        · have hk := it_t h12 hk
                          refine j_iconst (pc := 95) (v := nI 1) C dX9_word_95 (by decide) ?_
                          refine j_goto (pc := 96) 100 C dX9_word_96 (by decide) ?_
                          refine j_istore_n (pc := 100) C dX9_word_100 rfl (Nat.le_of_ble_eq_true rfl) rfl ?_
                          refine j_iinc (pc := 101) (nI 1) C dX9_word_101 rfl (by decide) (Nat.le_of_ble_eq_true rfl) rfl ?_
                          refine j_goto (pc := 104) 57 C dX9_word_104 (by decide) ?_
                          exact j_mask [true, true, true, true, true] (ih57 _ _ _ hk)
                        · have hk := it_f h12 hk
                          refine j_aload_n (pc := 81) C dX9_word_81 rfl rfl ?_
                          refine j_iload (pc := 82) C dX9_word_82 rfl ?_
                          refine j_aload_n (pc := 84) C dX9_word_84 rfl rfl ?_
                          refine j_getR (pc := 85) C fd_10_21 q2021 (stM_o hS) (stM_r21 hS) dX9_word_85 ?_
                          refine j_iconst (pc := 88) (v := nI 0) C dX9_word_88 (by decide) ?_
                          obtain ⟨r89, h13, hk⟩ := ob_some hk
                          refine j_callV (pc := 89) C (ct_X9_broken_39 hS h13) mv_X9_broken (stM_o hS) rfl rfl q2277 dX9_word_89 rfl rfl (Nat.le_of_ble_eq_true rfl) rfl ?_
                          refine j_if_ge (pc := 92) 99 C dX9_word_92 (by decide) (fun h14 => ?_) (fun h14 => ?_)
                          · have hk := it_t h14 hk
                            refine j_iconst (pc := 99) (v := nI 0) C dX9_word_99 (by decide) ?_
                            refine j_istore_n (pc := 100) C dX9_word_100 rfl (Nat.le_of_ble_eq_true rfl) rfl ?_
                            refine j_iinc (pc := 101) (nI 1) C dX9_word_101 rfl (by decide) (Nat.le_of_ble_eq_true rfl) rfl ?_
                            refine j_goto (pc := 104) 57 C dX9_word_104 (by decide) ?_
                            exact j_mask [true, true, true, true, true] (ih57 _ _ _ hk)
                          · have hk := it_f h14 hk
                            refine j_iconst (pc := 95) (v := nI 1) C dX9_word_95 (by decide) ?_
                            refine j_goto (pc := 96) 100 C dX9_word_96 (by decide) ?_
                            refine j_istore_n (pc := 100) C dX9_word_100 rfl (Nat.le_of_ble_eq_true rfl) rfl ?_
                            refine j_iinc (pc := 101) (nI 1) C dX9_word_101 rfl (by decide) (Nat.le_of_ble_eq_true rfl) rfl ?_
                            refine j_goto (pc := 104) 57 C dX9_word_104 (by decide) ?_
                            exact j_mask [true, true, true, true, true] (ih57 _ _ _ hk)
                exact j_mask [true, true, true, true, true] (L57 _ _ _ _ _ hk)
              · have hk := it_f h5 hk
                refine j_aload_n (pc := 35) C dX9_word_35 rfl rfl ?_
                refine j_getR (pc := 36) C fd_10_21 q2021 (stM_o hS) (stM_r21 hS) dX9_word_36 ?_
                refine j_iload (pc := 39) C dX9_word_39 rfl ?_
                refine j_iload_n (pc := 41) C dX9_word_41 rfl rfl ?_
                refine j_iload (pc := 42) C dX9_word_42 rfl ?_
                obtain ⟨r44, h15, hk⟩ := ob_some hk
                refine j_callS (pc := 44) C (ct_X9_formed h15) ms_X9_formed q2148 dX9_word_44 rfl rfl (Nat.le_of_ble_eq_true rfl) rfl ?_
                obtain ⟨i47, e47, h16, hk⟩ := oix_ex hk
                refine j_iast (pc := 47) C (stM_a39 hS) h16 e47 dX9_word_47 ?_
                refine j_iinc (pc := 48) (nI 1) C dX9_word_48 rfl (by decide) (Nat.le_of_ble_eq_true rfl) rfl ?_
                refine j_goto (pc := 51) 28 C dX9_word_51 (by decide) ?_
                exact j_mask [true, true, true, true, true] (ih28 _ _ hk)
          exact j_mask [true, true, true, true, true] (L28 _ _ _ _ _ hk)
    exact j_mask [true, true, true, false, false] (L17 _ _ _ _ hk)
  · have hk := it_t h2 hk
    refine j_aload_n (pc := 8) C dX9_word_8 rfl rfl ?_
    refine j_ldc (pc := 9) (v := (-1000001)) C q2110 dX9_word_9 ?_
    obtain ⟨r11, I11, h17, hk⟩ := bd2_some hk
    refine j_callV (pc := 11) C (ct_X9_finding hS h17) mv_X9_finding (stM_o hS) rfl rfl q2111 dX9_word_11 rfl rfl (Nat.le_of_ble_eq_true rfl) rfl ?_
    exact j_iretW (pc := 14) C dX9_word_14 (Nat.le_of_ble_eq_true rfl) (Nat.le_of_ble_eq_true rfl) hk
def f_X9_isEmpty_L4 (F : Nat) (I : II) : Nat → Int32 → Int32 → Option Int32
  | 0, _, _ => none
  | n4 + 1, x1, x2 => if (nI 12) ≤ x2 then og (x1 = 0 ∨ x1 = 1) (some x1) else if x1 = 0 then oix x2 12 fun i19 => if (I 41 i19) = 0 then (f_X9_isEmpty_L4 F I n4) (nI 1) (x2 + (nI 1)) else (f_X9_isEmpty_L4 F I n4) (nI 0) (x2 + (nI 1)) else (f_X9_isEmpty_L4 F I n4) (nI 1) (x2 + (nI 1))
def f_X9_isEmpty (F : Nat) (I : II) : Option Int32 := f_X9_isEmpty_L4 F I F (nI 0) (nI 0)
abbrev rm_X9_isEmpty : Room := { frames := 0, cells := 0, slots := 0, locals := 0 }
theorem mv_X9_isEmpty : MV yX9_isEmpty cX9_isEmpty 3 (some .boolean) 0 := ⟨q2358, qs79, q106, q2359, by decide +kernel⟩
set_option maxHeartbeats 4000000 in
theorem ct_X9_isEmpty {G : WG} {l : Launch} {sh : SH} (hS : StM sh) {I : II} {F : Nat}  {r : Int32} (hk : f_X9_isEmpty F I = some r) : CT G l yX9_isEmpty (ws_ yX9_isEmpty cX9_isEmpty 3 (some .boolean)) rm_X9_isEmpty [.ref (wad G 27)] (sh, I) (.returned (some (.int r))) (sh, I) := by
  refine CT.ofJ "NineDemandsModel" rfl (by decide) (Nat.le_of_ble_eq_true rfl) ?_
  intro p e s m args below meth c C
  unfold f_X9_isEmpty at hk
  refine j_lv (lv' := [some (.ref (wad G 27)), none, none]) rfl ?_
  refine j_iconst (pc := 0) (v := nI 0) C dX9_isEmpty_0 (by decide) ?_
  refine j_istore_n (pc := 1) C dX9_isEmpty_1 rfl (Nat.le_of_ble_eq_true rfl) rfl ?_
  refine j_iconst (pc := 2) (v := nI 0) C dX9_isEmpty_2 (by decide) ?_
  refine j_istore_n (pc := 3) C dX9_isEmpty_3 rfl (Nat.le_of_ble_eq_true rfl) rfl ?_
  have L4 : ∀  (n4 : Nat) (x1 : Int32) (x2 : Int32), f_X9_isEmpty_L4 F I n4 x1 x2 = some r → J G p l e rm_X9_isEmpty s m args below meth c 3 (.returned (some (.int r))) (sh, I) (rm_X9_isEmpty).cells (rm_X9_isEmpty).slots (sh, I) 0 0 4 [some (.ref (wad G 27)), some (.int x1), some (.int x2)] [] := by
    intro  n4
    induction n4 with
    | zero => intro x1 x2 hk; rw [f_X9_isEmpty_L4] at hk; cases hk
    | succ n4 ih4 =>
      intro x1 x2 hk
      rw [f_X9_isEmpty_L4] at hk
      generalize f_X9_isEmpty_L4 F I n4 = k4 at ih4 hk
      refine j_iload_n (pc := 4) C dX9_isEmpty_4 rfl rfl ?_
      refine j_bipush (pc := 5) (v := nI 12) C dX9_isEmpty_5 (by decide) ?_
      refine j_icmp_ge (pc := 7) 35 C dX9_isEmpty_7 (by decide) (fun h1 => ?_) (fun h1 => ?_)
      · have hk := it_t h1 hk
        refine j_iload_n (pc := 35) C dX9_isEmpty_35 rfl rfl ?_
        obtain ⟨h2, hk⟩ := og_some hk
        exact j_zretR (pc := 36) C dX9_isEmpty_36 (Nat.le_of_ble_eq_true rfl) (Nat.le_of_ble_eq_true rfl) (isB.nar h2) hk
      · have hk := it_f h1 hk
        refine j_iload_n (pc := 10) C dX9_isEmpty_10 rfl rfl ?_
        refine j_if_ne (pc := 11) 23 C dX9_isEmpty_11 (by decide) (fun h3 => ?_) (fun h3 => ?_)
        · have hk := it_f h3 hk
          refine j_iconst (pc := 23) (v := nI 1) C dX9_isEmpty_23 (by decide) ?_
          refine j_goto (pc := 24) 28 C dX9_isEmpty_24 (by decide) ?_
          refine j_istore_n (pc := 28) C dX9_isEmpty_28 rfl (Nat.le_of_ble_eq_true rfl) rfl ?_
          refine j_iinc (pc := 29) (nI 1) C dX9_isEmpty_29 rfl (by decide) (Nat.le_of_ble_eq_true rfl) rfl ?_
          refine j_goto (pc := 32) 4 C dX9_isEmpty_32 (by decide) ?_
          exact j_mask [true, true, true] (ih4 _ _ hk)
        · have hk := it_t h3 hk
          refine j_aload_n (pc := 14) C dX9_isEmpty_14 rfl rfl ?_
          refine j_getR (pc := 15) C fd_10_23 q2023 (stM_o hS) (stM_r23 hS) dX9_isEmpty_15 ?_
          refine j_iload_n (pc := 18) C dX9_isEmpty_18 rfl rfl ?_
          obtain ⟨i19, e19, h4, hk⟩ := oix_ex hk
          refine j_iald (pc := 19) C (stM_a41 hS) h4 e19 dX9_isEmpty_19 ?_
          refine j_if_ne (pc := 20) 27 C dX9_isEmpty_20 (by decide) (fun h5 => ?_) (fun h5 => ?_)
          · have hk := it_f h5 hk
            refine j_iconst (pc := 27) (v := nI 0) C dX9_isEmpty_27 (by decide) ?_
            refine j_istore_n (pc := 28) C dX9_isEmpty_28 rfl (Nat.le_of_ble_eq_true rfl) rfl ?_
            refine j_iinc (pc := 29) (nI 1) C dX9_isEmpty_29 rfl (by decide) (Nat.le_of_ble_eq_true rfl) rfl ?_
            refine j_goto (pc := 32) 4 C dX9_isEmpty_32 (by decide) ?_
            exact j_mask [true, true, true] (ih4 _ _ hk)
          · have hk := it_t h5 hk
            refine j_iconst (pc := 23) (v := nI 1) C dX9_isEmpty_23 (by decide) ?_
            refine j_goto (pc := 24) 28 C dX9_isEmpty_24 (by decide) ?_
            refine j_istore_n (pc := 28) C dX9_isEmpty_28 rfl (Nat.le_of_ble_eq_true rfl) rfl ?_
            refine j_iinc (pc := 29) (nI 1) C dX9_isEmpty_29 rfl (by decide) (Nat.le_of_ble_eq_true rfl) rfl ?_
            refine j_goto (pc := 32) 4 C dX9_isEmpty_32 (by decide) ?_
            exact j_mask [true, true, true] (ih4 _ _ hk)
  exact j_mask [true, true, true] (L4  _ _ _ hk)
def f_X9_begin_L2 (F : Nat) : Nat → Int32 → II → Option II
  | 0, _, _ => none
  | n2 + 1, x1, I => if (nI 12) ≤ x1 then some (up2 I 27 25 (nI 0)) else oix x1 12 fun i15 => (f_X9_begin_L2 F n2) (x1 + (nI 1)) (up2 I 41 i15 (nI 14))
def f_X9_begin (F : Nat) (I : II) : Option II := f_X9_begin_L2 F F (nI 0) I
abbrev rm_X9_begin : Room := { frames := 0, cells := 0, slots := 0, locals := 0 }
theorem mv_X9_begin : MV yX9_begin cX9_begin 2 none 0 := ⟨q2354, qs78, q106, q2355, by decide +kernel⟩
set_option maxHeartbeats 4000000 in
theorem ct_X9_begin {G : WG} {l : Launch} {sh : SH} (hS : StM sh) {I : II} {F : Nat}  {I9 : II} (hk : f_X9_begin F I = some I9) : CT G l yX9_begin (ws_ yX9_begin cX9_begin 2 none) rm_X9_begin [.ref (wad G 27)] (sh, I) (.returned none) (sh, I9) := by
  refine CT.ofJ "NineDemandsModel" rfl (by decide) (Nat.le_of_ble_eq_true rfl) ?_
  intro p e s m args below meth c C
  unfold f_X9_begin at hk
  refine j_lv (lv' := [some (.ref (wad G 27)), none]) rfl ?_
  refine j_iconst (pc := 0) (v := nI 0) C dX9_begin_0 (by decide) ?_
  refine j_istore_n (pc := 1) C dX9_begin_1 rfl (Nat.le_of_ble_eq_true rfl) rfl ?_
  have L2 : ∀  (n2 : Nat) (x1 : Int32) (I : II), f_X9_begin_L2 F n2 x1 I = some I9 → J G p l e rm_X9_begin s m args below meth c 2 (.returned none) (sh, I9) (rm_X9_begin).cells (rm_X9_begin).slots (sh, I) 0 0 2 [some (.ref (wad G 27)), some (.int x1)] [] := by
    intro  n2
    induction n2 with
    | zero => intro x1 I hk; rw [f_X9_begin_L2] at hk; cases hk
    | succ n2 ih2 =>
      intro x1 I hk
      rw [f_X9_begin_L2] at hk
      generalize f_X9_begin_L2 F n2 = k2 at ih2 hk
      refine j_iload_n (pc := 2) C dX9_begin_2 rfl rfl ?_
      refine j_bipush (pc := 3) (v := nI 12) C dX9_begin_3 (by decide) ?_
      refine j_icmp_ge (pc := 5) 22 C dX9_begin_5 (by decide) (fun h1 => ?_) (fun h1 => ?_)
      · have hk := it_t h1 hk
        refine j_aload_n (pc := 22) C dX9_begin_22 rfl rfl ?_
        refine j_iconst (pc := 23) (v := nI 0) C dX9_begin_23 (by decide) ?_
        refine j_putI (pc := 24) C fd_10_25 (C.2.2.2.2.1 _ q2025) (stM_o hS) rfl rfl dX9_begin_24 ?_
        exact j_vretW (pc := 27) C dX9_begin_27 (Nat.le_of_ble_eq_true rfl) (Nat.le_of_ble_eq_true rfl) hk
      · have hk := it_f h1 hk
        refine j_aload_n (pc := 8) C dX9_begin_8 rfl rfl ?_
        refine j_getR (pc := 9) C fd_10_23 q2023 (stM_o hS) (stM_r23 hS) dX9_begin_9 ?_
        refine j_iload_n (pc := 12) C dX9_begin_12 rfl rfl ?_
        refine j_bipush (pc := 13) (v := nI 14) C dX9_begin_13 (by decide) ?_
        obtain ⟨i15, e15, h2, hk⟩ := oix_ex hk
        refine j_iast (pc := 15) C (stM_a41 hS) h2 e15 dX9_begin_15 ?_
        refine j_iinc (pc := 16) (nI 1) C dX9_begin_16 rfl (by decide) (Nat.le_of_ble_eq_true rfl) rfl ?_
        refine j_goto (pc := 19) 2 C dX9_begin_19 (by decide) ?_
        exact j_mask [true, true] (ih2 _ _ hk)
  exact j_mask [true, true] (L2  _ _ _ hk)
