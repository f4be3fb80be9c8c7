/-! the reference: walks -/
set_option maxRecDepth 100000
def f_X9_goesOn_L50 (F : Nat) (I : II) (x1 : Int32) (x2 : Int32) (x3 : Int32) (x4 : Int32) (x6 : Int32) : Nat → Int32 → Int32 → Option Int32
  | 0, _, _ => none
  | n50 + 1, x5, x7 => if (nI 3) < x7 then og (x5 = 0 ∨ x5 = 1) (some x5) else if x5 = 0 then (f_X9_has x6 x7).bind fun r65 => if r65 = 0 then (f_X9_goesOn_L50 F I x1 x2 x3 x4 x6 n50) (nI 0) (x7 + (nI 1)) else if x3 = 0 then (f_X9_goes x1 x2 x4 x7 I).bind fun r98 => if r98 = 0 then (f_X9_goesOn_L50 F I x1 x2 x3 x4 x6 n50) (nI 0) (x7 + (nI 1)) else (f_X9_goesOn_L50 F I x1 x2 x3 x4 x6 n50) (nI 1) (x7 + (nI 1)) else (f_X9_goes x1 x2 x7 x4 I).bind fun r82 => if r82 = 0 then (f_X9_goesOn_L50 F I x1 x2 x3 x4 x6 n50) (nI 0) (x7 + (nI 1)) else (f_X9_goesOn_L50 F I x1 x2 x3 x4 x6 n50) (nI 1) (x7 + (nI 1)) else (f_X9_goesOn_L50 F I x1 x2 x3 x4 x6 n50) (nI 1) (x7 + (nI 1))
def f_X9_goesOn (F : Nat) (x1 : Int32) (x2 : Int32) (x3 : Int32) (x4 : Int32) (I : II) : Option Int32 := (f_X9_hasOther x1 I).bind fun r2 => if r2 = 0 then (f_X9_goes x1 x2 x4 (nI 0) I).bind fun r14 => og (r14 = 0 ∨ r14 = 1) (some r14) else if x3 = 0 then (f_X9_otherOf x1 x2 I).bind fun r41 => oix r41 12 fun i44 => f_X9_goesOn_L50 F I x1 x2 x3 x4 (I 41 i44) F (nI 0) (nI 1) else (f_X9_hallOf x1 x2 I).bind fun r32 => oix r32 12 fun i44 => f_X9_goesOn_L50 F I x1 x2 x3 x4 (I 41 i44) F (nI 0) (nI 1)
abbrev rm_X9_goesOn : Room := { frames := 3, cells := 0, slots := 0, locals := 67 }
theorem mv_X9_goesOn : MV yX9_goesOn cX9_goesOn 8 (some .boolean) 4 := ⟨q2366, qs81, q106, q2367, by decide +kernel⟩
set_option maxHeartbeats 4000000 in
theorem ct_X9_goesOn {G : WG} {l : Launch} {sh : SH} (hS : StM sh) {I : II} {F : Nat} {x1 : Int32} {x2 : Int32} {x3 : Int32} {x4 : Int32} {r : Int32} (hk : f_X9_goesOn F x1 x2 x3 x4 I = some r) : CT G l yX9_goesOn (ws_ yX9_goesOn cX9_goesOn 8 (some .boolean)) rm_X9_goesOn [.ref (wad G 27), .int x1, .int x2, .int x3, .int x4] (sh, I) (.returned (some (.int r))) (sh, I) := by
  refine CT.ofJ "NineDemandsModel" rfl (by decide) (Nat.le_of_ble_eq_true rfl) ?_
  intro p e s m args below meth c C
  unfold f_X9_goesOn at hk
  refine j_lv (lv' := [some (.ref (wad G 27)), some (.int x1), some (.int x2), some (.int x3), some (.int x4), none, none, none]) rfl ?_
  refine j_aload_n (pc := 0) C dX9_goesOn_0 rfl rfl ?_
  refine j_iload_n (pc := 1) C dX9_goesOn_1 rfl rfl ?_
  obtain ⟨r2, h1, hk⟩ := ob_some hk
  refine j_callV (pc := 2) C (ct_X9_hasOther hS h1) mv_X9_hasOther (stM_o hS) rfl rfl q2254 dX9_goesOn_2 rfl rfl (Nat.le_of_ble_eq_true rfl) rfl ?_
  refine j_if_ne (pc := 5) 18 C dX9_goesOn_5 (by decide) (fun h2 => ?_) (fun h2 => ?_)
  · have hk := it_f h2 hk
    refine j_iconst (pc := 18) (v := nI 0) C dX9_goesOn_18 (by decide) ?_
    refine j_istore (pc := 19) C dX9_goesOn_19 (Nat.le_of_ble_eq_true rfl) rfl ?_
    refine j_aload_n (pc := 21) C dX9_goesOn_21 rfl rfl ?_
    refine j_getR (pc := 22) C fd_10_23 q2023 (stM_o hS) (stM_r23 hS) dX9_goesOn_22 ?_
    refine j_iload_n (pc := 25) C dX9_goesOn_25 rfl rfl ?_
    refine j_if_eq (pc := 26) 38 C dX9_goesOn_26 (by decide) (fun h3 => ?_) (fun h3 => ?_)
    · have hk := it_t h3 hk
      refine j_aload_n (pc := 38) C dX9_goesOn_38 rfl rfl ?_
      refine j_iload_n (pc := 39) C dX9_goesOn_39 rfl rfl ?_
      refine j_iload_n (pc := 40) C dX9_goesOn_40 rfl rfl ?_
      obtain ⟨r41, h4, hk⟩ := ob_some hk
      refine j_callV (pc := 41) C (ct_X9_otherOf hS h4) mv_X9_otherOf (stM_o hS) rfl rfl q2258 dX9_goesOn_41 rfl rfl (Nat.le_of_ble_eq_true rfl) rfl ?_
      obtain ⟨i44, e44, h5, hk⟩ := oix_ex hk
      refine j_iald (pc := 44) C (stM_a41 hS) h5 e44 dX9_goesOn_44 ?_
      refine j_istore (pc := 45) C dX9_goesOn_45 (Nat.le_of_ble_eq_true rfl) rfl ?_
      refine j_iconst (pc := 47) (v := nI 1) C dX9_goesOn_47 (by decide) ?_
      refine j_istore (pc := 48) C dX9_goesOn_48 (Nat.le_of_ble_eq_true rfl) rfl ?_
      have L50 : ∀ (x1 : Int32) (x2 : Int32) (x3 : Int32) (x4 : Int32) (x6 : Int32) (n50 : Nat) (x5 : Int32) (x7 : Int32), f_X9_goesOn_L50 F I x1 x2 x3 x4 x6 n50 x5 x7 = some r → J G p l e rm_X9_goesOn s m args below meth c 8 (.returned (some (.int r))) (sh, I) (rm_X9_goesOn).cells (rm_X9_goesOn).slots (sh, I) 0 0 50 [some (.ref (wad G 27)), some (.int x1), some (.int x2), some (.int x3), some (.int x4), some (.int x5), some (.int x6), some (.int x7)] [] := by
        intro x1 x2 x3 x4 x6 n50
        induction n50 with
        | zero => intro x5 x7 hk; rw [f_X9_goesOn_L50] at hk; cases hk
        | succ n50 ih50 =>
          intro x5 x7 hk
          rw [f_X9_goesOn_L50] at hk
          generalize f_X9_goesOn_L50 F I x1 x2 x3 x4 x6 n50 = k50 at ih50 hk
          refine j_iload (pc := 50) C dX9_goesOn_50 rfl ?_
          refine j_iconst (pc := 52) (v := nI 3) C dX9_goesOn_52 (by decide) ?_
          refine j_icmp_gt (pc := 53) 117 C dX9_goesOn_53 (by decide) (fun h6 => ?_) (fun h6 => ?_)
          · have hk := it_t h6 hk
            refine j_iload (pc := 117) C dX9_goesOn_117 rfl ?_
            obtain ⟨h7, hk⟩ := og_some hk
            exact j_zretR (pc := 119) C dX9_goesOn_119 (Nat.le_of_ble_eq_true rfl) (Nat.le_of_ble_eq_true rfl) (isB.nar h7) hk
          · have hk := it_f h6 hk
            refine j_iload (pc := 56) C dX9_goesOn_56 rfl ?_
            refine j_if_ne (pc := 58) 104 C dX9_goesOn_58 (by decide) (fun h8 => ?_) (fun h8 => ?_)
            · have hk := it_f h8 hk
              refine j_iconst (pc := 104) (v := nI 1) C dX9_goesOn_104 (by decide) ?_
              refine j_goto (pc := 105) 109 C dX9_goesOn_105 (by decide) ?_
              refine j_istore (pc := 109) C dX9_goesOn_109 (Nat.le_of_ble_eq_true rfl) rfl ?_
              refine j_iinc (pc := 111) (nI 1) C dX9_goesOn_111 rfl (by decide) (Nat.le_of_ble_eq_true rfl) rfl ?_
              refine j_goto (pc := 114) 50 C dX9_goesOn_114 (by decide) ?_
              exact j_mask [true, true, true, true, true, true, true, true] (ih50 _ _ hk)
            · have hk := it_t h8 hk
              refine j_iload (pc := 61) C dX9_goesOn_61 rfl ?_
              refine j_iload (pc := 63) C dX9_goesOn_63 rfl ?_
              obtain ⟨r65, h9, hk⟩ := ob_some hk
              refine j_callS (pc := 65) C (ct_X9_has h9) ms_X9_has q2270 dX9_goesOn_65 rfl rfl (Nat.le_of_ble_eq_true rfl) rfl ?_
              refine j_if_eq (pc := 68) 108 C dX9_goesOn_68 (by decide) (fun h10 => ?_) (fun h10 => ?_)
              · have hk := it_t h10 hk
                refine j_iconst (pc := 108) (v := nI 0) C dX9_goesOn_108 (by decide) ?_
                refine j_istore (pc := 109) C dX9_goesOn_109 (Nat.le_of_ble_eq_true rfl) rfl ?_
                refine j_iinc (pc := 111) (nI 1) C dX9_goesOn_111 rfl (by decide) (Nat.le_of_ble_eq_true rfl) rfl ?_
                refine j_goto (pc := 114) 50 C dX9_goesOn_114 (by decide) ?_
                exact j_mask [true, true, true, true, true, true, true, true] (ih50 _ _ hk)
              · have hk := it_f h10 hk
                refine j_iload_n (pc := 71) C dX9_goesOn_71 rfl rfl ?_
                refine j_if_eq (pc := 72) 91 C dX9_goesOn_72 (by decide) (fun h11 => ?_) (fun h11 => ?_)
                · have hk := it_t h11 hk
                  refine j_aload_n (pc := 91) C dX9_goesOn_91 rfl rfl ?_
                  refine j_iload_n (pc := 92) C dX9_goesOn_92 rfl rfl ?_
                  refine j_iload_n (pc := 93) C dX9_goesOn_93 rfl rfl ?_
                  refine j_iload (pc := 94) C dX9_goesOn_94 rfl ?_
                  refine j_iload (pc := 96) C dX9_goesOn_96 rfl ?_
                  obtain ⟨r98, h12, hk⟩ := ob_some hk
                  refine j_callV (pc := 98) C (ct_X9_goes hS h12) mv_X9_goes (stM_o hS) rfl rfl q2266 dX9_goesOn_98 rfl rfl (Nat.le_of_ble_eq_true rfl) rfl ?_
                  refine j_if_eq (pc := 101) 108 C dX9_goesOn_101 (by decide) (fun h13 => ?_) (fun h13 => ?_)
                  · have hk := it_t h13 hk
                    refine j_iconst (pc := 108) (v := nI 0) C dX9_goesOn_108 (by decide) ?_
                    refine j_istore (pc := 109) C dX9_goesOn_109 (Nat.le_of_ble_eq_true rfl) rfl ?_
                    refine j_iinc (pc := 111) (nI 1) C dX9_goesOn_111 rfl (by decide) (Nat.le_of_ble_eq_true rfl) rfl ?_
                    refine j_goto (pc := 114) 50 C dX9_goesOn_114 (by decide) ?_
                    exact j_mask [true, true, true, true, true, true, true, true] (ih50 _ _ hk)
                  · have hk := it_f h13 hk
                    refine j_iconst (pc := 104) (v := nI 1) C dX9_goesOn_104 (by decide) ?_
                    refine j_goto (pc := 105) 109 C dX9_goesOn_105 (by decide) ?_
                    refine j_istore (pc := 109) C dX9_goesOn_109 (Nat.le_of_ble_eq_true rfl) rfl ?_
                    refine j_iinc (pc := 111) (nI 1) C dX9_goesOn_111 rfl (by decide) (Nat.le_of_ble_eq_true rfl) rfl ?_
                    refine j_goto (pc := 114) 50 C dX9_goesOn_114 (by decide) ?_
                    exact j_mask [true, true, true, true, true, true, true, true] (ih50 _ _ hk)
                · have hk := it_f h11 hk
                  refine j_aload_n (pc := 75) C dX9_goesOn_75 rfl rfl ?_
                  refine j_iload_n (pc := 76) C dX9_goesOn_76 rfl rfl ?_
                  refine j_iload_n (pc := 77) C dX9_goesOn_77 rfl rfl ?_
                  refine j_iload (pc := 78) C dX9_goesOn_78 rfl ?_
                  refine j_iload (pc := 80) C dX9_goesOn_80 rfl ?_
                  obtain ⟨r82, h14, hk⟩ := ob_some hk
                  refine j_callV (pc := 82) C (ct_X9_goes hS h14) mv_X9_goes (stM_o hS) rfl rfl q2266 dX9_goesOn_82 rfl rfl (Nat.le_of_ble_eq_true rfl) rfl ?_
                  refine j_if_eq (pc := 85) 108 C dX9_goesOn_85 (by decide) (fun h15 => ?_) (fun h15 => ?_)
                  · have hk := it_t h15 hk
                    refine j_iconst (pc := 108) (v := nI 0) C dX9_goesOn_108 (by decide) ?_
                    refine j_istore (pc := 109) C dX9_goesOn_109 (Nat.le_of_ble_eq_true rfl) rfl ?_
                    refine j_iinc (pc := 111) (nI 1) C dX9_goesOn_111 rfl (by decide) (Nat.le_of_ble_eq_true rfl) rfl ?_
                    refine j_goto (pc := 114) 50 C dX9_goesOn_114 (by decide) ?_
                    exact j_mask [true, true, true, true, true, true, true, true] (ih50 _ _ hk)
                  · have hk := it_f h15 hk
                    refine j_goto (pc := 88) 104 C dX9_goesOn_88 (by decide) ?_
                    refine j_iconst (pc := 104) (v := nI 1) C dX9_goesOn_104 (by decide) ?_
                    refine j_goto (pc := 105) 109 C dX9_goesOn_105 (by decide) ?_
                    refine j_istore (pc := 109) C dX9_goesOn_109 (Nat.le_of_ble_eq_true rfl) rfl ?_
                    refine j_iinc (pc := 111) (nI 1) C dX9_goesOn_111 rfl (by decide) (Nat.le_of_ble_eq_true rfl) rfl ?_
                    refine j_goto (pc := 114) 50 C dX9_goesOn_114 (by decide) ?_
                    exact j_mask [true, true, true, true, true, true, true, true] (ih50 _ _ hk)
      exact j_mask [true, true, true, true, true, true, true, true] (L50 _ _ _ _ _ _ _ _ hk)
    · have hk := it_f h3 hk
      refine j_aload_n (pc := 29) C dX9_goesOn_29 rfl rfl ?_
      refine j_iload_n (pc := 30) C dX9_goesOn_30 rfl rfl ?_
      refine j_iload_n (pc := 31) C dX9_goesOn_31 rfl rfl ?_
      obtain ⟨r32, h16, hk⟩ := ob_some hk
      refine j_callV (pc := 32) C (ct_X9_hallOf hS h16) mv_X9_hallOf (stM_o hS) rfl rfl q2250 dX9_goesOn_32 rfl rfl (Nat.le_of_ble_eq_true rfl) rfl ?_
      refine j_goto (pc := 35) 44 C dX9_goesOn_35 (by decide) ?_
      obtain ⟨i44, e44, h17, hk⟩ := oix_ex hk
      refine j_iald (pc := 44) C (stM_a41 hS) h17 e44 dX9_goesOn_44 ?_
      refine j_istore (pc := 45) C dX9_goesOn_45 (Nat.le_of_ble_eq_true rfl) rfl ?_
      refine j_iconst (pc := 47) (v := nI 1) C dX9_goesOn_47 (by decide) ?_
      refine j_istore (pc := 48) C dX9_goesOn_48 (Nat.le_of_ble_eq_true rfl) rfl ?_
      have L50 : ∀ (x1 : Int32) (x2 : Int32) (x3 : Int32) (x4 : Int32) (x6 : Int32) (n50 : Nat) (x5 : Int32) (x7 : Int32), f_X9_goesOn_L50 F I x1 x2 x3 x4 x6 n50 x5 x7 = some r → J G p l e rm_X9_goesOn s m args below meth c 8 (.returned (some (.int r))) (sh, I) (rm_X9_goesOn).cells (rm_X9_goesOn).slots (sh, I) 0 0 50 [some (.ref (wad G 27)), some (.int x1), some (.int x2), some (.int x3), some (.int x4), some (.int x5), some (.int x6), some (.int x7)] [] := by
        intro x1 x2 x3 x4 x6 n50
        induction n50 with
        | zero => intro x5 x7 hk; rw [f_X9_goesOn_L50] at hk; cases hk
        | succ n50 ih50 =>
          intro x5 x7 hk
          rw [f_X9_goesOn_L50] at hk
          generalize f_X9_goesOn_L50 F I x1 x2 x3 x4 x6 n50 = k50 at ih50 hk
          refine j_iload (pc := 50) C dX9_goesOn_50 rfl ?_
          refine j_iconst (pc := 52) (v := nI 3) C dX9_goesOn_52 (by decide) ?_
          refine j_icmp_gt (pc := 53) 117 C dX9_goesOn_53 (by decide) (fun h18 => ?_) (fun h18 => ?_)
          · have hk := it_t h18 hk
            refine j_iload (pc := 117) C dX9_goesOn_117 rfl ?_
            obtain ⟨h19, hk⟩ := og_some hk
            exact j_zretR (pc := 119) C dX9_goesOn_119 (Nat.le_of_ble_eq_true rfl) (Nat.le_of_ble_eq_true rfl) (isB.nar h19) hk
          · have hk := it_f h18 hk
            refine j_iload (pc := 56) C dX9_goesOn_56 rfl ?_
            refine j_if_ne (pc := 58) 104 C dX9_goesOn_58 (by decide) (fun h20 => ?_) (fun h20 => ?_)
            · have hk := it_f h20 hk
              refine j_iconst (pc := 104) (v := nI 1) C dX9_goesOn_104 (by decide) ?_
              refine j_goto (pc := 105) 109 C dX9_goesOn_105 (by decide) ?_
              refine j_istore (pc := 109) C dX9_goesOn_109 (Nat.le_of_ble_eq_true rfl) rfl ?_
              refine j_iinc (pc := 111) (nI 1) C dX9_goesOn_111 rfl (by decide) (Nat.le_of_ble_eq_true rfl) rfl ?_
              refine j_goto (pc := 114) 50 C dX9_goesOn_114 (by decide) ?_
              exact j_mask [true, true, true, true, true, true, true, true] (ih50 _ _ hk)
            · have hk := it_t h20 hk
              refine j_iload (pc := 61) C dX9_goesOn_61 rfl ?_
              refine j_iload (pc := 63) C dX9_goesOn_63 rfl ?_
              obtain ⟨r65, h21, hk⟩ := ob_some hk
              refine j_callS (pc := 65) C (ct_X9_has h21) ms_X9_has q2270 dX9_goesOn_65 rfl rfl (Nat.le_of_ble_eq_true rfl) rfl ?_
              refine j_if_eq (pc := 68) 108 C dX9_goesOn_68 (by decide) (fun h22 => ?_) (fun h22 => ?_)
              · have hk := it_t h22 hk
                refine j_iconst (pc := 108) (v := nI 0) C dX9_goesOn_108 (by decide) ?_
                refine j_istore (pc := 109) C dX9_goesOn_109 (Nat.le_of_ble_eq_true rfl) rfl ?_
                refine j_iinc (pc := 111) (nI 1) C dX9_goesOn_111 rfl (by decide) (Nat.le_of_ble_eq_true rfl) rfl ?_
                refine j_goto (pc := 114) 50 C dX9_goesOn_114 (by decide) ?_
                exact j_mask [true, true, true, true, true, true, true, true] (ih50 _ _ hk)
              · have hk := it_f h22 hk
                refine j_iload_n (pc := 71) C dX9_goesOn_71 rfl rfl ?_
                refine j_if_eq (pc := 72) 91 C dX9_goesOn_72 (by decide) (fun h23 => ?_) (fun h23 => ?_)
                · have hk := it_t h23 hk
                  refine j_aload_n (pc := 91) C dX9_goesOn_91 rfl rfl ?_
                  refine j_iload_n (pc := 92) C dX9_goesOn_92 rfl rfl ?_
                  refine j_iload_n (pc := 93) C dX9_goesOn_93 rfl rfl ?_
                  refine j_iload (pc := 94) C dX9_goesOn_94 rfl ?_
                  refine j_iload (pc := 96) C dX9_goesOn_96 rfl ?_
                  obtain ⟨r98, h24, hk⟩ := ob_some hk
                  refine j_callV (pc := 98) C (ct_X9_goes hS h24) mv_X9_goes (stM_o hS) rfl rfl q2266 dX9_goesOn_98 rfl rfl (Nat.le_of_ble_eq_true rfl) rfl ?_
                  refine j_if_eq (pc := 101) 108 C dX9_goesOn_101 (by decide) (fun h25 => ?_) (fun h25 => ?_)
                  · have hk := it_t h25 hk
                    refine j_iconst (pc := 108) (v := nI 0) C dX9_goesOn_108 (by decide) ?_
                    refine j_istore (pc := 109) C dX9_goesOn_109 (Nat.le_of_ble_eq_true rfl) rfl ?_
                    refine j_iinc (pc := 111) (nI 1) C dX9_goesOn_111 rfl (by decide) (Nat.le_of_ble_eq_true rfl) rfl ?_
                    refine j_goto (pc := 114) 50 C dX9_goesOn_114 (by decide) ?_
                    exact j_mask [true, true, true, true, true, true, true, true] (ih50 _ _ hk)
                  · have hk := it_f h25 hk
                    refine j_iconst (pc := 104) (v := nI 1) C dX9_goesOn_104 (by decide) ?_
                    refine j_goto (pc := 105) 109 C dX9_goesOn_105 (by decide) ?_
                    refine j_istore (pc := 109) C dX9_goesOn_109 (Nat.le_of_ble_eq_true rfl) rfl ?_
                    refine j_iinc (pc := 111) (nI 1) C dX9_goesOn_111 rfl (by decide) (Nat.le_of_ble_eq_true rfl) rfl ?_
                    refine j_goto (pc := 114) 50 C dX9_goesOn_114 (by decide) ?_
                    exact j_mask [true, true, true, true, true, true, true, true] (ih50 _ _ hk)
                · have hk := it_f h23 hk
                  refine j_aload_n (pc := 75) C dX9_goesOn_75 rfl rfl ?_
                  refine j_iload_n (pc := 76) C dX9_goesOn_76 rfl rfl ?_
                  refine j_iload_n (pc := 77) C dX9_goesOn_77 rfl rfl ?_
                  refine j_iload (pc := 78) C dX9_goesOn_78 rfl ?_
                  refine j_iload (pc := 80) C dX9_goesOn_80 rfl ?_
                  obtain ⟨r82, h26, hk⟩ := ob_some hk
                  refine j_callV (pc := 82) C (ct_X9_goes hS h26) mv_X9_goes (stM_o hS) rfl rfl q2266 dX9_goesOn_82 rfl rfl (Nat.le_of_ble_eq_true rfl) rfl ?_
                  refine j_if_eq (pc := 85) 108 C dX9_goesOn_85 (by decide) (fun h27 => ?_) (fun h27 => ?_)
                  · have hk := it_t h27 hk
                    refine j_iconst (pc := 108) (v := nI 0) C dX9_goesOn_108 (by decide) ?_
                    refine j_istore (pc := 109) C dX9_goesOn_109 (Nat.le_of_ble_eq_true rfl) rfl ?_
                    refine j_iinc (pc := 111) (nI 1) C dX9_goesOn_111 rfl (by decide) (Nat.le_of_ble_eq_true rfl) rfl ?_
                    refine j_goto (pc := 114) 50 C dX9_goesOn_114 (by decide) ?_
                    exact j_mask [true, true, true, true, true, true, true, true] (ih50 _ _ hk)
                  · have hk := it_f h27 hk
                    refine j_goto (pc := 88) 104 C dX9_goesOn_88 (by decide) ?_
                    refine j_iconst (pc := 104) (v := nI 1) C dX9_goesOn_104 (by decide) ?_
                    refine j_goto (pc := 105) 109 C dX9_goesOn_105 (by decide) ?_
                    refine j_istore (pc := 109) C dX9_goesOn_109 (Nat.le_of_ble_eq_true rfl) rfl ?_
                    refine j_iinc (pc := 111) (nI 1) C dX9_goesOn_111 rfl (by decide) (Nat.le_of_ble_eq_true rfl) rfl ?_
                    refine j_goto (pc := 114) 50 C dX9_goesOn_114 (by decide) ?_
                    exact j_mask [true, true, true, true, true, true, true, true] (ih50 _ _ hk)
      exact j_mask [true, true, true, true, true, true, true, true] (L50 _ _ _ _ _ _ _ _ hk)
  · have hk := it_t h2 hk
    refine j_aload_n (pc := 8) C dX9_goesOn_8 rfl rfl ?_
    refine j_iload_n (pc := 9) C dX9_goesOn_9 rfl rfl ?_
    refine j_iload_n (pc := 10) C dX9_goesOn_10 rfl rfl ?_
    refine j_iload (pc := 11) C dX9_goesOn_11 rfl ?_
    refine j_iconst (pc := 13) (v := nI 0) C dX9_goesOn_13 (by decide) ?_
    obtain ⟨r14, h28, hk⟩ := ob_some hk
    refine j_callV (pc := 14) C (ct_X9_goes hS h28) mv_X9_goes (stM_o hS) rfl rfl q2266 dX9_goesOn_14 rfl rfl (Nat.le_of_ble_eq_true rfl) rfl ?_
    obtain ⟨h29, hk⟩ := og_some hk
    exact j_zretR (pc := 17) C dX9_goesOn_17 (Nat.le_of_ble_eq_true rfl) (Nat.le_of_ble_eq_true rfl) (isB.nar h29) hk
def f_X9_strike_L24 (F : Nat) (x1 : Int32) (x2 : Int32) (x3 : Int32) (x4 : Int32) : Nat → Int32 → II → Option II
  | 0, _, _ => none
  | n24 + 1, x5, I => if (nI 3) < x5 then some I else (f_X9_isEmpty F I).bind fun r31 => if r31 = 0 then oix x4 12 fun i43 => (f_X9_has (I 41 i43) x5).bind fun r46 => if r46 = 0 then (f_X9_strike_L24 F x1 x2 x3 x4 n24) (x5 + (nI 1)) I else (f_X9_goesOn F x1 x2 x3 x5 I).bind fun r58 => if r58 = 0 then oix x4 12 fun i71 => oix x4 12 fun i79 => oix ((up2 I 41 i79 ((I 41 i71) &&& (((nI 1) <<< (x5 &&& 31)) ^^^ (-1)))) 27 25) 36 fun i100 => (f_X9_strike_L24 F x1 x2 x3 x4 n24) (x5 + (nI 1)) (up2 (up2 (up2 I 41 i79 ((I 41 i71) &&& (((nI 1) <<< (x5 &&& 31)) ^^^ (-1)))) 42 i100 ((((nI 48) * x1) + ((nI 4) * x4)) + x5)) 27 25 (((up2 (up2 I 41 i79 ((I 41 i71) &&& (((nI 1) <<< (x5 &&& 31)) ^^^ (-1)))) 42 i100 ((((nI 48) * x1) + ((nI 4) * x4)) + x5)) 27 25) + (nI 1))) else (f_X9_strike_L24 F x1 x2 x3 x4 n24) (x5 + (nI 1)) I else some I
def f_X9_strike (F : Nat) (x1 : Int32) (x2 : Int32) (x3 : Int32) (I : II) : Option II := if x3 = 0 then (f_X9_hallOf x1 x2 I).bind fun r16 => f_X9_strike_L24 F x1 x2 x3 r16 F (nI 1) I else (f_X9_otherOf x1 x2 I).bind fun r7 => f_X9_strike_L24 F x1 x2 x3 r7 F (nI 1) I
abbrev rm_X9_strike : Room := { frames := 4, cells := 0, slots := 0, locals := 94 }
theorem mv_X9_strike : MV yX9_strike cX9_strike 6 none 3 := ⟨q2362, qs80, q106, q2363, by decide +kernel⟩
set_option maxHeartbeats 4000000 in
theorem ct_X9_strike {G : WG} {l : Launch} {sh : SH} (hS : StM sh) {I : II} {F : Nat} {x1 : Int32} {x2 : Int32} {x3 : Int32} {I9 : II} (hk : f_X9_strike F x1 x2 x3 I = some I9) : CT G l yX9_strike (ws_ yX9_strike cX9_strike 6 none) rm_X9_strike [.ref (wad G 27), .int x1, .int x2, .int x3] (sh, I) (.returned none) (sh, I9) := by
  refine CT.ofJ "NineDemandsModel" rfl (by decide) (Nat.le_of_ble_eq_true rfl) ?_
  intro p e s m args below meth c C
  unfold f_X9_strike at hk
  refine j_lv (lv' := [some (.ref (wad G 27)), some (.int x1), some (.int x2), some (.int x3), none, none]) rfl ?_
  refine j_iload_n (pc := 0) C dX9_strike_0 rfl rfl ?_
  refine j_if_eq (pc := 1) 13 C dX9_strike_1 (by decide) (fun h1 => ?_) (fun h1 => ?_)
  · have hk := it_t h1 hk
    refine j_aload_n (pc := 13) C dX9_strike_13 rfl rfl ?_
    refine j_iload_n (pc := 14) C dX9_strike_14 rfl rfl ?_
    refine j_iload_n (pc := 15) C dX9_strike_15 rfl rfl ?_
    obtain ⟨r16, h2, hk⟩ := ob_some hk
    refine j_callV (pc := 16) C (ct_X9_hallOf hS h2) mv_X9_hallOf (stM_o hS) rfl rfl q2250 dX9_strike_16 rfl rfl (Nat.le_of_ble_eq_true rfl) rfl ?_
    refine j_istore (pc := 19) C dX9_strike_19 (Nat.le_of_ble_eq_true rfl) rfl ?_
    refine j_iconst (pc := 21) (v := nI 1) C dX9_strike_21 (by decide) ?_
    refine j_istore (pc := 22) C dX9_strike_22 (Nat.le_of_ble_eq_true rfl) rfl ?_
    have L24 : ∀ (x1 : Int32) (x2 : Int32) (x3 : Int32) (x4 : Int32) (n24 : Nat) (x5 : Int32) (I : II), f_X9_strike_L24 F x1 x2 x3 x4 n24 x5 I = some I9 → J G p l e rm_X9_strike s m args below meth c 6 (.returned none) (sh, I9) (rm_X9_strike).cells (rm_X9_strike).slots (sh, I) 0 0 24 [some (.ref (wad G 27)), some (.int x1), some (.int x2), some (.int x3), some (.int x4), some (.int x5)] [] := by
      intro x1 x2 x3 x4 n24
      induction n24 with
      | zero => intro x5 I hk; rw [f_X9_strike_L24] at hk; cases hk
      | succ n24 ih24 =>
        intro x5 I hk
        rw [f_X9_strike_L24] at hk
        generalize f_X9_strike_L24 F x1 x2 x3 x4 n24 = k24 at ih24 hk
        refine j_iload (pc := 24) C dX9_strike_24 rfl ?_
        refine j_iconst (pc := 26) (v := nI 3) C dX9_strike_26 (by decide) ?_
        refine j_icmp_gt (pc := 27) 117 C dX9_strike_27 (by decide) (fun h3 => ?_) (fun h3 => ?_)
        · have hk := it_t h3 hk
          exact j_vretW (pc := 117) C dX9_strike_117 (Nat.le_of_ble_eq_true rfl) (Nat.le_of_ble_eq_true rfl) hk
        · have hk := it_f h3 hk
          refine j_aload_n (pc := 30) C dX9_strike_30 rfl rfl ?_
          obtain ⟨r31, h4, hk⟩ := ob_some hk
          refine j_callV (pc := 31) C (ct_X9_isEmpty hS h4) mv_X9_isEmpty (stM_o hS) rfl rfl q2356 dX9_strike_31 rfl rfl (Nat.le_of_ble_eq_true rfl) rfl ?_
          refine j_if_ne (pc := 34) 117 C dX9_strike_34 (by decide) (fun h5 => ?_) (fun h5 => ?_)
          · have hk := it_f h5 hk
            exact j_vretW (pc := 117) C dX9_strike_117 (Nat.le_of_ble_eq_true rfl) (Nat.le_of_ble_eq_true rfl) hk
          · have hk := it_t h5 hk
            refine j_aload_n (pc := 37) C dX9_strike_37 rfl rfl ?_
            refine j_getR (pc := 38) C fd_10_23 q2023 (stM_o hS) (stM_r23 hS) dX9_strike_38 ?_
            refine j_iload (pc := 41) C dX9_strike_41 rfl ?_
            obtain ⟨i43, e43, h6, hk⟩ := oix_ex hk
            refine j_iald (pc := 43) C (stM_a41 hS) h6 e43 dX9_strike_43 ?_
            refine j_iload (pc := 44) C dX9_strike_44 rfl ?_
            obtain ⟨r46, h7, hk⟩ := ob_some hk
            refine j_callS (pc := 46) C (ct_X9_has h7) ms_X9_has q2270 dX9_strike_46 rfl rfl (Nat.le_of_ble_eq_true rfl) rfl ?_
            refine j_if_eq (pc := 49) 111 C dX9_strike_49 (by decide) (fun h8 => ?_) (fun h8 => ?_)
            · have hk := it_t h8 hk
              refine j_iinc (pc := 111) (nI 1) C dX9_strike_111 rfl (by decide) (Nat.le_of_ble_eq_true rfl) rfl ?_
              refine j_goto (pc := 114) 24 C dX9_strike_114 (by decide) ?_
              exact j_mask [true, true, true, true, true, true] (ih24 _ _ hk)
            · have hk := it_f h8 hk
              refine j_aload_n (pc := 52) C dX9_strike_52 rfl rfl ?_
              refine j_iload_n (pc := 53) C dX9_strike_53 rfl rfl ?_
              refine j_iload_n (pc := 54) C dX9_strike_54 rfl rfl ?_
              refine j_iload_n (pc := 55) C dX9_strike_55 rfl rfl ?_
              refine j_iload (pc := 56) C dX9_strike_56 rfl ?_
              obtain ⟨r58, h9, hk⟩ := ob_some hk
              refine j_callV (pc := 58) C (ct_X9_goesOn hS h9) mv_X9_goesOn (stM_o hS) rfl rfl q2364 dX9_strike_58 rfl rfl (Nat.le_of_ble_eq_true rfl) rfl ?_
              refine j_if_ne (pc := 61) 111 C dX9_strike_61 (by decide) (fun h10 => ?_) (fun h10 => ?_)
              · have hk := it_f h10 hk
                refine j_iinc (pc := 111) (nI 1) C dX9_strike_111 rfl (by decide) (Nat.le_of_ble_eq_true rfl) rfl ?_
                refine j_goto (pc := 114) 24 C dX9_strike_114 (by decide) ?_
                exact j_mask [true, true, true, true, true, true] (ih24 _ _ hk)
              · have hk := it_t h10 hk
                refine j_aload_n (pc := 64) C dX9_strike_64 rfl rfl ?_
                refine j_getR (pc := 65) C fd_10_23 q2023 (stM_o hS) (stM_r23 hS) dX9_strike_65 ?_
                refine j_iload (pc := 68) C dX9_strike_68 rfl ?_
                refine j_dup2 (pc := 70) C dX9_strike_70 rfl rfl ?_
                obtain ⟨i71, e71, h11, hk⟩ := oix_ex hk
                refine j_iald (pc := 71) C (stM_a41 hS) h11 e71 dX9_strike_71 ?_
                refine j_iconst (pc := 72) (v := nI 1) C dX9_strike_72 (by decide) ?_
                refine j_iload (pc := 73) C dX9_strike_73 rfl ?_
                refine j_ishl (pc := 75) C dX9_strike_75 ?_
                refine j_iconst (pc := 76) (v := (-1)) C dX9_strike_76 (by decide) ?_
                refine j_ixor (pc := 77) C dX9_strike_77 ?_
                refine j_iand (pc := 78) C dX9_strike_78 ?_
                obtain ⟨i79, e79, h12, hk⟩ := oix_ex hk
                refine j_iast (pc := 79) C (stM_a41 hS) h12 e79 dX9_strike_79 ?_
                refine j_aload_n (pc := 80) C dX9_strike_80 rfl rfl ?_
                refine j_getR (pc := 81) C fd_10_24 q2024 (stM_o hS) (stM_r24 hS) dX9_strike_81 ?_
                refine j_aload_n (pc := 84) C dX9_strike_84 rfl rfl ?_
                refine j_getI (pc := 85) C fd_10_25 q2025 (stM_o hS) dX9_strike_85 ?_
                refine j_bipush (pc := 88) (v := nI 48) C dX9_strike_88 (by decide) ?_
                refine j_iload_n (pc := 90) C dX9_strike_90 rfl rfl ?_
                refine j_imul (pc := 91) C dX9_strike_91 ?_
                refine j_iconst (pc := 92) (v := nI 4) C dX9_strike_92 (by decide) ?_
                refine j_iload (pc := 93) C dX9_strike_93 rfl ?_
                refine j_imul (pc := 95) C dX9_strike_95 ?_
                refine j_iadd (pc := 96) C dX9_strike_96 ?_
                refine j_iload (pc := 97) C dX9_strike_97 rfl ?_
                refine j_iadd (pc := 99) C dX9_strike_99 ?_
                obtain ⟨i100, e100, h13, hk⟩ := oix_ex hk
                refine j_iast (pc := 100) C (stM_a42 hS) h13 e100 dX9_strike_100 ?_
                refine j_aload_n (pc := 101) C dX9_strike_101 rfl rfl ?_
                refine j_dup (pc := 102) C dX9_strike_102 rfl ?_
                refine j_getI (pc := 103) C fd_10_25 q2025 (stM_o hS) dX9_strike_103 ?_
                refine j_iconst (pc := 106) (v := nI 1) C dX9_strike_106 (by decide) ?_
                refine j_iadd (pc := 107) C dX9_strike_107 ?_
                refine j_putI (pc := 108) C fd_10_25 (C.2.2.2.2.1 _ q2025) (stM_o hS) rfl rfl dX9_strike_108 ?_
                refine j_iinc (pc := 111) (nI 1) C dX9_strike_111 rfl (by decide) (Nat.le_of_ble_eq_true rfl) rfl ?_
                refine j_goto (pc := 114) 24 C dX9_strike_114 (by decide) ?_
                exact j_mask [true, true, true, true, true, true] (ih24 _ _ hk)
    exact j_mask [true, true, true, true, true, true] (L24 _ _ _ _ _ _ _ hk)
  · have hk := it_f h1 hk
    refine j_aload_n (pc := 4) C dX9_strike_4 rfl rfl ?_
    refine j_iload_n (pc := 5) C dX9_strike_5 rfl rfl ?_
    refine j_iload_n (pc := 6) C dX9_strike_6 rfl rfl ?_
    obtain ⟨r7, h14, hk⟩ := ob_some hk
    refine j_callV (pc := 7) C (ct_X9_otherOf hS h14) mv_X9_otherOf (stM_o hS) rfl rfl q2258 dX9_strike_7 rfl rfl (Nat.le_of_ble_eq_true rfl) rfl ?_
    refine j_goto (pc := 10) 19 C dX9_strike_10 (by decide) ?_
    refine j_istore (pc := 19) C dX9_strike_19 (Nat.le_of_ble_eq_true rfl) rfl ?_
    refine j_iconst (pc := 21) (v := nI 1) C dX9_strike_21 (by decide) ?_
    refine j_istore (pc := 22) C dX9_strike_22 (Nat.le_of_ble_eq_true rfl) rfl ?_
    have L24 : ∀ (x1 : Int32) (x2 : Int32) (x3 : Int32) (x4 : Int32) (n24 : Nat) (x5 : Int32) (I : II), f_X9_strike_L24 F x1 x2 x3 x4 n24 x5 I = some I9 → J G p l e rm_X9_strike s m args below meth c 6 (.returned none) (sh, I9) (rm_X9_strike).cells (rm_X9_strike).slots (sh, I) 0 0 24 [some (.ref (wad G 27)), some (.int x1), some (.int x2), some (.int x3), some (.int x4), some (.int x5)] [] := by
      intro x1 x2 x3 x4 n24
      induction n24 with
      | zero => intro x5 I hk; rw [f_X9_strike_L24] at hk; cases hk
      | succ n24 ih24 =>
        intro x5 I hk
        rw [f_X9_strike_L24] at hk
        generalize f_X9_strike_L24 F x1 x2 x3 x4 n24 = k24 at ih24 hk
        refine j_iload (pc := 24) C dX9_strike_24 rfl ?_
        refine j_iconst (pc := 26) (v := nI 3) C dX9_strike_26 (by decide) ?_
        refine j_icmp_gt (pc := 27) 117 C dX9_strike_27 (by decide) (fun h15 => ?_) (fun h15 => ?_)
        · have hk := it_t h15 hk
          exact j_vretW (pc := 117) C dX9_strike_117 (Nat.le_of_ble_eq_true rfl) (Nat.le_of_ble_eq_true rfl) hk
        · have hk := it_f h15 hk
          refine j_aload_n (pc := 30) C dX9_strike_30 rfl rfl ?_
          obtain ⟨r31, h16, hk⟩ := ob_some hk
          refine j_callV (pc := 31) C (ct_X9_isEmpty hS h16) mv_X9_isEmpty (stM_o hS) rfl rfl q2356 dX9_strike_31 rfl rfl (Nat.le_of_ble_eq_true rfl) rfl ?_
          refine j_if_ne (pc := 34) 117 C dX9_strike_34 (by decide) (fun h17 => ?_) (fun h17 => ?_)
          · have hk := it_f h17 hk
            exact j_vretW (pc := 117) C dX9_strike_117 (Nat.le_of_ble_eq_true rfl) (Nat.le_of_ble_eq_true rfl) hk
          · have hk := it_t h17 hk
            refine j_aload_n (pc := 37) C dX9_strike_37 rfl rfl ?_
            refine j_getR (pc := 38) C fd_10_23 q2023 (stM_o hS) (stM_r23 hS) dX9_strike_38 ?_
            refine j_iload (pc := 41) C dX9_strike_41 rfl ?_
            obtain ⟨i43, e43, h18, hk⟩ := oix_ex hk
            refine j_iald (pc := 43) C (stM_a41 hS) h18 e43 dX9_strike_43 ?_
            refine j_iload (pc := 44) C dX9_strike_44 rfl ?_
            obtain ⟨r46, h19, hk⟩ := ob_some hk
            refine j_callS (pc := 46) C (ct_X9_has h19) ms_X9_has q2270 dX9_strike_46 rfl rfl (Nat.le_of_ble_eq_true rfl) rfl ?_
            refine j_if_eq (pc := 49) 111 C dX9_strike_49 (by decide) (fun h20 => ?_) (fun h20 => ?_)
            · have hk := it_t h20 hk
              refine j_iinc (pc := 111) (nI 1) C dX9_strike_111 rfl (by decide) (Nat.le_of_ble_eq_true rfl) rfl ?_
              refine j_goto (pc := 114) 24 C dX9_strike_114 (by decide) ?_
              exact j_mask [true, true, true, true, true, true] (ih24 _ _ hk)
            · have hk := it_f h20 hk
              refine j_aload_n (pc := 52) C dX9_strike_52 rfl rfl ?_
              refine j_iload_n (pc := 53) C dX9_strike_53 rfl rfl ?_
              refine j_iload_n (pc := 54) C dX9_strike_54 rfl rfl ?_
              refine j_iload_n (pc := 55) C dX9_strike_55 rfl rfl ?_
              refine j_iload (pc := 56) C dX9_strike_56 rfl ?_
              obtain ⟨r58, h21, hk⟩ := ob_some hk
              refine j_callV (pc := 58) C (ct_X9_goesOn hS h21) mv_X9_goesOn (stM_o hS) rfl rfl q2364 dX9_strike_58 rfl rfl (Nat.le_of_ble_eq_true rfl) rfl ?_
              refine j_if_ne (pc := 61) 111 C dX9_strike_61 (by decide) (fun h22 => ?_) (fun h22 => ?_)
              · have hk := it_f h22 hk
                refine j_iinc (pc := 111) (nI 1) C dX9_strike_111 rfl (by decide) (Nat.le_of_ble_eq_true rfl) rfl ?_
                refine j_goto (pc := 114) 24 C dX9_strike_114 (by decide) ?_
                exact j_mask [true, true, true, true, true, true] (ih24 _ _ hk)
              · have hk := it_t h22 hk
                refine j_aload_n (pc := 64) C dX9_strike_64 rfl rfl ?_
                refine j_getR (pc := 65) C fd_10_23 q2023 (stM_o hS) (stM_r23 hS) dX9_strike_65 ?_
                refine j_iload (pc := 68) C dX9_strike_68 rfl ?_
                refine j_dup2 (pc := 70) C dX9_strike_70 rfl rfl ?_
                obtain ⟨i71, e71, h23, hk⟩ := oix_ex hk
                refine j_iald (pc := 71) C (stM_a41 hS) h23 e71 dX9_strike_71 ?_
                refine j_iconst (pc := 72) (v := nI 1) C dX9_strike_72 (by decide) ?_
                refine j_iload (pc := 73) C dX9_strike_73 rfl ?_
                refine j_ishl (pc := 75) C dX9_strike_75 ?_
                refine j_iconst (pc := 76) (v := (-1)) C dX9_strike_76 (by decide) ?_
                refine j_ixor (pc := 77) C dX9_strike_77 ?_
                refine j_iand (pc := 78) C dX9_strike_78 ?_
                obtain ⟨i79, e79, h24, hk⟩ := oix_ex hk
                refine j_iast (pc := 79) C (stM_a41 hS) h24 e79 dX9_strike_79 ?_
                refine j_aload_n (pc := 80) C dX9_strike_80 rfl rfl ?_
                refine j_getR (pc := 81) C fd_10_24 q2024 (stM_o hS) (stM_r24 hS) dX9_strike_81 ?_
                refine j_aload_n (pc := 84) C dX9_strike_84 rfl rfl ?_
                refine j_getI (pc := 85) C fd_10_25 q2025 (stM_o hS) dX9_strike_85 ?_
                refine j_bipush (pc := 88) (v := nI 48) C dX9_strike_88 (by decide) ?_
                refine j_iload_n (pc := 90) C dX9_strike_90 rfl rfl ?_
                refine j_imul (pc := 91) C dX9_strike_91 ?_
                refine j_iconst (pc := 92) (v := nI 4) C dX9_strike_92 (by decide) ?_
                refine j_iload (pc := 93) C dX9_strike_93 rfl ?_
                refine j_imul (pc := 95) C dX9_strike_95 ?_
                refine j_iadd (pc := 96) C dX9_strike_96 ?_
                refine j_iload (pc := 97) C dX9_strike_97 rfl ?_
                refine j_iadd (pc := 99) C dX9_strike_99 ?_
                obtain ⟨i100, e100, h25, hk⟩ := oix_ex hk
                refine j_iast (pc := 100) C (stM_a42 hS) h25 e100 dX9_strike_100 ?_
                refine j_aload_n (pc := 101) C dX9_strike_101 rfl rfl ?_
                refine j_dup (pc := 102) C dX9_strike_102 rfl ?_
                refine j_getI (pc := 103) C fd_10_25 q2025 (stM_o hS) dX9_strike_103 ?_
                refine j_iconst (pc := 106) (v := nI 1) C dX9_strike_106 (by decide) ?_
                refine j_iadd (pc := 107) C dX9_strike_107 ?_
                refine j_putI (pc := 108) C fd_10_25 (C.2.2.2.2.1 _ q2025) (stM_o hS) rfl rfl dX9_strike_108 ?_
                refine j_iinc (pc := 111) (nI 1) C dX9_strike_111 rfl (by decide) (Nat.le_of_ble_eq_true rfl) rfl ?_
                refine j_goto (pc := 114) 24 C dX9_strike_114 (by decide) ?_
                exact j_mask [true, true, true, true, true, true] (ih24 _ _ hk)
    exact j_mask [true, true, true, true, true, true] (L24 _ _ _ _ _ _ _ hk)
def f_X9_showing_L41 (F : Nat) (k6 : Int32 → II → Option II) (k28 : Int32 → II → Option II) (x1 : Int32) (x2 : Int32) (x3 : Int32) : Nat → Int32 → II → Option II
  | 0, _, _ => none
  | n41 + 1, x4, I => (f_X9_has x1 x3).bind fun r43 => if r43 = 0 then k28 (x3 + (nI 1)) I else (f_X9_casesOf x3 I).bind fun r53 => if r53 ≤ x4 then k28 (x3 + (nI 1)) I else (f_X9_strike F x3 x4 (nI 0) I).bind fun I64 => (f_X9_hasOther x3 I64).bind fun r69 => if r69 = 0 then (f_X9_showing_L41 F k6 k28 x1 x2 x3 n41) (x4 + (nI 1)) I64 else (f_X9_strike F x3 x4 (nI 1) I64).bind fun I80 => (f_X9_showing_L41 F k6 k28 x1 x2 x3 n41) (x4 + (nI 1)) I80
def f_X9_showing_L28 (F : Nat) (k6 : Int32 → II → Option II) (x1 : Int32) (x2 : Int32) : Nat → Int32 → II → Option II
  | 0, _, _ => none
  | n28 + 1, x3, I => oix (nI 0) 366 fun i34 => if (I 28 i34) ≤ x3 then k6 x2 I else f_X9_showing_L41 F k6 (f_X9_showing_L28 F k6 x1 x2 n28) x1 x2 x3 F (nI 0) I
def f_X9_showing_L6 (F : Nat) (x1 : Int32) : Nat → Int32 → II → Option II
  | 0, _, _ => none
  | n6 + 1, x2, I => if x2 = (I 27 25) then some I else (f_X9_isEmpty F I).bind fun r15 => if r15 = 0 then f_X9_showing_L28 F (f_X9_showing_L6 F x1 n6) x1 (I 27 25) F (nI 0) I else some I
def f_X9_showing (F : Nat) (x1 : Int32) (I : II) : Option II := (f_X9_begin F I).bind fun I1 => f_X9_showing_L6 F x1 F (-1) I1
abbrev rm_X9_showing : Room := { frames := 5, cells := 0, slots := 0, locals := 119 }
theorem mv_X9_showing : MV yX9_showing cX9_showing 5 none 1 := ⟨q2350, qs77, q106, q2351, by decide +kernel⟩
set_option maxHeartbeats 4000000 in
theorem ct_X9_showing {G : WG} {l : Launch} {sh : SH} (hS : StM sh) {I : II} {F : Nat} {x1 : Int32} {I9 : II} (hk : f_X9_showing F x1 I = some I9) : CT G l yX9_showing (ws_ yX9_showing cX9_showing 5 none) rm_X9_showing [.ref (wad G 27), .int x1] (sh, I) (.returned none) (sh, I9) := by
  refine CT.ofJ "NineDemandsModel" rfl (by decide) (Nat.le_of_ble_eq_true rfl) ?_
  intro p e s m args below meth c C
  unfold f_X9_showing at hk
  refine j_lv (lv' := [some (.ref (wad G 27)), some (.int x1), none, none, none]) rfl ?_
  refine j_aload_n (pc := 0) C dX9_showing_0 rfl rfl ?_
  obtain ⟨I1, h1, hk⟩ := ob_some hk
  refine j_callV (pc := 1) C (ct_X9_begin hS h1) mv_X9_begin (stM_o hS) rfl rfl q2352 dX9_showing_1 rfl rfl (Nat.le_of_ble_eq_true rfl) rfl ?_
  refine j_iconst (pc := 4) (v := (-1)) C dX9_showing_4 (by decide) ?_
  refine j_istore_n (pc := 5) C dX9_showing_5 rfl (Nat.le_of_ble_eq_true rfl) rfl ?_
  have L6 : ∀ (x1 : Int32) (n6 : Nat) (x2 : Int32) (I : II), f_X9_showing_L6 F x1 n6 x2 I = some I9 → J G p l e rm_X9_showing s m args below meth c 5 (.returned none) (sh, I9) (rm_X9_showing).cells (rm_X9_showing).slots (sh, I) 0 0 6 [some (.ref (wad G 27)), some (.int x1), some (.int x2), none, none] [] := by
    intro x1 n6
    induction n6 with
    | zero => intro x2 I hk; rw [f_X9_showing_L6] at hk; cases hk
    | succ n6 ih6 =>
      intro x2 I hk
      rw [f_X9_showing_L6] at hk
      generalize f_X9_showing_L6 F x1 n6 = k6 at ih6 hk
      refine j_iload_n (pc := 6) C dX9_showing_6 rfl rfl ?_
      refine j_aload_n (pc := 7) C dX9_showing_7 rfl rfl ?_
      refine j_getI (pc := 8) C fd_10_25 q2025 (stM_o hS) dX9_showing_8 ?_
      refine j_icmp_eq (pc := 11) 98 C dX9_showing_11 (by decide) (fun h2 => ?_) (fun h2 => ?_)
      · have hk := it_t h2 hk
        exact j_vretW (pc := 98) C dX9_showing_98 (Nat.le_of_ble_eq_true rfl) (Nat.le_of_ble_eq_true rfl) hk
      · have hk := it_f h2 hk
        refine j_aload_n (pc := 14) C dX9_showing_14 rfl rfl ?_
        obtain ⟨r15, h3, hk⟩ := ob_some hk
        refine j_callV (pc := 15) C (ct_X9_isEmpty hS h3) mv_X9_isEmpty (stM_o hS) rfl rfl q2356 dX9_showing_15 rfl rfl (Nat.le_of_ble_eq_true rfl) rfl ?_
        refine j_if_ne (pc := 18) 98 C dX9_showing_18 (by decide) (fun h4 => ?_) (fun h4 => ?_)
        · have hk := it_f h4 hk
          exact j_vretW (pc := 98) C dX9_showing_98 (Nat.le_of_ble_eq_true rfl) (Nat.le_of_ble_eq_true rfl) hk
        · have hk := it_t h4 hk
          refine j_aload_n (pc := 21) C dX9_showing_21 rfl rfl ?_
          refine j_getI (pc := 22) C fd_10_25 q2025 (stM_o hS) dX9_showing_22 ?_
          refine j_istore_n (pc := 25) C dX9_showing_25 rfl (Nat.le_of_ble_eq_true rfl) rfl ?_
          refine j_iconst (pc := 26) (v := nI 0) C dX9_showing_26 (by decide) ?_
          refine j_istore_n (pc := 27) C dX9_showing_27 rfl (Nat.le_of_ble_eq_true rfl) rfl ?_
          have L28 : ∀ (x2 : Int32) (n28 : Nat) (x3 : Int32) (I : II), f_X9_showing_L28 F k6 x1 x2 n28 x3 I = some I9 → J G p l e rm_X9_showing s m args below meth c 5 (.returned none) (sh, I9) (rm_X9_showing).cells (rm_X9_showing).slots (sh, I) 0 0 28 [some (.ref (wad G 27)), some (.int x1), some (.int x2), some (.int x3), none] [] := by
            intro x2 n28
            induction n28 with
            | zero => intro x3 I hk; rw [f_X9_showing_L28] at hk; cases hk
            | succ n28 ih28 =>
              intro x3 I hk
              rw [f_X9_showing_L28] at hk
              generalize f_X9_showing_L28 F k6 x1 x2 n28 = k28 at ih28 hk
              refine j_iload_n (pc := 28) C dX9_showing_28 rfl rfl ?_
              refine j_aload_n (pc := 29) C dX9_showing_29 rfl rfl ?_
              refine j_getR (pc := 30) C fd_10_0 q2000 (stM_o hS) (stM_r0 hS) dX9_showing_30 ?_
              refine j_iconst (pc := 33) (v := nI 0) C dX9_showing_33 (by decide) ?_
              obtain ⟨i34, e34, h5, hk⟩ := oix_ex hk
              refine j_iald (pc := 34) C (stM_a28 hS) h5 e34 dX9_showing_34 ?_
              refine j_icmp_ge (pc := 35) 95 C dX9_showing_35 (by decide) (fun h6 => ?_) (fun h6 => ?_)
              · have hk := it_t h6 hk
                refine j_goto (pc := 95) 6 C dX9_showing_95 (by decide) ?_
                exact j_mask [true, true, true, false, false] (ih6 _ _ hk)
              · have hk := it_f h6 hk
                refine j_iconst (pc := 38) (v := nI 0) C dX9_showing_38 (by decide) ?_
                refine j_istore (pc := 39) C dX9_showing_39 (Nat.le_of_ble_eq_true rfl) rfl ?_
                have L41 : ∀ (x3 : Int32) (n41 : Nat) (x4 : Int32) (I : II), f_X9_showing_L41 F k6 k28 x1 x2 x3 n41 x4 I = some I9 → J G p l e rm_X9_showing s m args below meth c 5 (.returned none) (sh, I9) (rm_X9_showing).cells (rm_X9_showing).slots (sh, I) 0 0 41 [some (.ref (wad G 27)), some (.int x1), some (.int x2), some (.int x3), some (.int x4)] [] := by
                  intro x3 n41
                  induction n41 with
                  | zero => intro x4 I hk; rw [f_X9_showing_L41] at hk; cases hk
                  | succ n41 ih41 =>
                    intro x4 I hk
                    rw [f_X9_showing_L41] at hk
                    generalize f_X9_showing_L41 F k6 k28 x1 x2 x3 n41 = k41 at ih41 hk
                    refine j_iload_n (pc := 41) C dX9_showing_41 rfl rfl ?_
                    refine j_iload_n (pc := 42) C dX9_showing_42 rfl rfl ?_
                    obtain ⟨r43, h7, hk⟩ := ob_some hk
                    refine j_callS (pc := 43) C (ct_X9_has h7) ms_X9_has q2270 dX9_showing_43 rfl rfl (Nat.le_of_ble_eq_true rfl) rfl ?_
                    refine j_if_eq (pc := 46) 89 C dX9_showing_46 (by decide) (fun h8 => ?_) (fun h8 => ?_)
                    · have hk := it_t h8 hk
                      refine j_iinc (pc := 89) (nI 1) C dX9_showing_89 rfl (by decide) (Nat.le_of_ble_eq_true rfl) rfl ?_
                      refine j_goto (pc := 92) 28 C dX9_showing_92 (by decide) ?_
                      exact j_mask [true, true, true, true, false] (ih28 _ _ hk)
                    · have hk := it_f h8 hk
                      refine j_iload (pc := 49) C dX9_showing_49 rfl ?_
                      refine j_aload_n (pc := 51) C dX9_showing_51 rfl rfl ?_
                      refine j_iload_n (pc := 52) C dX9_showing_52 rfl rfl ?_
                      obtain ⟨r53, h9, hk⟩ := ob_some hk
                      refine j_callV (pc := 53) C (ct_X9_casesOf hS h9) mv_X9_casesOf (stM_o hS) rfl rfl q2238 dX9_showing_53 rfl rfl (Nat.le_of_ble_eq_true rfl) rfl ?_
                      refine j_icmp_ge (pc := 56) 89 C dX9_showing_56 (by decide) (fun h10 => ?_) (fun h10 => ?_)
                      · have hk := it_t h10 hk
                        refine j_iinc (pc := 89) (nI 1) C dX9_showing_89 rfl (by decide) (Nat.le_of_ble_eq_true rfl) rfl ?_
                        refine j_goto (pc := 92) 28 C dX9_showing_92 (by decide) ?_
                        exact j_mask [true, true, true, true, false] (ih28 _ _ hk)
                      · have hk := it_f h10 hk
                        refine j_aload_n (pc := 59) C dX9_showing_59 rfl rfl ?_
                        refine j_iload_n (pc := 60) C dX9_showing_60 rfl rfl ?_
                        refine j_iload (pc := 61) C dX9_showing_61 rfl ?_
                        refine j_iconst (pc := 63) (v := nI 0) C dX9_showing_63 (by decide) ?_
                        obtain ⟨I64, h11, hk⟩ := ob_some hk
                        refine j_callV (pc := 64) C (ct_X9_strike hS h11) mv_X9_strike (stM_o hS) rfl rfl q2360 dX9_showing_64 rfl rfl (Nat.le_of_ble_eq_true rfl) rfl ?_
                        refine j_aload_n (pc := 67) C dX9_showing_67 rfl rfl ?_
                        refine j_iload_n (pc := 68) C dX9_showing_68 rfl rfl ?_
                        obtain ⟨r69, h12, hk⟩ := ob_some hk
                        refine j_callV (pc := 69) C (ct_X9_hasOther hS h12) mv_X9_hasOther (stM_o hS) rfl rfl q2254 dX9_showing_69 rfl rfl (Nat.le_of_ble_eq_true rfl) rfl ?_
                        refine j_if_eq (pc := 72) 83 C dX9_showing_72 (by decide) (fun h13 => ?_) (fun h13 => ?_)
                        · have hk := it_t h13 hk
                          refine j_iinc (pc := 83) (nI 1) C dX9_showing_83 rfl (by decide) (Nat.le_of_ble_eq_true rfl) rfl ?_
                          refine j_goto (pc := 86) 41 C dX9_showing_86 (by decide) ?_
                          exact j_mask [true, true, true, true, true] (ih41 _ _ hk)
                        · have hk := it_f h13 hk
                          refine j_aload_n (pc := 75) C dX9_showing_75 rfl rfl ?_
                          refine j_iload_n (pc := 76) C dX9_showing_76 rfl rfl ?_
                          refine j_iload (pc := 77) C dX9_showing_77 rfl ?_
                          refine j_iconst (pc := 79) (v := nI 1) C dX9_showing_79 (by decide) ?_
                          obtain ⟨I80, h14, hk⟩ := ob_some hk
                          refine j_callV (pc := 80) C (ct_X9_strike hS h14) mv_X9_strike (stM_o hS) rfl rfl q2360 dX9_showing_80 rfl rfl (Nat.le_of_ble_eq_true rfl) rfl ?_
                          refine j_iinc (pc := 83) (nI 1) C dX9_showing_83 rfl (by decide) (Nat.le_of_ble_eq_true rfl) rfl ?_
                          refine j_goto (pc := 86) 41 C dX9_showing_86 (by decide) ?_
                          exact j_mask [true, true, true, true, true] (ih41 _ _ hk)
                exact j_mask [true, true, true, true, true] (L41 _ _ _ _ hk)
          exact j_mask [true, true, true, true, false] (L28 _ _ _ _ hk)
  exact j_mask [true, true, true, false, false] (L6 _ _ _ _ hk)
def f_X9_show_J14 (F : Nat) (I : II) : Option (Int32 × II) := bd2 (f_X9_finding (-1000001) I) fun r17 I17 => some (r17, I17)
def f_X9_show (F : Nat) (x1 : Int32) (x2 : Int32) (I : II) : Option (Int32 × II) := (f_X9_isSet x1 I).bind fun r2 => if r2 = 0 then f_X9_show_J14 F I else if (-2) ≤ x2 then (f_X9_showing F x1 I).bind fun I23 => if 0 ≤ x2 then if (I23 27 25) ≤ x2 then bd2 (f_X9_finding (-1000002) I23) fun r75 I75 => some (r75, I75) else oix x2 36 fun i68 => some ((I23 42 i68), I23) else if x2 = (-1) then some ((I23 27 25), I23) else (f_X9_isEmpty F I23).bind fun r43 => if r43 = 0 then some ((nI 0), I23) else some ((nI 1), I23) else f_X9_show_J14 F I
abbrev rm_X9_show : Room := { frames := 6, cells := 0, slots := 0, locals := 143 }
theorem mv_X9_show : MV yX9_show cX9_show 3 (some .int) 2 := ⟨q2345, q2346, q106, q2347, by decide +kernel⟩
set_option maxHeartbeats 4000000 in
theorem ct_X9_show {G : WG} {l : Launch} {sh : SH} (hS : StM sh) {I : II} {F : Nat} {x1 : Int32} {x2 : Int32} {r : Int32} {I9 : II} (hk : f_X9_show F x1 x2 I = some (r, I9)) : CT G l yX9_show (ws_ yX9_show cX9_show 3 (some .int)) rm_X9_show [.ref (wad G 27), .int x1, .int x2] (sh, I) (.returned (some (.int r))) (sh, I9) := by
  refine CT.ofJ "NineDemandsModel" rfl (by decide) (Nat.le_of_ble_eq_true rfl) ?_
  intro p e s m args below meth c C
  unfold f_X9_show at hk
  refine j_lv (lv' := [some (.ref (wad G 27)), some (.int x1), some (.int x2)]) rfl ?_
  refine j_aload_n (pc := 0) C dX9_show_0 rfl rfl ?_
  refine j_iload_n (pc := 1) C dX9_show_1 rfl rfl ?_
  obtain ⟨r2, h1, hk⟩ := ob_some hk
  refine j_callV (pc := 2) C (ct_X9_isSet hS h1) mv_X9_isSet (stM_o hS) rfl rfl q2289 dX9_show_2 rfl rfl (Nat.le_of_ble_eq_true rfl) rfl ?_
  have Jn14 : ∀ (I : II), f_X9_show_J14 F I = some (r, I9) → J G p l e rm_X9_show s m args below meth c 3 (.returned (some (.int r))) (sh, I9) (rm_X9_show).cells (rm_X9_show).slots (sh, I) 0 0 14 [some (.ref (wad G 27)), none, none] [] := by
    intro I hk
    unfold f_X9_show_J14 at hk
    refine j_aload_n (pc := 14) C dX9_show_14 rfl rfl ?_
    refine j_ldc (pc := 15) (v := (-1000001)) C q2110 dX9_show_15 ?_
    obtain ⟨r17, I17, h2, hk⟩ := bd2_some hk
    refine j_callV (pc := 17) C (ct_X9_finding hS h2) mv_X9_finding (stM_o hS) rfl rfl q2111 dX9_show_17 rfl rfl (Nat.le_of_ble_eq_true rfl) rfl ?_
    exact j_iretW (pc := 20) C dX9_show_20 (Nat.le_of_ble_eq_true rfl) (Nat.le_of_ble_eq_true rfl) hk
  refine j_if_eq (pc := 5) 14 C dX9_show_5 (by decide) (fun h3 => ?_) (fun h3 => ?_)
  · have hk := it_t h3 hk
    exact j_mask [true, false, false] (Jn14 _ hk)
  · have hk := it_f h3 hk
    refine j_iload_n (pc := 8) C dX9_show_8 rfl rfl ?_
    refine j_bipush (pc := 9) (v := (-2)) C dX9_show_9 (by decide) ?_
    refine j_icmp_ge (pc := 11) 21 C dX9_show_11 (by decide) (fun h4 => ?_) (fun h4 => ?_)
    · have hk := it_t h4 hk
      refine j_aload_n (pc := 21) C dX9_show_21 rfl rfl ?_
      refine j_iload_n (pc := 22) C dX9_show_22 rfl rfl ?_
      obtain ⟨I23, h5, hk⟩ := ob_some hk
      refine j_callV (pc := 23) C (ct_X9_showing hS h5) mv_X9_showing (stM_o hS) rfl rfl q2348 dX9_show_23 rfl rfl (Nat.le_of_ble_eq_true rfl) rfl ?_
      refine j_iload_n (pc := 26) C dX9_show_26 rfl rfl ?_
      refine j_if_ge (pc := 27) 55 C dX9_show_27 (by decide) (fun h6 => ?_) (fun h6 => ?_)
      · have hk := it_t h6 hk
        refine j_iload_n (pc := 55) C dX9_show_55 rfl rfl ?_
        refine j_aload_n (pc := 56) C dX9_show_56 rfl rfl ?_
        refine j_getI (pc := 57) C fd_10_25 q2025 (stM_o hS) dX9_show_57 ?_
        refine j_icmp_ge (pc := 60) 72 C dX9_show_60 (by decide) (fun h7 => ?_) (fun h7 => ?_)
        · have hk := it_t h7 hk
          refine j_aload_n (pc := 72) C dX9_show_72 rfl rfl ?_
          refine j_ldc (pc := 73) (v := (-1000002)) C q2123 dX9_show_73 ?_
          obtain ⟨r75, I75, h8, hk⟩ := bd2_some hk
          refine j_callV (pc := 75) C (ct_X9_finding hS h8) mv_X9_finding (stM_o hS) rfl rfl q2111 dX9_show_75 rfl rfl (Nat.le_of_ble_eq_true rfl) rfl ?_
          exact j_iretW (pc := 78) C dX9_show_78 (Nat.le_of_ble_eq_true rfl) (Nat.le_of_ble_eq_true rfl) hk
        · have hk := it_f h7 hk
          refine j_aload_n (pc := 63) C dX9_show_63 rfl rfl ?_
          refine j_getR (pc := 64) C fd_10_24 q2024 (stM_o hS) (stM_r24 hS) dX9_show_64 ?_
          refine j_iload_n (pc := 67) C dX9_show_67 rfl rfl ?_
          obtain ⟨i68, e68, h9, hk⟩ := oix_ex hk
          refine j_iald (pc := 68) C (stM_a42 hS) h9 e68 dX9_show_68 ?_
          refine j_goto (pc := 69) 78 C dX9_show_69 (by decide) ?_
          exact j_iretW (pc := 78) C dX9_show_78 (Nat.le_of_ble_eq_true rfl) (Nat.le_of_ble_eq_true rfl) hk
      · have hk := it_f h6 hk
        refine j_iload_n (pc := 30) C dX9_show_30 rfl rfl ?_
        refine j_iconst (pc := 31) (v := (-1)) C dX9_show_31 (by decide) ?_
        refine j_icmp_ne (pc := 32) 42 C dX9_show_32 (by decide) (fun h10 => ?_) (fun h10 => ?_)
        · have hk := it_f h10 hk
          refine j_aload_n (pc := 42) C dX9_show_42 rfl rfl ?_
          obtain ⟨r43, h11, hk⟩ := ob_some hk
          refine j_callV (pc := 43) C (ct_X9_isEmpty hS h11) mv_X9_isEmpty (stM_o hS) rfl rfl q2356 dX9_show_43 rfl rfl (Nat.le_of_ble_eq_true rfl) rfl ?_
          refine j_if_eq (pc := 46) 53 C dX9_show_46 (by decide) (fun h12 => ?_) (fun h12 => ?_)
          · have hk := it_t h12 hk
            refine j_iconst (pc := 53) (v := nI 0) C dX9_show_53 (by decide) ?_
            exact j_iretW (pc := 54) C dX9_show_54 (Nat.le_of_ble_eq_true rfl) (Nat.le_of_ble_eq_true rfl) hk
          · have hk := it_f h12 hk
            refine j_iconst (pc := 49) (v := nI 1) C dX9_show_49 (by decide) ?_
            refine j_goto (pc := 50) 54 C dX9_show_50 (by decide) ?_
            exact j_iretW (pc := 54) C dX9_show_54 (Nat.le_of_ble_eq_true rfl) (Nat.le_of_ble_eq_true rfl) hk
        · have hk := it_t h10 hk
          refine j_aload_n (pc := 35) C dX9_show_35 rfl rfl ?_
          refine j_getI (pc := 36) C fd_10_25 q2025 (stM_o hS) dX9_show_36 ?_
          refine j_goto (pc := 39) 54 C dX9_show_39 (by decide) ?_
          exact j_iretW (pc := 54) C dX9_show_54 (Nat.le_of_ble_eq_true rfl) (Nat.le_of_ble_eq_true rfl) hk
    · have hk := it_f h4 hk
      exact j_mask [true, false, false] (Jn14 _ hk)
def f_X9_followsNow_J106 (F : Nat) (I : II) (k66 : Int32 → Int32 → Option Int32) (x3 : Int32) (x4 : Int32) (x5 : Int32) (x7 : Int32) : Option Int32 := (f_X9_otherOf x3 x7 I).bind fun r110 => if r110 = x4 then (f_X9_goesOn F x3 x7 (nI 1) x5 I).bind fun r125 => if r125 = 0 then k66 (nI 1) (x7 + (nI 1)) else k66 (nI 0) (x7 + (nI 1)) else k66 (nI 0) (x7 + (nI 1))
def f_X9_followsNow_L66 (F : Nat) (I : II) (x3 : Int32) (x4 : Int32) (x5 : Int32) : Nat → Int32 → Int32 → Option Int32
  | 0, _, _ => none
  | n66 + 1, x6, x7 => (f_X9_casesOf x3 I).bind fun r70 => if r70 ≤ x7 then og (x6 = 0 ∨ x6 = 1) (some x6) else if x6 = 0 then (f_X9_hallOf x3 x7 I).bind fun r85 => if r85 = x4 then (f_X9_goesOn F x3 x7 (nI 0) x5 I).bind fun r100 => if r100 = 0 then (f_X9_followsNow_L66 F I x3 x4 x5 n66) (nI 1) (x7 + (nI 1)) else f_X9_followsNow_J106 F I (f_X9_followsNow_L66 F I x3 x4 x5 n66) x3 x4 x5 x7 else f_X9_followsNow_J106 F I (f_X9_followsNow_L66 F I x3 x4 x5 n66) x3 x4 x5 x7 else (f_X9_followsNow_L66 F I x3 x4 x5 n66) (nI 1) (x7 + (nI 1))
def f_X9_followsNow (F : Nat) (x1 : Int32) (x2 : Int32) (I : II) : Option Int32 := if x2 < 0 then some (nI 0) else (f_X9_isLaw (x2 / (nI 48)) I).bind fun r24 => if r24 = 0 then some (nI 0) else (f_X9_has x1 (x2 / (nI 48))).bind fun r32 => if r32 = 0 then some (nI 0) else if (x2 - x2 / (nI 4) * (nI 4)) = 0 then some (nI 0) else oix ((x2 - x2 / (nI 48) * (nI 48)) / (nI 4)) 12 fun i49 => (f_X9_has (I 41 i49) (x2 - x2 / (nI 4) * (nI 4))).bind fun r52 => if r52 = 0 then some (nI 0) else f_X9_followsNow_L66 F I (x2 / (nI 48)) ((x2 - x2 / (nI 48) * (nI 48)) / (nI 4)) (x2 - x2 / (nI 4) * (nI 4)) F (nI 0) (nI 0)
abbrev rm_X9_followsNow : Room := { frames := 4, cells := 0, slots := 0, locals := 94 }
theorem mv_X9_followsNow : MV yX9_followsNow cX9_followsNow 8 (some .boolean) 2 := ⟨q2374, qs82, q106, q2375, by decide +kernel⟩
set_option maxHeartbeats 4000000 in
theorem ct_X9_followsNow {G : WG} {l : Launch} {sh : SH} (hS : StM sh) {I : II} {F : Nat} {x1 : Int32} {x2 : Int32} {r : Int32} (hk : f_X9_followsNow F x1 x2 I = some r) : CT G l yX9_followsNow (ws_ yX9_followsNow cX9_followsNow 8 (some .boolean)) rm_X9_followsNow [.ref (wad G 27), .int x1, .int x2] (sh, I) (.returned (some (.int r))) (sh, I) := by
  refine CT.ofJ "NineDemandsModel" rfl (by decide) (Nat.le_of_ble_eq_true rfl) ?_
  intro p e s m args below meth c C
  unfold f_X9_followsNow at hk
  refine j_lv (lv' := [some (.ref (wad G 27)), some (.int x1), some (.int x2), none, none, none, none, none]) rfl ?_
  refine j_iload_n (pc := 0) C dX9_followsNow_0 rfl rfl ?_
  refine j_bipush (pc := 1) (v := nI 48) C dX9_followsNow_1 (by decide) ?_
  refine j_idiv (pc := 3) C dX9_followsNow_3 (by decide) ?_
  refine j_istore_n (pc := 4) C dX9_followsNow_4 rfl (Nat.le_of_ble_eq_true rfl) rfl ?_
  refine j_iload_n (pc := 5) C dX9_followsNow_5 rfl rfl ?_
  refine j_bipush (pc := 6) (v := nI 48) C dX9_followsNow_6 (by decide) ?_
  refine j_irem (pc := 8) C dX9_followsNow_8 (by decide) ?_
  refine j_iconst (pc := 9) (v := nI 4) C dX9_followsNow_9 (by decide) ?_
  refine j_idiv (pc := 10) C dX9_followsNow_10 (by decide) ?_
  refine j_istore (pc := 11) C dX9_followsNow_11 (Nat.le_of_ble_eq_true rfl) rfl ?_
  refine j_iload_n (pc := 13) C dX9_followsNow_13 rfl rfl ?_
  refine j_iconst (pc := 14) (v := nI 4) C dX9_followsNow_14 (by decide) ?_
  refine j_irem (pc := 15) C dX9_followsNow_15 (by decide) ?_
  refine j_istore (pc := 16) C dX9_followsNow_16 (Nat.le_of_ble_eq_true rfl) rfl ?_
  refine j_iload_n (pc := 18) C dX9_followsNow_18 rfl rfl ?_
  refine j_if_lt (pc := 19) 58 C dX9_followsNow_19 (by decide) (fun h1 => ?_) (fun h1 => ?_)
  · have hk := it_t h1 hk
    refine j_iconst (pc := 58) (v := nI 0) C dX9_followsNow_58 (by decide) ?_
    exact j_zretR (pc := 59) C dX9_followsNow_59 (Nat.le_of_ble_eq_true rfl) (Nat.le_of_ble_eq_true rfl) rfl hk
  · have hk := it_f h1 hk
    refine j_aload_n (pc := 22) C dX9_followsNow_22 rfl rfl ?_
    refine j_iload_n (pc := 23) C dX9_followsNow_23 rfl rfl ?_
    obtain ⟨r24, h2, hk⟩ := ob_some hk
    refine j_callV (pc := 24) C (ct_X9_isLaw hS h2) mv_X9_isLaw (stM_o hS) rfl rfl q2223 dX9_followsNow_24 rfl rfl (Nat.le_of_ble_eq_true rfl) rfl ?_
    refine j_if_eq (pc := 27) 58 C dX9_followsNow_27 (by decide) (fun h3 => ?_) (fun h3 => ?_)
    · have hk := it_t h3 hk
      refine j_iconst (pc := 58) (v := nI 0) C dX9_followsNow_58 (by decide) ?_
      exact j_zretR (pc := 59) C dX9_followsNow_59 (Nat.le_of_ble_eq_true rfl) (Nat.le_of_ble_eq_true rfl) rfl hk
    · have hk := it_f h3 hk
      refine j_iload_n (pc := 30) C dX9_followsNow_30 rfl rfl ?_
      refine j_iload_n (pc := 31) C dX9_followsNow_31 rfl rfl ?_
      obtain ⟨r32, h4, hk⟩ := ob_some hk
      refine j_callS (pc := 32) C (ct_X9_has h4) ms_X9_has q2270 dX9_followsNow_32 rfl rfl (Nat.le_of_ble_eq_true rfl) rfl ?_
      refine j_if_eq (pc := 35) 58 C dX9_followsNow_35 (by decide) (fun h5 => ?_) (fun h5 => ?_)
      · have hk := it_t h5 hk
        refine j_iconst (pc := 58) (v := nI 0) C dX9_followsNow_58 (by decide) ?_
        exact j_zretR (pc := 59) C dX9_followsNow_59 (Nat.le_of_ble_eq_true rfl) (Nat.le_of_ble_eq_true rfl) rfl hk
      · have hk := it_f h5 hk
        refine j_iload (pc := 38) C dX9_followsNow_38 rfl ?_
        refine j_if_eq (pc := 40) 58 C dX9_followsNow_40 (by decide) (fun h6 => ?_) (fun h6 => ?_)
        · have hk := it_t h6 hk
          refine j_iconst (pc := 58) (v := nI 0) C dX9_followsNow_58 (by decide) ?_
          exact j_zretR (pc := 59) C dX9_followsNow_59 (Nat.le_of_ble_eq_true rfl) (Nat.le_of_ble_eq_true rfl) rfl hk
        · have hk := it_f h6 hk
          refine j_aload_n (pc := 43) C dX9_followsNow_43 rfl rfl ?_
          refine j_getR (pc := 44) C fd_10_23 q2023 (stM_o hS) (stM_r23 hS) dX9_followsNow_44 ?_
          refine j_iload (pc := 47) C dX9_followsNow_47 rfl ?_
          obtain ⟨i49, e49, h7, hk⟩ := oix_ex hk
          refine j_iald (pc := 49) C (stM_a41 hS) h7 e49 dX9_followsNow_49 ?_
          refine j_iload (pc := 50) C dX9_followsNow_50 rfl ?_
          obtain ⟨r52, h8, hk⟩ := ob_some hk
          refine j_callS (pc := 52) C (ct_X9_has h8) ms_X9_has q2270 dX9_followsNow_52 rfl rfl (Nat.le_of_ble_eq_true rfl) rfl ?_
          refine j_if_ne (pc := 55) 60 C dX9_followsNow_55 (by decide) (fun h9 => ?_) (fun h9 => ?_)
          · have hk := it_f h9 hk
            refine j_iconst (pc := 60) (v := nI 0) C dX9_followsNow_60 (by decide) ?_
            refine j_istore (pc := 61) C dX9_followsNow_61 (Nat.le_of_ble_eq_true rfl) rfl ?_
            refine j_iconst (pc := 63) (v := nI 0) C dX9_followsNow_63 (by decide) ?_
            refine j_istore (pc := 64) C dX9_followsNow_64 (Nat.le_of_ble_eq_true rfl) rfl ?_
            have L66 : ∀ (x3 : Int32) (x4 : Int32) (x5 : Int32) (n66 : Nat) (x6 : Int32) (x7 : Int32), f_X9_followsNow_L66 F I x3 x4 x5 n66 x6 x7 = some r → J G p l e rm_X9_followsNow s m args below meth c 8 (.returned (some (.int r))) (sh, I) (rm_X9_followsNow).cells (rm_X9_followsNow).slots (sh, I) 0 0 66 [some (.ref (wad G 27)), none, none, some (.int x3), some (.int x4), some (.int x5), some (.int x6), some (.int x7)] [] := by
              intro x3 x4 x5 n66
              induction n66 with
              | zero => intro x6 x7 hk; rw [f_X9_followsNow_L66] at hk; cases hk
              | succ n66 ih66 =>
                intro x6 x7 hk
                rw [f_X9_followsNow_L66] at hk
                generalize f_X9_followsNow_L66 F I x3 x4 x5 n66 = k66 at ih66 hk
                refine j_iload (pc := 66) C dX9_followsNow_66 rfl ?_
                refine j_aload_n (pc := 68) C dX9_followsNow_68 rfl rfl ?_
                refine j_iload_n (pc := 69) C dX9_followsNow_69 rfl rfl ?_
                obtain ⟨r70, h10, hk⟩ := ob_some hk
                refine j_callV (pc := 70) C (ct_X9_casesOf hS h10) mv_X9_casesOf (stM_o hS) rfl rfl q2238 dX9_followsNow_70 rfl rfl (Nat.le_of_ble_eq_true rfl) rfl ?_
                refine j_icmp_ge (pc := 73) 144 C dX9_followsNow_73 (by decide) (fun h11 => ?_) (fun h11 => ?_)
                · have hk := it_t h11 hk
                  refine j_iload (pc := 144) C dX9_followsNow_144 rfl ?_
                  obtain ⟨h12, hk⟩ := og_some hk
                  exact j_zretR (pc := 146) C dX9_followsNow_146 (Nat.le_of_ble_eq_true rfl) (Nat.le_of_ble_eq_true rfl) (isB.nar h12) hk
                · have hk := it_f h11 hk
                  refine j_iload (pc := 76) C dX9_followsNow_76 rfl ?_
                  refine j_if_ne (pc := 78) 131 C dX9_followsNow_78 (by decide) (fun h13 => ?_) (fun h13 => ?_)
                  · have hk := it_f h13 hk
                    refine j_iconst (pc := 131) (v := nI 1) C dX9_followsNow_131 (by decide) ?_
                    refine j_goto (pc := 132) 136 C dX9_followsNow_132 (by decide) ?_
                    refine j_istore (pc := 136) C dX9_followsNow_136 (Nat.le_of_ble_eq_true rfl) rfl ?_
                    refine j_iinc (pc := 138) (nI 1) C dX9_followsNow_138 rfl (by decide) (Nat.le_of_ble_eq_true rfl) rfl ?_
                    refine j_goto (pc := 141) 66 C dX9_followsNow_141 (by decide) ?_
                    exact j_mask [true, false, false, true, true, true, true, true] (ih66 _ _ hk)
                  · have hk := it_t h13 hk
                    refine j_aload_n (pc := 81) C dX9_followsNow_81 rfl rfl ?_
                    refine j_iload_n (pc := 82) C dX9_followsNow_82 rfl rfl ?_
                    refine j_iload (pc := 83) C dX9_followsNow_83 rfl ?_
                    obtain ⟨r85, h14, hk⟩ := ob_some hk
                    refine j_callV (pc := 85) C (ct_X9_hallOf hS h14) mv_X9_hallOf (stM_o hS) rfl rfl q2250 dX9_followsNow_85 rfl rfl (Nat.le_of_ble_eq_true rfl) rfl ?_
                    refine j_iload (pc := 88) C dX9_followsNow_88 rfl ?_
                    have Jn106 : ∀ (x7 : Int32), f_X9_followsNow_J106 F I k66 x3 x4 x5 x7 = some r → J G p l e rm_X9_followsNow s m args below meth c 8 (.returned (some (.int r))) (sh, I) (rm_X9_followsNow).cells (rm_X9_followsNow).slots (sh, I) 0 0 106 [some (.ref (wad G 27)), none, none, some (.int x3), some (.int x4), some (.int x5), none, some (.int x7)] [] := by
                      intro x7 hk
                      unfold f_X9_followsNow_J106 at hk
                      refine j_aload_n (pc := 106) C dX9_followsNow_106 rfl rfl ?_
                      refine j_iload_n (pc := 107) C dX9_followsNow_107 rfl rfl ?_
                      refine j_iload (pc := 108) C dX9_followsNow_108 rfl ?_
                      obtain ⟨r110, h15, hk⟩ := ob_some hk
                      refine j_callV (pc := 110) C (ct_X9_otherOf hS h15) mv_X9_otherOf (stM_o hS) rfl rfl q2258 dX9_followsNow_110 rfl rfl (Nat.le_of_ble_eq_true rfl) rfl ?_
                      refine j_iload (pc := 113) C dX9_followsNow_113 rfl ?_
                      refine j_icmp_ne (pc := 115) 135 C dX9_followsNow_115 (by decide) (fun h16 => ?_) (fun h16 => ?_)
                      · have hk := it_f h16 hk
                        refine j_iconst (pc := 135) (v := nI 0) C dX9_followsNow_135 (by decide) ?_
                        refine j_istore (pc := 136) C dX9_followsNow_136 (Nat.le_of_ble_eq_true rfl) rfl ?_
                        refine j_iinc (pc := 138) (nI 1) C dX9_followsNow_138 rfl (by decide) (Nat.le_of_ble_eq_true rfl) rfl ?_
                        refine j_goto (pc := 141) 66 C dX9_followsNow_141 (by decide) ?_
                        exact j_mask [true, false, false, true, true, true, true, true] (ih66 _ _ hk)
                      · have hk := it_t h16 hk
                        refine j_aload_n (pc := 118) C dX9_followsNow_118 rfl rfl ?_
                        refine j_iload_n (pc := 119) C dX9_followsNow_119 rfl rfl ?_
                        refine j_iload (pc := 120) C dX9_followsNow_120 rfl ?_
                        refine j_iconst (pc := 122) (v := nI 1) C dX9_followsNow_122 (by decide) ?_
                        refine j_iload (pc := 123) C dX9_followsNow_123 rfl ?_
                        obtain ⟨r125, h17, hk⟩ := ob_some hk
                        refine j_callV (pc := 125) C (ct_X9_goesOn hS h17) mv_X9_goesOn (stM_o hS) rfl rfl q2364 dX9_followsNow_125 rfl rfl (Nat.le_of_ble_eq_true rfl) rfl ?_
                        refine j_if_ne (pc := 128) 135 C dX9_followsNow_128 (by decide) (fun h18 => ?_) (fun h18 => ?_)
                        · have hk := it_f h18 hk
                          refine j_iconst (pc := 135) (v := nI 0) C dX9_followsNow_135 (by decide) ?_
                          refine j_istore (pc := 136) C dX9_followsNow_136 (Nat.le_of_ble_eq_true rfl) rfl ?_
                          refine j_iinc (pc := 138) (nI 1) C dX9_followsNow_138 rfl (by decide) (Nat.le_of_ble_eq_true rfl) rfl ?_
                          refine j_goto (pc := 141) 66 C dX9_followsNow_141 (by decide) ?_
                          exact j_mask [true, false, false, true, true, true, true, true] (ih66 _ _ hk)
                        · have hk := it_t h18 hk
                          refine j_iconst (pc := 131) (v := nI 1) C dX9_followsNow_131 (by decide) ?_
                          refine j_goto (pc := 132) 136 C dX9_followsNow_132 (by decide) ?_
                          refine j_istore (pc := 136) C dX9_followsNow_136 (Nat.le_of_ble_eq_true rfl) rfl ?_
                          refine j_iinc (pc := 138) (nI 1) C dX9_followsNow_138 rfl (by decide) (Nat.le_of_ble_eq_true rfl) rfl ?_
                          refine j_goto (pc := 141) 66 C dX9_followsNow_141 (by decide) ?_
                          exact j_mask [true, false, false, true, true, true, true, true] (ih66 _ _ hk)
                    refine j_icmp_ne (pc := 90) 106 C dX9_followsNow_90 (by decide) (fun h19 => ?_) (fun h19 => ?_)
                    · have hk := it_f h19 hk
                      exact j_mask [true, false, false, true, true, true, false, true] (Jn106 _ hk)
                    · have hk := it_t h19 hk
                      refine j_aload_n (pc := 93) C dX9_followsNow_93 rfl rfl ?_
                      refine j_iload_n (pc := 94) C dX9_followsNow_94 rfl rfl ?_
                      refine j_iload (pc := 95) C dX9_followsNow_95 rfl ?_
                      refine j_iconst (pc := 97) (v := nI 0) C dX9_followsNow_97 (by decide) ?_
                      refine j_iload (pc := 98) C dX9_followsNow_98 rfl ?_
                      obtain ⟨r100, h20, hk⟩ := ob_some hk
                      refine j_callV (pc := 100) C (ct_X9_goesOn hS h20) mv_X9_goesOn (stM_o hS) rfl rfl q2364 dX9_followsNow_100 rfl rfl (Nat.le_of_ble_eq_true rfl) rfl ?_
                      refine j_if_eq (pc := 103) 131 C dX9_followsNow_103 (by decide) (fun h21 => ?_) (fun h21 => ?_)
                      · have hk := it_t h21 hk
                        refine j_iconst (pc := 131) (v := nI 1) C dX9_followsNow_131 (by decide) ?_
                        refine j_goto (pc := 132) 136 C dX9_followsNow_132 (by decide) ?_
                        refine j_istore (pc := 136) C dX9_followsNow_136 (Nat.le_of_ble_eq_true rfl) rfl ?_
                        refine j_iinc (pc := 138) (nI 1) C dX9_followsNow_138 rfl (by decide) (Nat.le_of_ble_eq_true rfl) rfl ?_
                        refine j_goto (pc := 141) 66 C dX9_followsNow_141 (by decide) ?_
                        exact j_mask [true, false, false, true, true, true, true, true] (ih66 _ _ hk)
                      · have hk := it_f h21 hk
                        exact j_mask [true, false, false, true, true, true, false, true] (Jn106 _ hk)
            exact j_mask [true, false, false, true, true, true, true, true] (L66 _ _ _ _ _ _ hk)
          · have hk := it_t h9 hk
            refine j_iconst (pc := 58) (v := nI 0) C dX9_followsNow_58 (by decide) ?_
            exact j_zretR (pc := 59) C dX9_followsNow_59 (Nat.le_of_ble_eq_true rfl) (Nat.le_of_ble_eq_true rfl) rfl hk
def f_X9_check_J15 (F : Nat) (I : II) : Option (Int32 × II) := bd2 (f_X9_finding (-1000001) I) fun r18 I18 => some (r18, I18)
def f_X9_check_L44 (F : Nat) (x1 : Int32) (x2 : Int32) : Nat → Int32 → II → Option (Int32 × II)
  | 0, _, _ => none
  | n44 + 1, x3, I => oix x2 4 fun i50 => if (I 45 i50) ≤ x3 then (f_X9_isEmpty F I).bind fun r111 => if r111 = 0 then oix x2 4 fun i127 => some (((nI 1) + (I 45 i127)), I) else some ((nI 0), I) else oix (((nI 40) * x2) + x3) 160 fun i64 => (f_X9_followsNow F x1 (I 46 i64) I).bind fun r71 => if r71 = 0 then some (((nI 1) + x3), I) else oix (((I 46 i64) - (I 46 i64) / (nI 48) * (nI 48)) / (nI 4)) 12 fun i93 => oix (((I 46 i64) - (I 46 i64) / (nI 48) * (nI 48)) / (nI 4)) 12 fun i103 => (f_X9_check_L44 F x1 x2 n44) (x3 + (nI 1)) (up2 I 41 i103 ((I 41 i93) &&& (((nI 1) <<< (((I 46 i64) - (I 46 i64) / (nI 4) * (nI 4)) &&& 31)) ^^^ (-1))))
def f_X9_check (F : Nat) (x1 : Int32) (x2 : Int32) (I : II) : Option (Int32 × II) := (f_X9_isSet x1 I).bind fun r2 => if r2 = 0 then f_X9_check_J15 F I else (f_X9_isSheet x2).bind fun r9 => if r9 = 0 then f_X9_check_J15 F I else oix x2 4 fun i27 => if (I 44 i27) = 0 then bd2 (f_X9_finding (-1000002) I) fun r34 I34 => some (r34, I34) else (f_X9_begin F I).bind fun I39 => f_X9_check_L44 F x1 x2 F (nI 0) I39
abbrev rm_X9_check : Room := { frames := 5, cells := 0, slots := 0, locals := 121 }
theorem mv_X9_check : MV yX9_check cX9_check 5 (some .int) 2 := ⟨q2369, q2370, q106, q2371, by decide +kernel⟩
set_option maxHeartbeats 4000000 in
theorem ct_X9_check {G : WG} {l : Launch} {sh : SH} (hS : StM sh) {I : II} {F : Nat} {x1 : Int32} {x2 : Int32} {r : Int32} {I9 : II} (hk : f_X9_check F x1 x2 I = some (r, I9)) : CT G l yX9_check (ws_ yX9_check cX9_check 5 (some .int)) rm_X9_check [.ref (wad G 27), .int x1, .int x2] (sh, I) (.returned (some (.int r))) (sh, I9) := by
  refine CT.ofJ "NineDemandsModel" rfl (by decide) (Nat.le_of_ble_eq_true rfl) ?_
  intro p e s m args below meth c C
  unfold f_X9_check at hk
  refine j_lv (lv' := [some (.ref (wad G 27)), some (.int x1), some (.int x2), none, none]) rfl ?_
  refine j_aload_n (pc := 0) C dX9_check_0 rfl rfl ?_
  refine j_iload_n (pc := 1) C dX9_check_1 rfl rfl ?_
  obtain ⟨r2, h1, hk⟩ := ob_some hk
  refine j_callV (pc := 2) C (ct_X9_isSet hS h1) mv_X9_isSet (stM_o hS) rfl rfl q2289 dX9_check_2 rfl rfl (Nat.le_of_ble_eq_true rfl) rfl ?_
  have Jn15 : ∀ (I : II), f_X9_check_J15 F I = some (r, I9) → J G p l e rm_X9_check s m args below meth c 5 (.returned (some (.int r))) (sh, I9) (rm_X9_check).cells (rm_X9_check).slots (sh, I) 0 0 15 [some (.ref (wad G 27)), none, none, none, none] [] := by
    intro I hk
    unfold f_X9_check_J15 at hk
    refine j_aload_n (pc := 15) C dX9_check_15 rfl rfl ?_
    refine j_ldc (pc := 16) (v := (-1000001)) C q2110 dX9_check_16 ?_
    obtain ⟨r18, I18, h2, hk⟩ := bd2_some hk
    refine j_callV (pc := 18) C (ct_X9_finding hS h2) mv_X9_finding (stM_o hS) rfl rfl q2111 dX9_check_18 rfl rfl (Nat.le_of_ble_eq_true rfl) rfl ?_
    exact j_iretW (pc := 21) C dX9_check_21 (Nat.le_of_ble_eq_true rfl) (Nat.le_of_ble_eq_true rfl) hk
  refine j_if_eq (pc := 5) 15 C dX9_check_5 (by decide) (fun h3 => ?_) (fun h3 => ?_)
  · have hk := it_t h3 hk
    exact j_mask [true, false, false, false, false] (Jn15 _ hk)
  · have hk := it_f h3 hk
    refine j_iload_n (pc := 8) C dX9_check_8 rfl rfl ?_
    obtain ⟨r9, h4, hk⟩ := ob_some hk
    refine j_callS (pc := 9) C (ct_X9_isSheet h4) ms_X9_isSheet q2139 dX9_check_9 rfl rfl (Nat.le_of_ble_eq_true rfl) rfl ?_
    refine j_if_ne (pc := 12) 22 C dX9_check_12 (by decide) (fun h5 => ?_) (fun h5 => ?_)
    · have hk := it_f h5 hk
      refine j_aload_n (pc := 22) C dX9_check_22 rfl rfl ?_
      refine j_getR (pc := 23) C fd_10_29 q2029 (stM_o hS) (stM_r29 hS) dX9_check_23 ?_
      refine j_iload_n (pc := 26) C dX9_check_26 rfl rfl ?_
      obtain ⟨i27, e27, h6, hk⟩ := oix_ex hk
      refine j_iald (pc := 27) C (stM_a44 hS) h6 e27 dX9_check_27 ?_
      refine j_if_ne (pc := 28) 38 C dX9_check_28 (by decide) (fun h7 => ?_) (fun h7 => ?_)
      · have hk := it_f h7 hk
        refine j_aload_n (pc := 38) C dX9_check_38 rfl rfl ?_
        obtain ⟨I39, h8, hk⟩ := ob_some hk
        refine j_callV (pc := 39) C (ct_X9_begin hS h8) mv_X9_begin (stM_o hS) rfl rfl q2352 dX9_check_39 rfl rfl (Nat.le_of_ble_eq_true rfl) rfl ?_
        refine j_iconst (pc := 42) (v := nI 0) C dX9_check_42 (by decide) ?_
        refine j_istore_n (pc := 43) C dX9_check_43 rfl (Nat.le_of_ble_eq_true rfl) rfl ?_
        have L44 : ∀ (x1 : Int32) (x2 : Int32) (n44 : Nat) (x3 : Int32) (I : II), f_X9_check_L44 F x1 x2 n44 x3 I = some (r, I9) → J G p l e rm_X9_check s m args below meth c 5 (.returned (some (.int r))) (sh, I9) (rm_X9_check).cells (rm_X9_check).slots (sh, I) 0 0 44 [some (.ref (wad G 27)), some (.int x1), some (.int x2), some (.int x3), none] [] := by
          intro x1 x2 n44
          induction n44 with
          | zero => intro x3 I hk; rw [f_X9_check_L44] at hk; cases hk
          | succ n44 ih44 =>
            intro x3 I hk
            rw [f_X9_check_L44] at hk
            generalize f_X9_check_L44 F x1 x2 n44 = k44 at ih44 hk
            refine j_iload_n (pc := 44) C dX9_check_44 rfl rfl ?_
            refine j_aload_n (pc := 45) C dX9_check_45 rfl rfl ?_
            refine j_getR (pc := 46) C fd_10_30 q2030 (stM_o hS) (stM_r30 hS) dX9_check_46 ?_
            refine j_iload_n (pc := 49) C dX9_check_49 rfl rfl ?_
            obtain ⟨i50, e50, h9, hk⟩ := oix_ex hk
            refine j_iald (pc := 50) C (stM_a45 hS) h9 e50 dX9_check_50 ?_
            refine j_icmp_ge (pc := 51) 110 C dX9_check_51 (by decide) (fun h10 => ?_) (fun h10 => ?_)
            · have hk := it_t h10 hk
              refine j_aload_n (pc := 110) C dX9_check_110 rfl rfl ?_
              obtain ⟨r111, h11, hk⟩ := ob_some hk
              refine j_callV (pc := 111) C (ct_X9_isEmpty hS h11) mv_X9_isEmpty (stM_o hS) rfl rfl q2356 dX9_check_111 rfl rfl (Nat.le_of_ble_eq_true rfl) rfl ?_
              refine j_if_eq (pc := 114) 121 C dX9_check_114 (by decide) (fun h12 => ?_) (fun h12 => ?_)
              · have hk := it_t h12 hk
                refine j_iconst (pc := 121) (v := nI 1) C dX9_check_121 (by decide) ?_
                refine j_aload_n (pc := 122) C dX9_check_122 rfl rfl ?_
                refine j_getR (pc := 123) C fd_10_30 q2030 (stM_o hS) (stM_r30 hS) dX9_check_123 ?_
                refine j_iload_n (pc := 126) C dX9_check_126 rfl rfl ?_
                obtain ⟨i127, e127, h13, hk⟩ := oix_ex hk
                refine j_iald (pc := 127) C (stM_a45 hS) h13 e127 dX9_check_127 ?_
                refine j_iadd (pc := 128) C dX9_check_128 ?_
                exact j_iretW (pc := 129) C dX9_check_129 (Nat.le_of_ble_eq_true rfl) (Nat.le_of_ble_eq_true rfl) hk
              · have hk := it_f h12 hk
                refine j_iconst (pc := 117) (v := nI 0) C dX9_check_117 (by decide) ?_
                refine j_goto (pc := 118) 129 C dX9_check_118 (by decide) ?_
                exact j_iretW (pc := 129) C dX9_check_129 (Nat.le_of_ble_eq_true rfl) (Nat.le_of_ble_eq_true rfl) hk
            · have hk := it_f h10 hk
              refine j_aload_n (pc := 54) C dX9_check_54 rfl rfl ?_
              refine j_getR (pc := 55) C fd_10_31 q2031 (stM_o hS) (stM_r31 hS) dX9_check_55 ?_
              refine j_bipush (pc := 58) (v := nI 40) C dX9_check_58 (by decide) ?_
              refine j_iload_n (pc := 60) C dX9_check_60 rfl rfl ?_
              refine j_imul (pc := 61) C dX9_check_61 ?_
              refine j_iload_n (pc := 62) C dX9_check_62 rfl rfl ?_
              refine j_iadd (pc := 63) C dX9_check_63 ?_
              obtain ⟨i64, e64, h14, hk⟩ := oix_ex hk
              refine j_iald (pc := 64) C (stM_a46 hS) h14 e64 dX9_check_64 ?_
              refine j_istore (pc := 65) C dX9_check_65 (Nat.le_of_ble_eq_true rfl) rfl ?_
              refine j_aload_n (pc := 67) C dX9_check_67 rfl rfl ?_
              refine j_iload_n (pc := 68) C dX9_check_68 rfl rfl ?_
              refine j_iload (pc := 69) C dX9_check_69 rfl ?_
              obtain ⟨r71, h15, hk⟩ := ob_some hk
              refine j_callV (pc := 71) C (ct_X9_followsNow hS h15) mv_X9_followsNow (stM_o hS) rfl rfl q2372 dX9_check_71 rfl rfl (Nat.le_of_ble_eq_true rfl) rfl ?_
              refine j_if_ne (pc := 74) 81 C dX9_check_74 (by decide) (fun h16 => ?_) (fun h16 => ?_)
              · have hk := it_f h16 hk
                refine j_aload_n (pc := 81) C dX9_check_81 rfl rfl ?_
                refine j_getR (pc := 82) C fd_10_23 q2023 (stM_o hS) (stM_r23 hS) dX9_check_82 ?_
                refine j_iload (pc := 85) C dX9_check_85 rfl ?_
                refine j_bipush (pc := 87) (v := nI 48) C dX9_check_87 (by decide) ?_
                refine j_irem (pc := 89) C dX9_check_89 (by decide) ?_
                refine j_iconst (pc := 90) (v := nI 4) C dX9_check_90 (by decide) ?_
                refine j_idiv (pc := 91) C dX9_check_91 (by decide) ?_
                refine j_dup2 (pc := 92) C dX9_check_92 rfl rfl ?_
                obtain ⟨i93, e93, h17, hk⟩ := oix_ex hk
                refine j_iald (pc := 93) C (stM_a41 hS) h17 e93 dX9_check_93 ?_
                refine j_iconst (pc := 94) (v := nI 1) C dX9_check_94 (by decide) ?_
                refine j_iload (pc := 95) C dX9_check_95 rfl ?_
                refine j_iconst (pc := 97) (v := nI 4) C dX9_check_97 (by decide) ?_
                refine j_irem (pc := 98) C dX9_check_98 (by decide) ?_
                refine j_ishl (pc := 99) C dX9_check_99 ?_
                refine j_iconst (pc := 100) (v := (-1)) C dX9_check_100 (by decide) ?_
                refine j_ixor (pc := 101) C dX9_check_101 ?_
                refine j_iand (pc := 102) C dX9_check_102 ?_
                obtain ⟨i103, e103, h18, hk⟩ := oix_ex hk
                refine j_iast (pc := 103) C (stM_a41 hS) h18 e103 dX9_check_103 ?_
                refine j_iinc (pc := 104) (nI 1) C dX9_check_104 rfl (by decide) (Nat.le_of_ble_eq_true rfl) rfl ?_
                refine j_goto (pc := 107) 44 C dX9_check_107 (by decide) ?_
                exact j_mask [true, true, true, true, false] (ih44 _ _ hk)
              · have hk := it_t h16 hk
                refine j_iconst (pc := 77) (v := nI 1) C dX9_check_77 (by decide) ?_
                refine j_iload_n (pc := 78) C dX9_check_78 rfl rfl ?_
                refine j_iadd (pc := 79) C dX9_check_79 ?_
                exact j_iretW (pc := 80) C dX9_check_80 (Nat.le_of_ble_eq_true rfl) (Nat.le_of_ble_eq_true rfl) hk
        exact j_mask [true, true, true, true, false] (L44 _ _ _ _ _ hk)
      · have hk := it_t h7 hk
        refine j_aload_n (pc := 31) C dX9_check_31 rfl rfl ?_
        refine j_ldc (pc := 32) (v := (-1000002)) C q2123 dX9_check_32 ?_
        obtain ⟨r34, I34, h19, hk⟩ := bd2_some hk
        refine j_callV (pc := 34) C (ct_X9_finding hS h19) mv_X9_finding (stM_o hS) rfl rfl q2111 dX9_check_34 rfl rfl (Nat.le_of_ble_eq_true rfl) rfl ?_
        exact j_iretW (pc := 37) C dX9_check_37 (Nat.le_of_ble_eq_true rfl) (Nat.le_of_ble_eq_true rfl) hk
    · have hk := it_t h5 hk
      exact j_mask [true, false, false, false, false] (Jn15 _ hk)
def f_X9_bits_L4 (F : Nat) (x0 : Int32) : Nat → Int32 → Int32 → Option Int32
  | 0, _, _ => none
  | n4 + 1, x1, x2 => if (nI 12) ≤ x2 then some x1 else (f_X9_bits_L4 F x0 n4) (x1 + ((x0 >>> (x2 &&& 31)) &&& (nI 1))) (x2 + (nI 1))
def f_X9_bits (F : Nat) (x0 : Int32) : Option Int32 := f_X9_bits_L4 F x0 F (nI 0) (nI 0)
abbrev rm_X9_bits : Room := { frames := 0, cells := 0, slots := 0, locals := 0 }
theorem ms_X9_bits : MS yX9_bits cX9_bits 3 (some .int) 1 := ⟨q2382, q106, q2383, by decide +kernel⟩
set_option maxHeartbeats 4000000 in
theorem ct_X9_bits {G : WG} {l : Launch} {sh : SH} {I : II} {F : Nat} {x0 : Int32} {r : Int32} (hk : f_X9_bits F x0 = some r) : CT G l yX9_bits (ws_ yX9_bits cX9_bits 3 (some .int)) rm_X9_bits [.int x0] (sh, I) (.returned (some (.int r))) (sh, I) := by
  refine CT.ofJ "NineDemandsModel" rfl (by decide) (Nat.le_of_ble_eq_true rfl) ?_
  intro p e s m args below meth c C
  unfold f_X9_bits at hk
  refine j_lv (lv' := [some (.int x0), none, none]) rfl ?_
  refine j_iconst (pc := 0) (v := nI 0) C dX9_bits_0 (by decide) ?_
  refine j_istore_n (pc := 1) C dX9_bits_1 rfl (Nat.le_of_ble_eq_true rfl) rfl ?_
  refine j_iconst (pc := 2) (v := nI 0) C dX9_bits_2 (by decide) ?_
  refine j_istore_n (pc := 3) C dX9_bits_3 rfl (Nat.le_of_ble_eq_true rfl) rfl ?_
  have L4 : ∀ (x0 : Int32) (n4 : Nat) (x1 : Int32) (x2 : Int32), f_X9_bits_L4 F x0 n4 x1 x2 = some r → J G p l e rm_X9_bits s m args below meth c 3 (.returned (some (.int r))) (sh, I) (rm_X9_bits).cells (rm_X9_bits).slots (sh, I) 0 0 4 [some (.int x0), some (.int x1), some (.int x2)] [] := by
    intro x0 n4
    induction n4 with
    | zero => intro x1 x2 hk; rw [f_X9_bits_L4] at hk; cases hk
    | succ n4 ih4 =>
      intro x1 x2 hk
      rw [f_X9_bits_L4] at hk
      generalize f_X9_bits_L4 F x0 n4 = k4 at ih4 hk
      refine j_iload_n (pc := 4) C dX9_bits_4 rfl rfl ?_
      refine j_bipush (pc := 5) (v := nI 12) C dX9_bits_5 (by decide) ?_
      refine j_icmp_ge (pc := 7) 24 C dX9_bits_7 (by decide) (fun h1 => ?_) (fun h1 => ?_)
      · have hk := it_t h1 hk
        refine j_iload_n (pc := 24) C dX9_bits_24 rfl rfl ?_
        exact j_iretR (pc := 25) C dX9_bits_25 (Nat.le_of_ble_eq_true rfl) (Nat.le_of_ble_eq_true rfl) hk
      · have hk := it_f h1 hk
        refine j_iload_n (pc := 10) C dX9_bits_10 rfl rfl ?_
        refine j_iload_n (pc := 11) C dX9_bits_11 rfl rfl ?_
        refine j_iload_n (pc := 12) C dX9_bits_12 rfl rfl ?_
        refine j_ishr (pc := 13) C dX9_bits_13 ?_
        refine j_iconst (pc := 14) (v := nI 1) C dX9_bits_14 (by decide) ?_
        refine j_iand (pc := 15) C dX9_bits_15 ?_
        refine j_iadd (pc := 16) C dX9_bits_16 ?_
        refine j_istore_n (pc := 17) C dX9_bits_17 rfl (Nat.le_of_ble_eq_true rfl) rfl ?_
        refine j_iinc (pc := 18) (nI 1) C dX9_bits_18 rfl (by decide) (Nat.le_of_ble_eq_true rfl) rfl ?_
        refine j_goto (pc := 21) 4 C dX9_bits_21 (by decide) ?_
        exact j_mask [true, true, true] (ih4 _ _ hk)
  exact j_mask [true, true, true] (L4 _ _ _ _ hk)
def f_X9_small_J75 (F : Nat) (k35 : Int32 → Int32 → II → Option (Int32 × II)) (x1 : Int32) (x2 : Int32) (x3 : Int32) (I : II) : Option (Int32 × II) := bd2 (f_X9_fitsSome F x3 I) fun r77 I77 => if r77 = 0 then k35 x3 (x3 + (nI 1)) I77 else k35 x2 (x3 + (nI 1)) I77
def f_X9_small_L35 (F : Nat) (x1 : Int32) : Nat → Int32 → Int32 → II → Option (Int32 × II)
  | 0, _, _, _ => none
  | n35 + 1, x2, x3, I => if x1 ≤ x3 then some (x2, I) else if (x3 &&& (x1 ^^^ (-1))) = 0 then (f_X9_bits F x3).bind fun r49 => (f_X9_bits F x2).bind fun r53 => if r49 < r53 then f_X9_small_J75 F (f_X9_small_L35 F x1 n35) x1 x2 x3 I else (f_X9_bits F x3).bind fun r60 => (f_X9_bits F x2).bind fun r64 => if r60 = r64 then if x2 ≤ x3 then (f_X9_small_L35 F x1 n35) x2 (x3 + (nI 1)) I else f_X9_small_J75 F (f_X9_small_L35 F x1 n35) x1 x2 x3 I else (f_X9_small_L35 F x1 n35) x2 (x3 + (nI 1)) I else (f_X9_small_L35 F x1 n35) x2 (x3 + (nI 1)) I
def f_X9_small (F : Nat) (x1 : Int32) (I : II) : Option (Int32 × II) := (f_X9_isSet x1 I).bind fun r2 => if r2 = 0 then bd2 (f_X9_finding (-1000001) I) fun r11 I11 => some (r11, I11) else bd2 (f_X9_fitsSome F x1 I) fun r17 I17 => if r17 = 0 then f_X9_small_L35 F x1 F x1 (nI 0) I17 else bd2 (f_X9_finding (-1000003) I17) fun r27 I27 => some (r27, I27)
abbrev rm_X9_small : Room := { frames := 17, cells := 0, slots := 0, locals := 389 }
theorem mv_X9_small : MV yX9_small cX9_small 4 (some .int) 1 := ⟨q2377, q2378, q106, q2379, by decide +kernel⟩
set_option maxHeartbeats 4000000 in
theorem ct_X9_small {G : WG} {l : Launch} {sh : SH} (hS : StM sh) {I : II} {F : Nat} {x1 : Int32} {r : Int32} {I9 : II} (hk : f_X9_small F x1 I = some (r, I9)) : CT G l yX9_small (ws_ yX9_small cX9_small 4 (some .int)) rm_X9_small [.ref (wad G 27), .int x1] (sh, I) (.returned (some (.int r))) (sh, I9) := by
  refine CT.ofJ "NineDemandsModel" rfl (by decide) (Nat.le_of_ble_eq_true rfl) ?_
  intro p e s m args below meth c C
  unfold f_X9_small at hk
  refine j_lv (lv' := [some (.ref (wad G 27)), some (.int x1), none, none]) rfl ?_
  refine j_aload_n (pc := 0) C dX9_small_0 rfl rfl ?_
  refine j_iload_n (pc := 1) C dX9_small_1 rfl rfl ?_
  obtain ⟨r2, h1, hk⟩ := ob_some hk
  refine j_callV (pc := 2) C (ct_X9_isSet hS h1) mv_X9_isSet (stM_o hS) rfl rfl q2289 dX9_small_2 rfl rfl (Nat.le_of_ble_eq_true rfl) rfl ?_
  refine j_if_ne (pc := 5) 15 C dX9_small_5 (by decide) (fun h2 => ?_) (fun h2 => ?_)
  · have hk := it_f h2 hk
    refine j_aload_n (pc := 15) C dX9_small_15 rfl rfl ?_
    refine j_iload_n (pc := 16) C dX9_small_16 rfl rfl ?_
    obtain ⟨r17, I17, h3, hk⟩ := bd2_some hk
    refine j_callV (pc := 17) C (ct_X9_fitsSome hS h3) mv_X9_fitsSome (stM_o hS) rfl rfl q2293 dX9_small_17 rfl rfl (Nat.le_of_ble_eq_true rfl) rfl ?_
    refine j_if_eq (pc := 20) 31 C dX9_small_20 (by decide) (fun h4 => ?_) (fun h4 => ?_)
    · have hk := it_t h4 hk
      refine j_iload_n (pc := 31) C dX9_small_31 rfl rfl ?_
      refine j_istore_n (pc := 32) C dX9_small_32 rfl (Nat.le_of_ble_eq_true rfl) rfl ?_
      refine j_iconst (pc := 33) (v := nI 0) C dX9_small_33 (by decide) ?_
      refine j_istore_n (pc := 34) C dX9_small_34 rfl (Nat.le_of_ble_eq_true rfl) rfl ?_
      have L35 : ∀ (x1 : Int32) (n35 : Nat) (x2 : Int32) (x3 : Int32) (I : II), f_X9_small_L35 F x1 n35 x2 x3 I = some (r, I9) → J G p l e rm_X9_small s m args below meth c 4 (.returned (some (.int r))) (sh, I9) (rm_X9_small).cells (rm_X9_small).slots (sh, I) 0 0 35 [some (.ref (wad G 27)), some (.int x1), some (.int x2), some (.int x3)] [] := by
        intro x1 n35
        induction n35 with
        | zero => intro x2 x3 I hk; rw [f_X9_small_L35] at hk; cases hk
        | succ n35 ih35 =>
          intro x2 x3 I hk
          rw [f_X9_small_L35] at hk
          generalize f_X9_small_L35 F x1 n35 = k35 at ih35 hk
          refine j_iload_n (pc := 35) C dX9_small_35 rfl rfl ?_
          refine j_iload_n (pc := 36) C dX9_small_36 rfl rfl ?_
          refine j_icmp_ge (pc := 37) 91 C dX9_small_37 (by decide) (fun h5 => ?_) (fun h5 => ?_)
          · have hk := it_t h5 hk
            refine j_iload_n (pc := 91) C dX9_small_91 rfl rfl ?_
            exact j_iretW (pc := 92) C dX9_small_92 (Nat.le_of_ble_eq_true rfl) (Nat.le_of_ble_eq_true rfl) hk
          · have hk := it_f h5 hk
            refine j_iload_n (pc := 40) C dX9_small_40 rfl rfl ?_
            refine j_iload_n (pc := 41) C dX9_small_41 rfl rfl ?_
            refine j_iconst (pc := 42) (v := (-1)) C dX9_small_42 (by decide) ?_
            refine j_ixor (pc := 43) C dX9_small_43 ?_
            refine j_iand (pc := 44) C dX9_small_44 ?_
            refine j_if_ne (pc := 45) 85 C dX9_small_45 (by decide) (fun h6 => ?_) (fun h6 => ?_)
            · have hk := it_f h6 hk
              refine j_iinc (pc := 85) (nI 1) C dX9_small_85 rfl (by decide) (Nat.le_of_ble_eq_true rfl) rfl ?_
              refine j_goto (pc := 88) 35 C dX9_small_88 (by decide) ?_
              exact j_mask [true, true, true, true] (ih35 _ _ _ hk)
            · have hk := it_t h6 hk
              refine j_iload_n (pc := 48) C dX9_small_48 rfl rfl ?_
              obtain ⟨r49, h7, hk⟩ := ob_some hk
              refine j_callS (pc := 49) C (ct_X9_bits h7) ms_X9_bits q2381 dX9_small_49 rfl rfl (Nat.le_of_ble_eq_true rfl) rfl ?_
              refine j_iload_n (pc := 52) C dX9_small_52 rfl rfl ?_
              obtain ⟨r53, h8, hk⟩ := ob_some hk
              refine j_callS (pc := 53) C (ct_X9_bits h8) ms_X9_bits q2381 dX9_small_53 rfl rfl (Nat.le_of_ble_eq_true rfl) rfl ?_
              have Jn75 : ∀ (x2 : Int32) (x3 : Int32) (I : II), f_X9_small_J75 F k35 x1 x2 x3 I = some (r, I9) → J G p l e rm_X9_small s m args below meth c 4 (.returned (some (.int r))) (sh, I9) (rm_X9_small).cells (rm_X9_small).slots (sh, I) 0 0 75 [some (.ref (wad G 27)), some (.int x1), some (.int x2), some (.int x3)] [] := by
                intro x2 x3 I hk
                unfold f_X9_small_J75 at hk
                refine j_aload_n (pc := 75) C dX9_small_75 rfl rfl ?_
                refine j_iload_n (pc := 76) C dX9_small_76 rfl rfl ?_
                obtain ⟨r77, I77, h9, hk⟩ := bd2_some hk
                refine j_callV (pc := 77) C (ct_X9_fitsSome hS h9) mv_X9_fitsSome (stM_o hS) rfl rfl q2293 dX9_small_77 rfl rfl (Nat.le_of_ble_eq_true rfl) rfl ?_
                refine j_if_ne (pc := 80) 85 C dX9_small_80 (by decide) (fun h10 => ?_) (fun h10 => ?_)
                · have hk := it_f h10 hk
                  refine j_iinc (pc := 85) (nI 1) C dX9_small_85 rfl (by decide) (Nat.le_of_ble_eq_true rfl) rfl ?_
                  refine j_goto (pc := 88) 35 C dX9_small_88 (by decide) ?_
                  exact j_mask [true, true, true, true] (ih35 _ _ _ hk)
                · have hk := it_t h10 hk
                  refine j_iload_n (pc := 83) C dX9_small_83 rfl rfl ?_
                  refine j_istore_n (pc := 84) C dX9_small_84 rfl (Nat.le_of_ble_eq_true rfl) rfl ?_
                  refine j_iinc (pc := 85) (nI 1) C dX9_small_85 rfl (by decide) (Nat.le_of_ble_eq_true rfl) rfl ?_
                  refine j_goto (pc := 88) 35 C dX9_small_88 (by decide) ?_
                  exact j_mask [true, true, true, true] (ih35 _ _ _ hk)
              refine j_icmp_lt (pc := 56) 75 C dX9_small_56 (by decide) (fun h11 => ?_) (fun h11 => ?_)
              · have hk := it_t h11 hk
                exact j_mask [true, true, true, true] (Jn75 _ _ _ hk)
              · have hk := it_f h11 hk
                refine j_iload_n (pc := 59) C dX9_small_59 rfl rfl ?_
                obtain ⟨r60, h12, hk⟩ := ob_some hk
                refine j_callS (pc := 60) C (ct_X9_bits h12) ms_X9_bits q2381 dX9_small_60 rfl rfl (Nat.le_of_ble_eq_true rfl) rfl ?_
                refine j_iload_n (pc := 63) C dX9_small_63 rfl rfl ?_
                obtain ⟨r64, h13, hk⟩ := ob_some hk
                refine j_callS (pc := 64) C (ct_X9_bits h13) ms_X9_bits q2381 dX9_small_64 rfl rfl (Nat.le_of_ble_eq_true rfl) rfl ?_
                refine j_icmp_ne (pc := 67) 85 C dX9_small_67 (by decide) (fun h14 => ?_) (fun h14 => ?_)
                · have hk := it_f h14 hk
                  refine j_iinc (pc := 85) (nI 1) C dX9_small_85 rfl (by decide) (Nat.le_of_ble_eq_true rfl) rfl ?_
                  refine j_goto (pc := 88) 35 C dX9_small_88 (by decide) ?_
                  exact j_mask [true, true, true, true] (ih35 _ _ _ hk)
                · have hk := it_t h14 hk
                  refine j_iload_n (pc := 70) C dX9_small_70 rfl rfl ?_
                  refine j_iload_n (pc := 71) C dX9_small_71 rfl rfl ?_
                  refine j_icmp_ge (pc := 72) 85 C dX9_small_72 (by decide) (fun h15 => ?_) (fun h15 => ?_)
                  · have hk := it_t h15 hk
                    refine j_iinc (pc := 85) (nI 1) C dX9_small_85 rfl (by decide) (Nat.le_of_ble_eq_true rfl) rfl ?_
                    refine j_goto (pc := 88) 35 C dX9_small_88 (by decide) ?_
                    exact j_mask [true, true, true, true] (ih35 _ _ _ hk)
                  · have hk := it_f h15 hk
                    exact j_mask [true, true, true, true] (Jn75 _ _ _ hk)
      exact j_mask [true, true, true, true] (L35 _ _ _ _ _ hk)
    · have hk := it_f h4 hk
      refine j_aload_n (pc := 23) C dX9_small_23 rfl rfl ?_
      refine j_ldcw (pc := 24) (v := (-1000003)) C q2380 dX9_small_24 ?_
      obtain ⟨r27, I27, h16, hk⟩ := bd2_some hk
      refine j_callV (pc := 27) C (ct_X9_finding hS h16) mv_X9_finding (stM_o hS) rfl rfl q2111 dX9_small_27 rfl rfl (Nat.le_of_ble_eq_true rfl) rfl ?_
      exact j_iretW (pc := 30) C dX9_small_30 (Nat.le_of_ble_eq_true rfl) (Nat.le_of_ble_eq_true rfl) hk
  · have hk := it_t h2 hk
    refine j_aload_n (pc := 8) C dX9_small_8 rfl rfl ?_
    refine j_ldc (pc := 9) (v := (-1000001)) C q2110 dX9_small_9 ?_
    obtain ⟨r11, I11, h17, hk⟩ := bd2_some hk
    refine j_callV (pc := 11) C (ct_X9_finding hS h17) mv_X9_finding (stM_o hS) rfl rfl q2111 dX9_small_11 rfl rfl (Nat.le_of_ble_eq_true rfl) rfl ?_
    exact j_iretW (pc := 14) C dX9_small_14 (Nat.le_of_ble_eq_true rfl) (Nat.le_of_ble_eq_true rfl) hk
