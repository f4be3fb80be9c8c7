/-! the reference: its constructor -/
set_option maxRecDepth 100000
/-- one array field more -/
def mkA (sh : SH) (k n : Nat) : SH := shR (newS sh 100 n) 27 k (some sh.1)
def shM0 (sh : SH) : SH := sh
def IM0 (_ : SH) (I : II) : II := I
def shM1 (sh : SH) : SH := mkA (shM0 sh) 0 366
def IM1 (sh : SH) (I : II) : II := newI (shM0 sh) (IM0 sh I)
def shM2 (sh : SH) : SH := mkA (shM1 sh) 1 366
def IM2 (sh : SH) (I : II) : II := newI (shM1 sh) (IM1 sh I)
def shM3 (sh : SH) : SH := mkA (shM2 sh) 3 6
def IM3 (sh : SH) (I : II) : II := newI (shM2 sh) (IM2 sh I)
def shM4 (sh : SH) : SH := mkA (shM3 sh) 4 7
def IM4 (sh : SH) (I : II) : II := newI (shM3 sh) (IM3 sh I)
def shM5 (sh : SH) : SH := mkA (shM4 sh) 5 90
def IM5 (sh : SH) (I : II) : II := newI (shM4 sh) (IM4 sh I)
def shM6 (sh : SH) : SH := mkA (shM5 sh) 6 90
def IM6 (sh : SH) (I : II) : II := newI (shM5 sh) (IM5 sh I)
def shM7 (sh : SH) : SH := mkA (shM6 sh) 7 90
def IM7 (sh : SH) (I : II) : II := newI (shM6 sh) (IM6 sh I)
def shM8 (sh : SH) : SH := mkA (shM7 sh) 13 60
def IM8 (sh : SH) (I : II) : II := newI (shM7 sh) (IM7 sh I)
def shM9 (sh : SH) : SH := mkA (shM8 sh) 18 60
def IM9 (sh : SH) (I : II) : II := newI (shM8 sh) (IM8 sh I)
def shM10 (sh : SH) : SH := mkA (shM9 sh) 19 12
def IM10 (sh : SH) (I : II) : II := newI (shM9 sh) (IM9 sh I)
def shM11 (sh : SH) : SH := mkA (shM10 sh) 20 144
def IM11 (sh : SH) (I : II) : II := newI (shM10 sh) (IM10 sh I)
def shM12 (sh : SH) : SH := mkA (shM11 sh) 21 12
def IM12 (sh : SH) (I : II) : II := newI (shM11 sh) (IM11 sh I)
def shM13 (sh : SH) : SH := mkA (shM12 sh) 22 4096
def IM13 (sh : SH) (I : II) : II := newI (shM12 sh) (IM12 sh I)
def shM14 (sh : SH) : SH := mkA (shM13 sh) 23 12
def IM14 (sh : SH) (I : II) : II := newI (shM13 sh) (IM13 sh I)
def shM15 (sh : SH) : SH := mkA (shM14 sh) 24 36
def IM15 (sh : SH) (I : II) : II := newI (shM14 sh) (IM14 sh I)
def shM16 (sh : SH) : SH := mkA (shM15 sh) 26 40
def IM16 (sh : SH) (I : II) : II := newI (shM15 sh) (IM15 sh I)
def shM17 (sh : SH) : SH := mkA (shM16 sh) 29 4
def IM17 (sh : SH) (I : II) : II := newI (shM16 sh) (IM16 sh I)
def shM18 (sh : SH) : SH := mkA (shM17 sh) 30 4
def IM18 (sh : SH) (I : II) : II := newI (shM17 sh) (IM17 sh I)
def shM19 (sh : SH) : SH := mkA (shM18 sh) 31 160
def IM19 (sh : SH) (I : II) : II := newI (shM18 sh) (IM18 sh I)
def shM20 (sh : SH) : SH := mkA (shM19 sh) 32 40
def IM20 (sh : SH) (I : II) : II := newI (shM19 sh) (IM19 sh I)
set_option maxHeartbeats 4000000 in
theorem shM_ok {kd : Nat → Nat × Nat} {R : RR} (h : (kd 27).1 = 10) : StM (shM20 (28, kd, R)) := by
  exact ⟨⟨(Nat.le_of_ble_eq_true rfl), h⟩, rfl, rfl, rfl, rfl, rfl, rfl, rfl, rfl, rfl, rfl, rfl, rfl, rfl, rfl, rfl, rfl, rfl, rfl, rfl, rfl, ⟨(Nat.le_of_ble_eq_true rfl), rfl⟩, ⟨(Nat.le_of_ble_eq_true rfl), rfl⟩, ⟨(Nat.le_of_ble_eq_true rfl), rfl⟩, ⟨(Nat.le_of_ble_eq_true rfl), rfl⟩, ⟨(Nat.le_of_ble_eq_true rfl), rfl⟩, ⟨(Nat.le_of_ble_eq_true rfl), rfl⟩, ⟨(Nat.le_of_ble_eq_true rfl), rfl⟩, ⟨(Nat.le_of_ble_eq_true rfl), rfl⟩, ⟨(Nat.le_of_ble_eq_true rfl), rfl⟩, ⟨(Nat.le_of_ble_eq_true rfl), rfl⟩, ⟨(Nat.le_of_ble_eq_true rfl), rfl⟩, ⟨(Nat.le_of_ble_eq_true rfl), rfl⟩, ⟨(Nat.le_of_ble_eq_true rfl), rfl⟩, ⟨(Nat.le_of_ble_eq_true rfl), rfl⟩, ⟨(Nat.le_of_ble_eq_true rfl), rfl⟩, ⟨(Nat.le_of_ble_eq_true rfl), rfl⟩, ⟨(Nat.le_of_ble_eq_true rfl), rfl⟩, ⟨(Nat.le_of_ble_eq_true rfl), rfl⟩, ⟨(Nat.le_of_ble_eq_true rfl), rfl⟩, ⟨(Nat.le_of_ble_eq_true rfl), rfl⟩⟩
def f_X9_initB_L210 (F : Nat) (k193 : Int32 → II → Option II) (x1 : Int32) : Nat → Int32 → II → Option II
  | 0, _, _ => none
  | n210 + 1, x2, I => if (nI 12) ≤ x2 then k193 (x1 + (nI 1)) I else (f_X9_addCases F x1 x2 I).bind fun I219 => (f_X9_initB_L210 F k193 x1 n210) (x2 + (nI 1)) I219
def f_X9_initB_L193 (F : Nat) : Nat → Int32 → II → Option II
  | 0, _, _ => none
  | n193 + 1, x1, I => if (nI 5) < x1 then oix (nI 6) 7 fun i244 => some (up2 I 31 i244 (I 27 8)) else oix x1 7 fun i207 => f_X9_initB_L210 F (f_X9_initB_L193 F n193) x1 F (nI 0) (up2 I 31 i207 (I 27 8))
def f_X9_initB_L169 (F : Nat) : Nat → Int32 → II → Option II
  | 0, _, _ => none
  | n169 + 1, x1, I => if (nI 12) ≤ x1 then f_X9_initB_L193 F F (nI 0) I else oix ((nI 10) + x1) 366 fun i184 => (f_X9_initB_L169 F n169) (x1 + (nI 1)) (up2 I 28 i184 (nI 3))
def f_X9_initB (F : Nat) (I : II) : Option II := f_X9_initB_L169 F F (nI 0) I
abbrev rm_X9_init : Room := { frames := 3, cells := 20, slots := 5695, locals := 65 }
theorem mi_X9_init : MI yX9_init cX9_init 3 0 := ⟨q1980, q106, q1981, rfl, by decide +kernel⟩
set_option maxHeartbeats 4000000 in
theorem ct_X9_init {G : WG} {l : Launch} {kd : Nat → Nat × Nat} {R : RR} {I : II} {F : Nat} {I9 : II} (h27 : (kd 27).1 = 10) (hk : f_X9_initB F (IM20 (28, kd, R) I) = some I9) : CT G l yX9_init (ws_ yX9_init cX9_init 3 none) rm_X9_init [.ref (wad G 27)] ((28, kd, R), I) (.returned none) (shM20 (28, kd, R), I9) := by
  refine CT.ofJ "NineDemandsModel" rfl (by decide) (Nat.le_of_ble_eq_true rfl) ?_
  intro p e s m args below meth c C
  refine j_lv (lv' := [some (.ref (wad G 27)), none, none]) rfl ?_
  refine j_aload_n (pc := 0) C dX9_init_0 rfl rfl ?_
  refine x_objInit (pc := 1) C q1982 q144 q145 dX9_init_1 (Nat.le_of_ble_eq_true rfl) (Nat.le_of_ble_eq_true rfl) ?_
  refine j_aload_n (pc := 4) C dX9_init_4 rfl rfl ?_
  refine j_sipush (pc := 5) (v := nI 366) C dX9_init_5 (by decide) ?_
  refine x_newaI (pc := 8) (at' := .int) (t := 100) (q := 366) (i := nI 366) (sh := shM0 (28, kd, R)) C (Or.inl ⟨rfl, rfl⟩) q247 (by decide) (by decide) (by decide) (Nat.le_of_ble_eq_true rfl) (Nat.le_of_ble_eq_true rfl) (Nat.le_of_ble_eq_true rfl) dX9_init_8 ?_
  refine j_kn (k' := 1) (n' := 366) rfl rfl ?_
  refine x_putNF (pc := 10) (o := some ((shM0 (28, kd, R)).1)) (sh := newS (shM0 (28, kd, R)) 100 366) C fd_10_0 q2000 (⟨(Nat.le_of_ble_eq_true rfl), h27⟩ : obw (newS (shM0 (28, kd, R)) 100 366) 27 10) rfl dX9_init_10 ?_
  refine j_aload_n (pc := 13) C dX9_init_13 rfl rfl ?_
  refine j_sipush (pc := 14) (v := nI 366) C dX9_init_14 (by decide) ?_
  refine x_newaI (pc := 17) (at' := .int) (t := 100) (q := 366) (i := nI 366) (sh := shM1 (28, kd, R)) C (Or.inl ⟨rfl, rfl⟩) q247 (by decide) (by decide) (by decide) (Nat.le_of_ble_eq_true rfl) (Nat.le_of_ble_eq_true rfl) (Nat.le_of_ble_eq_true rfl) dX9_init_17 ?_
  refine j_kn (k' := 2) (n' := 732) rfl rfl ?_
  refine x_putNF (pc := 19) (o := some ((shM1 (28, kd, R)).1)) (sh := newS (shM1 (28, kd, R)) 100 366) C fd_10_1 q2001 (⟨(Nat.le_of_ble_eq_true rfl), h27⟩ : obw (newS (shM1 (28, kd, R)) 100 366) 27 10) rfl dX9_init_19 ?_
  refine j_aload_n (pc := 22) C dX9_init_22 rfl rfl ?_
  refine j_bipush (pc := 23) (v := nI 6) C dX9_init_23 (by decide) ?_
  refine x_newaI (pc := 25) (at' := .int) (t := 100) (q := 6) (i := nI 6) (sh := shM2 (28, kd, R)) C (Or.inl ⟨rfl, rfl⟩) q247 (by decide) (by decide) (by decide) (Nat.le_of_ble_eq_true rfl) (Nat.le_of_ble_eq_true rfl) (Nat.le_of_ble_eq_true rfl) dX9_init_25 ?_
  refine j_kn (k' := 3) (n' := 738) rfl rfl ?_
  refine x_putNF (pc := 27) (o := some ((shM2 (28, kd, R)).1)) (sh := newS (shM2 (28, kd, R)) 100 6) C fd_10_3 q2003 (⟨(Nat.le_of_ble_eq_true rfl), h27⟩ : obw (newS (shM2 (28, kd, R)) 100 6) 27 10) rfl dX9_init_27 ?_
  refine j_aload_n (pc := 30) C dX9_init_30 rfl rfl ?_
  refine j_bipush (pc := 31) (v := nI 7) C dX9_init_31 (by decide) ?_
  refine x_newaI (pc := 33) (at' := .int) (t := 100) (q := 7) (i := nI 7) (sh := shM3 (28, kd, R)) C (Or.inl ⟨rfl, rfl⟩) q247 (by decide) (by decide) (by decide) (Nat.le_of_ble_eq_true rfl) (Nat.le_of_ble_eq_true rfl) (Nat.le_of_ble_eq_true rfl) dX9_init_33 ?_
  refine j_kn (k' := 4) (n' := 745) rfl rfl ?_
  refine x_putNF (pc := 35) (o := some ((shM3 (28, kd, R)).1)) (sh := newS (shM3 (28, kd, R)) 100 7) C fd_10_4 q2004 (⟨(Nat.le_of_ble_eq_true rfl), h27⟩ : obw (newS (shM3 (28, kd, R)) 100 7) 27 10) rfl dX9_init_35 ?_
  refine j_aload_n (pc := 38) C dX9_init_38 rfl rfl ?_
  refine j_bipush (pc := 39) (v := nI 90) C dX9_init_39 (by decide) ?_
  refine x_newaI (pc := 41) (at' := .int) (t := 100) (q := 90) (i := nI 90) (sh := shM4 (28, kd, R)) C (Or.inl ⟨rfl, rfl⟩) q247 (by decide) (by decide) (by decide) (Nat.le_of_ble_eq_true rfl) (Nat.le_of_ble_eq_true rfl) (Nat.le_of_ble_eq_true rfl) dX9_init_41 ?_
  refine j_kn (k' := 5) (n' := 835) rfl rfl ?_
  refine x_putNF (pc := 43) (o := some ((shM4 (28, kd, R)).1)) (sh := newS (shM4 (28, kd, R)) 100 90) C fd_10_5 q2005 (⟨(Nat.le_of_ble_eq_true rfl), h27⟩ : obw (newS (shM4 (28, kd, R)) 100 90) 27 10) rfl dX9_init_43 ?_
  refine j_aload_n (pc := 46) C dX9_init_46 rfl rfl ?_
  refine j_bipush (pc := 47) (v := nI 90) C dX9_init_47 (by decide) ?_
  refine x_newaI (pc := 49) (at' := .int) (t := 100) (q := 90) (i := nI 90) (sh := shM5 (28, kd, R)) C (Or.inl ⟨rfl, rfl⟩) q247 (by decide) (by decide) (by decide) (Nat.le_of_ble_eq_true rfl) (Nat.le_of_ble_eq_true rfl) (Nat.le_of_ble_eq_true rfl) dX9_init_49 ?_
  refine j_kn (k' := 6) (n' := 925) rfl rfl ?_
  refine x_putNF (pc := 51) (o := some ((shM5 (28, kd, R)).1)) (sh := newS (shM5 (28, kd, R)) 100 90) C fd_10_6 q2006 (⟨(Nat.le_of_ble_eq_true rfl), h27⟩ : obw (newS (shM5 (28, kd, R)) 100 90) 27 10) rfl dX9_init_51 ?_
  refine j_aload_n (pc := 54) C dX9_init_54 rfl rfl ?_
  refine j_bipush (pc := 55) (v := nI 90) C dX9_init_55 (by decide) ?_
  refine x_newaI (pc := 57) (at' := .int) (t := 100) (q := 90) (i := nI 90) (sh := shM6 (28, kd, R)) C (Or.inl ⟨rfl, rfl⟩) q247 (by decide) (by decide) (by decide) (Nat.le_of_ble_eq_true rfl) (Nat.le_of_ble_eq_true rfl) (Nat.le_of_ble_eq_true rfl) dX9_init_57 ?_
  refine j_kn (k' := 7) (n' := 1015) rfl rfl ?_
  refine x_putNF (pc := 59) (o := some ((shM6 (28, kd, R)).1)) (sh := newS (shM6 (28, kd, R)) 100 90) C fd_10_7 q2007 (⟨(Nat.le_of_ble_eq_true rfl), h27⟩ : obw (newS (shM6 (28, kd, R)) 100 90) 27 10) rfl dX9_init_59 ?_
  refine j_aload_n (pc := 62) C dX9_init_62 rfl rfl ?_
  refine j_bipush (pc := 63) (v := nI 60) C dX9_init_63 (by decide) ?_
  refine x_newaI (pc := 65) (at' := .int) (t := 100) (q := 60) (i := nI 60) (sh := shM7 (28, kd, R)) C (Or.inl ⟨rfl, rfl⟩) q247 (by decide) (by decide) (by decide) (Nat.le_of_ble_eq_true rfl) (Nat.le_of_ble_eq_true rfl) (Nat.le_of_ble_eq_true rfl) dX9_init_65 ?_
  refine j_kn (k' := 8) (n' := 1075) rfl rfl ?_
  refine x_putNF (pc := 67) (o := some ((shM7 (28, kd, R)).1)) (sh := newS (shM7 (28, kd, R)) 100 60) C fd_10_13 q2013 (⟨(Nat.le_of_ble_eq_true rfl), h27⟩ : obw (newS (shM7 (28, kd, R)) 100 60) 27 10) rfl dX9_init_67 ?_
  refine j_aload_n (pc := 70) C dX9_init_70 rfl rfl ?_
  refine j_bipush (pc := 71) (v := nI 60) C dX9_init_71 (by decide) ?_
  refine x_newaI (pc := 73) (at' := .int) (t := 100) (q := 60) (i := nI 60) (sh := shM8 (28, kd, R)) C (Or.inl ⟨rfl, rfl⟩) q247 (by decide) (by decide) (by decide) (Nat.le_of_ble_eq_true rfl) (Nat.le_of_ble_eq_true rfl) (Nat.le_of_ble_eq_true rfl) dX9_init_73 ?_
  refine j_kn (k' := 9) (n' := 1135) rfl rfl ?_
  refine x_putNF (pc := 75) (o := some ((shM8 (28, kd, R)).1)) (sh := newS (shM8 (28, kd, R)) 100 60) C fd_10_18 q2018 (⟨(Nat.le_of_ble_eq_true rfl), h27⟩ : obw (newS (shM8 (28, kd, R)) 100 60) 27 10) rfl dX9_init_75 ?_
  refine j_aload_n (pc := 78) C dX9_init_78 rfl rfl ?_
  refine j_bipush (pc := 79) (v := nI 12) C dX9_init_79 (by decide) ?_
  refine x_newaI (pc := 81) (at' := .int) (t := 100) (q := 12) (i := nI 12) (sh := shM9 (28, kd, R)) C (Or.inl ⟨rfl, rfl⟩) q247 (by decide) (by decide) (by decide) (Nat.le_of_ble_eq_true rfl) (Nat.le_of_ble_eq_true rfl) (Nat.le_of_ble_eq_true rfl) dX9_init_81 ?_
  refine j_kn (k' := 10) (n' := 1147) rfl rfl ?_
  refine x_putNF (pc := 83) (o := some ((shM9 (28, kd, R)).1)) (sh := newS (shM9 (28, kd, R)) 100 12) C fd_10_19 q2019 (⟨(Nat.le_of_ble_eq_true rfl), h27⟩ : obw (newS (shM9 (28, kd, R)) 100 12) 27 10) rfl dX9_init_83 ?_
  refine j_aload_n (pc := 86) C dX9_init_86 rfl rfl ?_
  refine j_sipush (pc := 87) (v := nI 144) C dX9_init_87 (by decide) ?_
  refine x_newaI (pc := 90) (at' := .int) (t := 100) (q := 144) (i := nI 144) (sh := shM10 (28, kd, R)) C (Or.inl ⟨rfl, rfl⟩) q247 (by decide) (by decide) (by decide) (Nat.le_of_ble_eq_true rfl) (Nat.le_of_ble_eq_true rfl) (Nat.le_of_ble_eq_true rfl) dX9_init_90 ?_
  refine j_kn (k' := 11) (n' := 1291) rfl rfl ?_
  refine x_putNF (pc := 92) (o := some ((shM10 (28, kd, R)).1)) (sh := newS (shM10 (28, kd, R)) 100 144) C fd_10_20 q2020 (⟨(Nat.le_of_ble_eq_true rfl), h27⟩ : obw (newS (shM10 (28, kd, R)) 100 144) 27 10) rfl dX9_init_92 ?_
  refine j_aload_n (pc := 95) C dX9_init_95 rfl rfl ?_
  refine j_bipush (pc := 96) (v := nI 12) C dX9_init_96 (by decide) ?_
  refine x_newaI (pc := 98) (at' := .int) (t := 100) (q := 12) (i := nI 12) (sh := shM11 (28, kd, R)) C (Or.inl ⟨rfl, rfl⟩) q247 (by decide) (by decide) (by decide) (Nat.le_of_ble_eq_true rfl) (Nat.le_of_ble_eq_true rfl) (Nat.le_of_ble_eq_true rfl) dX9_init_98 ?_
  refine j_kn (k' := 12) (n' := 1303) rfl rfl ?_
  refine x_putNF (pc := 100) (o := some ((shM11 (28, kd, R)).1)) (sh := newS (shM11 (28, kd, R)) 100 12) C fd_10_21 q2021 (⟨(Nat.le_of_ble_eq_true rfl), h27⟩ : obw (newS (shM11 (28, kd, R)) 100 12) 27 10) rfl dX9_init_100 ?_
  refine j_aload_n (pc := 103) C dX9_init_103 rfl rfl ?_
  refine j_sipush (pc := 104) (v := nI 4096) C dX9_init_104 (by decide) ?_
  refine x_newaI (pc := 107) (at' := .int) (t := 100) (q := 4096) (i := nI 4096) (sh := shM12 (28, kd, R)) C (Or.inl ⟨rfl, rfl⟩) q247 (by decide) (by decide) (by decide) (Nat.le_of_ble_eq_true rfl) (Nat.le_of_ble_eq_true rfl) (Nat.le_of_ble_eq_true rfl) dX9_init_107 ?_
  refine j_kn (k' := 13) (n' := 5399) rfl rfl ?_
  refine x_putNF (pc := 109) (o := some ((shM12 (28, kd, R)).1)) (sh := newS (shM12 (28, kd, R)) 100 4096) C fd_10_22 q2022 (⟨(Nat.le_of_ble_eq_true rfl), h27⟩ : obw (newS (shM12 (28, kd, R)) 100 4096) 27 10) rfl dX9_init_109 ?_
  refine j_aload_n (pc := 112) C dX9_init_112 rfl rfl ?_
  refine j_bipush (pc := 113) (v := nI 12) C dX9_init_113 (by decide) ?_
  refine x_newaI (pc := 115) (at' := .int) (t := 100) (q := 12) (i := nI 12) (sh := shM13 (28, kd, R)) C (Or.inl ⟨rfl, rfl⟩) q247 (by decide) (by decide) (by decide) (Nat.le_of_ble_eq_true rfl) (Nat.le_of_ble_eq_true rfl) (Nat.le_of_ble_eq_true rfl) dX9_init_115 ?_
  refine j_kn (k' := 14) (n' := 5411) rfl rfl ?_
  refine x_putNF (pc := 117) (o := some ((shM13 (28, kd, R)).1)) (sh := newS (shM13 (28, kd, R)) 100 12) C fd_10_23 q2023 (⟨(Nat.le_of_ble_eq_true rfl), h27⟩ : obw (newS (shM13 (28, kd, R)) 100 12) 27 10) rfl dX9_init_117 ?_
  refine j_aload_n (pc := 120) C dX9_init_120 rfl rfl ?_
  refine j_bipush (pc := 121) (v := nI 36) C dX9_init_121 (by decide) ?_
  refine x_newaI (pc := 123) (at' := .int) (t := 100) (q := 36) (i := nI 36) (sh := shM14 (28, kd, R)) C (Or.inl ⟨rfl, rfl⟩) q247 (by decide) (by decide) (by decide) (Nat.le_of_ble_eq_true rfl) (Nat.le_of_ble_eq_true rfl) (Nat.le_of_ble_eq_true rfl) dX9_init_123 ?_
  refine j_kn (k' := 15) (n' := 5447) rfl rfl ?_
  refine x_putNF (pc := 125) (o := some ((shM14 (28, kd, R)).1)) (sh := newS (shM14 (28, kd, R)) 100 36) C fd_10_24 q2024 (⟨(Nat.le_of_ble_eq_true rfl), h27⟩ : obw (newS (shM14 (28, kd, R)) 100 36) 27 10) rfl dX9_init_125 ?_
  refine j_aload_n (pc := 128) C dX9_init_128 rfl rfl ?_
  refine j_bipush (pc := 129) (v := nI 40) C dX9_init_129 (by decide) ?_
  refine x_newaI (pc := 131) (at' := .int) (t := 100) (q := 40) (i := nI 40) (sh := shM15 (28, kd, R)) C (Or.inl ⟨rfl, rfl⟩) q247 (by decide) (by decide) (by decide) (Nat.le_of_ble_eq_true rfl) (Nat.le_of_ble_eq_true rfl) (Nat.le_of_ble_eq_true rfl) dX9_init_131 ?_
  refine j_kn (k' := 16) (n' := 5487) rfl rfl ?_
  refine x_putNF (pc := 133) (o := some ((shM15 (28, kd, R)).1)) (sh := newS (shM15 (28, kd, R)) 100 40) C fd_10_26 q2026 (⟨(Nat.le_of_ble_eq_true rfl), h27⟩ : obw (newS (shM15 (28, kd, R)) 100 40) 27 10) rfl dX9_init_133 ?_
  refine j_aload_n (pc := 136) C dX9_init_136 rfl rfl ?_
  refine j_iconst (pc := 137) (v := nI 4) C dX9_init_137 (by decide) ?_
  refine x_newaI (pc := 138) (at' := .int) (t := 100) (q := 4) (i := nI 4) (sh := shM16 (28, kd, R)) C (Or.inl ⟨rfl, rfl⟩) q247 (by decide) (by decide) (by decide) (Nat.le_of_ble_eq_true rfl) (Nat.le_of_ble_eq_true rfl) (Nat.le_of_ble_eq_true rfl) dX9_init_138 ?_
  refine j_kn (k' := 17) (n' := 5491) rfl rfl ?_
  refine x_putNF (pc := 140) (o := some ((shM16 (28, kd, R)).1)) (sh := newS (shM16 (28, kd, R)) 100 4) C fd_10_29 q2029 (⟨(Nat.le_of_ble_eq_true rfl), h27⟩ : obw (newS (shM16 (28, kd, R)) 100 4) 27 10) rfl dX9_init_140 ?_
  refine j_aload_n (pc := 143) C dX9_init_143 rfl rfl ?_
  refine j_iconst (pc := 144) (v := nI 4) C dX9_init_144 (by decide) ?_
  refine x_newaI (pc := 145) (at' := .int) (t := 100) (q := 4) (i := nI 4) (sh := shM17 (28, kd, R)) C (Or.inl ⟨rfl, rfl⟩) q247 (by decide) (by decide) (by decide) (Nat.le_of_ble_eq_true rfl) (Nat.le_of_ble_eq_true rfl) (Nat.le_of_ble_eq_true rfl) dX9_init_145 ?_
  refine j_kn (k' := 18) (n' := 5495) rfl rfl ?_
  refine x_putNF (pc := 147) (o := some ((shM17 (28, kd, R)).1)) (sh := newS (shM17 (28, kd, R)) 100 4) C fd_10_30 q2030 (⟨(Nat.le_of_ble_eq_true rfl), h27⟩ : obw (newS (shM17 (28, kd, R)) 100 4) 27 10) rfl dX9_init_147 ?_
  refine j_aload_n (pc := 150) C dX9_init_150 rfl rfl ?_
  refine j_sipush (pc := 151) (v := nI 160) C dX9_init_151 (by decide) ?_
  refine x_newaI (pc := 154) (at' := .int) (t := 100) (q := 160) (i := nI 160) (sh := shM18 (28, kd, R)) C (Or.inl ⟨rfl, rfl⟩) q247 (by decide) (by decide) (by decide) (Nat.le_of_ble_eq_true rfl) (Nat.le_of_ble_eq_true rfl) (Nat.le_of_ble_eq_true rfl) dX9_init_154 ?_
  refine j_kn (k' := 19) (n' := 5655) rfl rfl ?_
  refine x_putNF (pc := 156) (o := some ((shM18 (28, kd, R)).1)) (sh := newS (shM18 (28, kd, R)) 100 160) C fd_10_31 q2031 (⟨(Nat.le_of_ble_eq_true rfl), h27⟩ : obw (newS (shM18 (28, kd, R)) 100 160) 27 10) rfl dX9_init_156 ?_
  refine j_aload_n (pc := 159) C dX9_init_159 rfl rfl ?_
  refine j_bipush (pc := 160) (v := nI 40) C dX9_init_160 (by decide) ?_
  refine x_newaI (pc := 162) (at' := .int) (t := 100) (q := 40) (i := nI 40) (sh := shM19 (28, kd, R)) C (Or.inl ⟨rfl, rfl⟩) q247 (by decide) (by decide) (by decide) (Nat.le_of_ble_eq_true rfl) (Nat.le_of_ble_eq_true rfl) (Nat.le_of_ble_eq_true rfl) dX9_init_162 ?_
  refine j_kn (k' := 20) (n' := 5695) rfl rfl ?_
  refine x_putNF (pc := 164) (o := some ((shM19 (28, kd, R)).1)) (sh := newS (shM19 (28, kd, R)) 100 40) C fd_10_32 q2032 (⟨(Nat.le_of_ble_eq_true rfl), h27⟩ : obw (newS (shM19 (28, kd, R)) 100 40) 27 10) rfl dX9_init_164 ?_
  have hS : StM (shM20 (28, kd, R)) := shM_ok h27
  show J G p l e rm_X9_init s m args below meth c 3 (.returned none) (shM20 (28, kd, R), I9) rm_X9_init.cells rm_X9_init.slots (shM20 (28, kd, R), IM20 (28, kd, R) I) 20 5695 167 [some (.ref (wad G 27)), none, none] []
  generalize hI : IM20 (28, kd, R) I = I0 at hk ⊢
  clear hI
  generalize hsh : shM20 (28, kd, R) = sh at hS ⊢
  unfold f_X9_initB at hk
  refine j_iconst (pc := 167) (v := nI 0) C dX9_init_167 (by decide) ?_
  refine j_istore_n (pc := 168) C dX9_init_168 rfl (Nat.le_of_ble_eq_true rfl) rfl ?_
  have L169 : ∀  (n169 : Nat) (x1 : Int32) (I : II), f_X9_initB_L169 F n169 x1 I = some I9 → J G p l e rm_X9_init s m args below meth c 3 (.returned none) (sh, I9) rm_X9_init.cells rm_X9_init.slots (sh, I) 20 5695 169 [some (.ref (wad G 27)), some (.int x1), none] [] := by
    intro  n169
    induction n169 with
    | zero => intro x1 I hk; rw [f_X9_initB_L169] at hk; cases hk
    | succ n169 ih169 =>
      intro x1 I hk
      rw [f_X9_initB_L169] at hk
      generalize f_X9_initB_L169 F n169 = k169 at ih169 hk
      refine j_iload_n (pc := 169) C dX9_init_169 rfl rfl ?_
      refine j_bipush (pc := 170) (v := nI 12) C dX9_init_170 (by decide) ?_
      refine j_icmp_ge (pc := 172) 191 C dX9_init_172 (by decide) (fun h1 => ?_) (fun h1 => ?_)
      · have hk := it_t h1 hk
        refine j_iconst (pc := 191) (v := nI 0) C dX9_init_191 (by decide) ?_
        refine j_istore_n (pc := 192) C dX9_init_192 rfl (Nat.le_of_ble_eq_true rfl) rfl ?_
        have L193 : ∀  (n193 : Nat) (x1 : Int32) (I : II), f_X9_initB_L193 F n193 x1 I = some I9 → J G p l e rm_X9_init s m args below meth c 3 (.returned none) (sh, I9) rm_X9_init.cells rm_X9_init.slots (sh, I) 20 5695 193 [some (.ref (wad G 27)), some (.int x1), none] [] := by
          intro  n193
          induction n193 with
          | zero => intro x1 I hk; rw [f_X9_initB_L193] at hk; cases hk
          | succ n193 ih193 =>
            intro x1 I hk
            rw [f_X9_initB_L193] at hk
            generalize f_X9_initB_L193 F n193 = k193 at ih193 hk
            refine j_iload_n (pc := 193) C dX9_init_193 rfl rfl ?_
            refine j_iconst (pc := 194) (v := nI 5) C dX9_init_194 (by decide) ?_
            refine j_icmp_gt (pc := 195) 234 C dX9_init_195 (by decide) (fun h2 => ?_) (fun h2 => ?_)
            · have hk := it_t h2 hk
              refine j_aload_n (pc := 234) C dX9_init_234 rfl rfl ?_
              refine j_getR (pc := 235) C fd_10_4 q2004 (stM_o hS) (stM_r4 hS) dX9_init_235 ?_
              refine j_bipush (pc := 238) (v := nI 6) C dX9_init_238 (by decide) ?_
              refine j_aload_n (pc := 240) C dX9_init_240 rfl rfl ?_
              refine j_getI (pc := 241) C fd_10_8 q2008 (stM_o hS) dX9_init_241 ?_
              obtain ⟨i244, e244, h3, hk⟩ := oix_ex hk
              refine j_iast (pc := 244) C (stM_a31 hS) h3 e244 dX9_init_244 ?_
              exact j_vretW (pc := 245) C dX9_init_245 (Nat.le_of_ble_eq_true rfl) (Nat.le_of_ble_eq_true rfl) hk
            · have hk := it_f h2 hk
              refine j_aload_n (pc := 198) C dX9_init_198 rfl rfl ?_
              refine j_getR (pc := 199) C fd_10_4 q2004 (stM_o hS) (stM_r4 hS) dX9_init_199 ?_
              refine j_iload_n (pc := 202) C dX9_init_202 rfl rfl ?_
              refine j_aload_n (pc := 203) C dX9_init_203 rfl rfl ?_
              refine j_getI (pc := 204) C fd_10_8 q2008 (stM_o hS) dX9_init_204 ?_
              obtain ⟨i207, e207, h4, hk⟩ := oix_ex hk
              refine j_iast (pc := 207) C (stM_a31 hS) h4 e207 dX9_init_207 ?_
              refine j_iconst (pc := 208) (v := nI 0) C dX9_init_208 (by decide) ?_
              refine j_istore_n (pc := 209) C dX9_init_209 rfl (Nat.le_of_ble_eq_true rfl) rfl ?_
              have L210 : ∀ (x1 : Int32) (n210 : Nat) (x2 : Int32) (I : II), f_X9_initB_L210 F k193 x1 n210 x2 I = some I9 → J G p l e rm_X9_init s m args below meth c 3 (.returned none) (sh, I9) rm_X9_init.cells rm_X9_init.slots (sh, I) 20 5695 210 [some (.ref (wad G 27)), some (.int x1), some (.int x2)] [] := by
                intro x1 n210
                induction n210 with
                | zero => intro x2 I hk; rw [f_X9_initB_L210] at hk; cases hk
                | succ n210 ih210 =>
                  intro x2 I hk
                  rw [f_X9_initB_L210] at hk
                  generalize f_X9_initB_L210 F k193 x1 n210 = k210 at ih210 hk
                  refine j_iload_n (pc := 210) C dX9_init_210 rfl rfl ?_
                  refine j_bipush (pc := 211) (v := nI 12) C dX9_init_211 (by decide) ?_
                  refine j_icmp_ge (pc := 213) 228 C dX9_init_213 (by decide) (fun h5 => ?_) (fun h5 => ?_)
                  · have hk := it_t h5 hk
                    refine j_iinc (pc := 228) (nI 1) C dX9_init_228 rfl (by decide) (Nat.le_of_ble_eq_true rfl) rfl ?_
                    refine j_goto (pc := 231) 193 C dX9_init_231 (by decide) ?_
                    exact j_mask [true, true, false] (ih193 _ _ hk)
                  · have hk := it_f h5 hk
                    refine j_aload_n (pc := 216) C dX9_init_216 rfl rfl ?_
                    refine j_iload_n (pc := 217) C dX9_init_217 rfl rfl ?_
                    refine j_iload_n (pc := 218) C dX9_init_218 rfl rfl ?_
                    obtain ⟨I219, h6, hk⟩ := ob_some hk
                    refine j_callV (pc := 219) C (ct_X9_addCases hS h6) mv_X9_addCases (stM_o hS) rfl rfl q1983 dX9_init_219 rfl rfl (Nat.le_of_ble_eq_true rfl) rfl ?_
                    refine j_iinc (pc := 222) (nI 1) C dX9_init_222 rfl (by decide) (Nat.le_of_ble_eq_true rfl) rfl ?_
                    refine j_goto (pc := 225) 210 C dX9_init_225 (by decide) ?_
                    exact j_mask [true, true, true] (ih210 _ _ hk)
              exact j_mask [true, true, true] (L210 _ _ _ _ hk)
        exact j_mask [true, true, false] (L193  _ _ _ hk)
      · have hk := it_f h1 hk
        refine j_aload_n (pc := 175) C dX9_init_175 rfl rfl ?_
        refine j_getR (pc := 176) C fd_10_0 q2000 (stM_o hS) (stM_r0 hS) dX9_init_176 ?_
        refine j_bipush (pc := 179) (v := nI 10) C dX9_init_179 (by decide) ?_
        refine j_iload_n (pc := 181) C dX9_init_181 rfl rfl ?_
        refine j_iadd (pc := 182) C dX9_init_182 ?_
        refine j_iconst (pc := 183) (v := nI 3) C dX9_init_183 (by decide) ?_
        obtain ⟨i184, e184, h7, hk⟩ := oix_ex hk
        refine j_iast (pc := 184) C (stM_a28 hS) h7 e184 dX9_init_184 ?_
        refine j_iinc (pc := 185) (nI 1) C dX9_init_185 rfl (by decide) (Nat.le_of_ble_eq_true rfl) rfl ?_
        refine j_goto (pc := 188) 169 C dX9_init_188 (by decide) ?_
        exact j_mask [true, true, false] (ih169 _ _ hk)
  exact j_mask [true, true, false] (L169  _ _ _ hk)
