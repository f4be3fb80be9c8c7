/-! NineDemands$Demand -/
set_option maxRecDepth 100000
def RX10 : String := "NineDemands$Demand"
def TX10 : u_T := fun k => match k with
  | 0 => ("NineDemands$Demand", "trace", "LNineDemands$Trace;", true)
  | 1 => ("NineDemands$Demand", "number", "I", true)
  | 2 => ("NineDemands$Demand", "price", "I", false)
  | 3 => ("NineDemands$Demand", "text", "LNineDemands$Term;", false)
  | _ => ("NineDemands$Demand", "cases", "LNineDemands$Cases;", false)
def tyX10 : Nat → FieldType := fun k => match k with
  | 0 => .object "NineDemands$Trace"
  | 1 => .int
  | 2 => .int
  | 3 => .object "NineDemands$Term"
  | _ => .object "NineDemands$Cases"
abbrev wsX100 : List Cond := u_ws RX10 TX10 5
theorem nmX10 : ∀ a, a < 5 → ∀ b, b < 5 → a ≠ b → (TX10 a).2.1 ≠ (TX10 b).2.1 := by decide +kernel
theorem tyX10_ok : ∀ k, k < 5 → parseFieldDescriptor (TX10 k).2.2.1 = some (tyX10 k) := by decide +kernel
abbrev cX10_init : ByteArray := prog_8_method_1_code
def yX10_init : MethodName := ⟨RX10, "<init>", "(LNineDemands$Trace;II)V"⟩
def dkwX10_init_0 : List UInt8 := [42, 183, 0, 3, 42, 43, 181, 0, 9, 42, 28, 181, 0, 15, 42, 29, 181, 0, 19, 177]
abbrev dktX10_init_0 : List UInt8 := dkwX10_init_0 ++ []
theorem dksX10_init_0 : cX10_init.data.toList.drop 0 = dktX10_init_0 := by decide +kernel
theorem dX10_init_0 : decode cX10_init 0 = .ok (.aload_n 0, 1) := dk_42 (dk_at dksX10_init_0 0 rfl rfl)
theorem dX10_init_1 : decode cX10_init 1 = .ok (.invokespecial 3, 3) := dk_183 0 3 (dk_at dksX10_init_0 1 rfl rfl)
theorem dX10_init_4 : decode cX10_init 4 = .ok (.aload_n 0, 1) := dk_42 (dk_at dksX10_init_0 4 rfl rfl)
theorem dX10_init_5 : decode cX10_init 5 = .ok (.aload_n 1, 1) := dk_43 (dk_at dksX10_init_0 5 rfl rfl)
theorem dX10_init_6 : decode cX10_init 6 = .ok (.putfield 9, 3) := dk_181 0 9 (dk_at dksX10_init_0 6 rfl rfl)
theorem dX10_init_9 : decode cX10_init 9 = .ok (.aload_n 0, 1) := dk_42 (dk_at dksX10_init_0 9 rfl rfl)
theorem dX10_init_10 : decode cX10_init 10 = .ok (.iload_n 2, 1) := dk_28 (dk_at dksX10_init_0 10 rfl rfl)
theorem dX10_init_11 : decode cX10_init 11 = .ok (.putfield 15, 3) := dk_181 0 15 (dk_at dksX10_init_0 11 rfl rfl)
theorem dX10_init_14 : decode cX10_init 14 = .ok (.aload_n 0, 1) := dk_42 (dk_at dksX10_init_0 14 rfl rfl)
theorem dX10_init_15 : decode cX10_init 15 = .ok (.iload_n 3, 1) := dk_29 (dk_at dksX10_init_0 15 rfl rfl)
theorem dX10_init_16 : decode cX10_init 16 = .ok (.putfield 19, 3) := dk_181 0 19 (dk_at dksX10_init_0 16 rfl rfl)
theorem dX10_init_19 : decode cX10_init 19 = .ok (.return_, 1) := dk_177 (dk_at dksX10_init_0 19 rfl rfl)
abbrev cX10_hasText : ByteArray := prog_8_method_4_code
def yX10_hasText : MethodName := ⟨RX10, "hasText", "()Z"⟩
theorem dX10_hasText_0 : decode cX10_hasText 0 = .ok (.iconst 1, 1) := by decide +kernel
theorem dX10_hasText_1 : decode cX10_hasText 1 = .ok (.ireturn, 1) := by decide +kernel
abbrev cX10_names : ByteArray := prog_8_method_5_code
def yX10_names : MethodName := ⟨RX10, "names", "()Ljava/lang/String;"⟩
theorem dX10_names_0 : decode cX10_names 0 = .ok (.ldc 22, 2) := by decide +kernel
theorem dX10_names_2 : decode cX10_names 2 = .ok (.areturn, 1) := by decide +kernel
abbrev cX10_lay : ByteArray := prog_8_method_11_code
def yX10_lay : MethodName := ⟨RX10, "lay", "(LNineDemands$Facts;)V"⟩
def dkwX10_lay_5 : List UInt8 := [167, 255, 173, 177]
abbrev dktX10_lay_5 : List UInt8 := dkwX10_lay_5 ++ []
def dkwX10_lay_4 : List UInt8 := [167, 255, 220, 132, 4, 1, 167, 255, 205, 42, 180, 0, 35, 180, 0, 91, 28, 29, 79, 132, 2, 1]
abbrev dktX10_lay_4 : List UInt8 := dkwX10_lay_4 ++ dktX10_lay_5
def dkwX10_lay_3 : List UInt8 := [182, 0, 84, 153, 0, 13, 21, 4, 21, 5, 184, 0, 88, 167, 0, 4, 3, 128, 62, 132, 5, 1]
abbrev dktX10_lay_3 : List UInt8 := dkwX10_lay_3 ++ dktX10_lay_4
def dkwX10_lay_2 : List UInt8 := [21, 4, 6, 163, 0, 51, 4, 54, 5, 21, 5, 6, 163, 0, 36, 29, 42, 43, 28, 21, 4, 21, 5]
abbrev dktX10_lay_2 : List UInt8 := dkwX10_lay_2 ++ dktX10_lay_3
def dkwX10_lay_1 : List UInt8 := [132, 2, 1, 167, 255, 242, 3, 61, 28, 42, 180, 0, 35, 180, 0, 81, 162, 0, 78, 3, 62, 4, 54, 4]
abbrev dktX10_lay_1 : List UInt8 := dkwX10_lay_1 ++ dktX10_lay_2
def dkwX10_lay_0 : List UInt8 := [42, 187, 0, 40, 89, 183, 0, 76, 181, 0, 35, 3, 61, 28, 16, 12, 162, 0, 14, 42, 28, 182, 0, 77]
abbrev dktX10_lay_0 : List UInt8 := dkwX10_lay_0 ++ dktX10_lay_1
theorem dksX10_lay_0 : cX10_lay.data.toList.drop 0 = dktX10_lay_0 := by decide +kernel
theorem dksX10_lay_1 : cX10_lay.data.toList.drop 24 = dktX10_lay_1 := dk_seg dksX10_lay_0 24 rfl rfl
theorem dksX10_lay_2 : cX10_lay.data.toList.drop 48 = dktX10_lay_2 := dk_seg dksX10_lay_1 24 rfl rfl
theorem dksX10_lay_3 : cX10_lay.data.toList.drop 71 = dktX10_lay_3 := dk_seg dksX10_lay_2 23 rfl rfl
theorem dksX10_lay_4 : cX10_lay.data.toList.drop 93 = dktX10_lay_4 := dk_seg dksX10_lay_3 22 rfl rfl
theorem dksX10_lay_5 : cX10_lay.data.toList.drop 115 = dktX10_lay_5 := dk_seg dksX10_lay_4 22 rfl rfl
theorem dX10_lay_0 : decode cX10_lay 0 = .ok (.aload_n 0, 1) := dk_42 (dk_at dksX10_lay_0 0 rfl rfl)
theorem dX10_lay_1 : decode cX10_lay 1 = .ok (.new 40, 3) := dk_187 0 40 (dk_at dksX10_lay_0 1 rfl rfl)
theorem dX10_lay_4 : decode cX10_lay 4 = .ok (.dup, 1) := dk_89 (dk_at dksX10_lay_0 4 rfl rfl)
theorem dX10_lay_5 : decode cX10_lay 5 = .ok (.invokespecial 76, 3) := dk_183 0 76 (dk_at dksX10_lay_0 5 rfl rfl)
theorem dX10_lay_8 : decode cX10_lay 8 = .ok (.putfield 35, 3) := dk_181 0 35 (dk_at dksX10_lay_0 8 rfl rfl)
theorem dX10_lay_11 : decode cX10_lay 11 = .ok (.iconst 0, 1) := dk_3 (dk_at dksX10_lay_0 11 rfl rfl)
theorem dX10_lay_12 : decode cX10_lay 12 = .ok (.istore_n 2, 1) := dk_61 (dk_at dksX10_lay_0 12 rfl rfl)
theorem dX10_lay_13 : decode cX10_lay 13 = .ok (.iload_n 2, 1) := dk_28 (dk_at dksX10_lay_0 13 rfl rfl)
theorem dX10_lay_14 : decode cX10_lay 14 = .ok (.bipush 12, 2) := dk_16 12 (dk_at dksX10_lay_0 14 rfl rfl)
theorem dX10_lay_16 : decode cX10_lay 16 = .ok (.if_icmp .ge 14, 3) := dk_162 0 14 (dk_at dksX10_lay_0 16 rfl rfl)
theorem dX10_lay_19 : decode cX10_lay 19 = .ok (.aload_n 0, 1) := dk_42 (dk_at dksX10_lay_0 19 rfl rfl)
theorem dX10_lay_20 : decode cX10_lay 20 = .ok (.iload_n 2, 1) := dk_28 (dk_at dksX10_lay_0 20 rfl rfl)
theorem dX10_lay_21 : decode cX10_lay 21 = .ok (.invokevirtual 77, 3) := dk_182 0 77 (dk_at dksX10_lay_0 21 rfl rfl)
theorem dX10_lay_24 : decode cX10_lay 24 = .ok (.iinc 2 1, 3) := dk_132 2 1 (dk_at dksX10_lay_1 0 rfl rfl)
theorem dX10_lay_27 : decode cX10_lay 27 = .ok (.goto (-14), 3) := dk_167 255 242 (dk_at dksX10_lay_1 3 rfl rfl)
theorem dX10_lay_30 : decode cX10_lay 30 = .ok (.iconst 0, 1) := dk_3 (dk_at dksX10_lay_1 6 rfl rfl)
theorem dX10_lay_31 : decode cX10_lay 31 = .ok (.istore_n 2, 1) := dk_61 (dk_at dksX10_lay_1 7 rfl rfl)
theorem dX10_lay_32 : decode cX10_lay 32 = .ok (.iload_n 2, 1) := dk_28 (dk_at dksX10_lay_1 8 rfl rfl)
theorem dX10_lay_33 : decode cX10_lay 33 = .ok (.aload_n 0, 1) := dk_42 (dk_at dksX10_lay_1 9 rfl rfl)
theorem dX10_lay_34 : decode cX10_lay 34 = .ok (.getfield 35, 3) := dk_180 0 35 (dk_at dksX10_lay_1 10 rfl rfl)
theorem dX10_lay_37 : decode cX10_lay 37 = .ok (.getfield 81, 3) := dk_180 0 81 (dk_at dksX10_lay_1 13 rfl rfl)
theorem dX10_lay_40 : decode cX10_lay 40 = .ok (.if_icmp .ge 78, 3) := dk_162 0 78 (dk_at dksX10_lay_1 16 rfl rfl)
theorem dX10_lay_43 : decode cX10_lay 43 = .ok (.iconst 0, 1) := dk_3 (dk_at dksX10_lay_1 19 rfl rfl)
theorem dX10_lay_44 : decode cX10_lay 44 = .ok (.istore_n 3, 1) := dk_62 (dk_at dksX10_lay_1 20 rfl rfl)
theorem dX10_lay_45 : decode cX10_lay 45 = .ok (.iconst 1, 1) := dk_4 (dk_at dksX10_lay_1 21 rfl rfl)
theorem dX10_lay_46 : decode cX10_lay 46 = .ok (.istore 4, 2) := dk_54 4 (dk_at dksX10_lay_1 22 rfl rfl)
theorem dX10_lay_48 : decode cX10_lay 48 = .ok (.iload 4, 2) := dk_21 4 (dk_at dksX10_lay_2 0 rfl rfl)
theorem dX10_lay_50 : decode cX10_lay 50 = .ok (.iconst 3, 1) := dk_6 (dk_at dksX10_lay_2 2 rfl rfl)
theorem dX10_lay_51 : decode cX10_lay 51 = .ok (.if_icmp .gt 51, 3) := dk_163 0 51 (dk_at dksX10_lay_2 3 rfl rfl)
theorem dX10_lay_54 : decode cX10_lay 54 = .ok (.iconst 1, 1) := dk_4 (dk_at dksX10_lay_2 6 rfl rfl)
theorem dX10_lay_55 : decode cX10_lay 55 = .ok (.istore 5, 2) := dk_54 5 (dk_at dksX10_lay_2 7 rfl rfl)
theorem dX10_lay_57 : decode cX10_lay 57 = .ok (.iload 5, 2) := dk_21 5 (dk_at dksX10_lay_2 9 rfl rfl)
theorem dX10_lay_59 : decode cX10_lay 59 = .ok (.iconst 3, 1) := dk_6 (dk_at dksX10_lay_2 11 rfl rfl)
theorem dX10_lay_60 : decode cX10_lay 60 = .ok (.if_icmp .gt 36, 3) := dk_163 0 36 (dk_at dksX10_lay_2 12 rfl rfl)
theorem dX10_lay_63 : decode cX10_lay 63 = .ok (.iload_n 3, 1) := dk_29 (dk_at dksX10_lay_2 15 rfl rfl)
theorem dX10_lay_64 : decode cX10_lay 64 = .ok (.aload_n 0, 1) := dk_42 (dk_at dksX10_lay_2 16 rfl rfl)
theorem dX10_lay_65 : decode cX10_lay 65 = .ok (.aload_n 1, 1) := dk_43 (dk_at dksX10_lay_2 17 rfl rfl)
theorem dX10_lay_66 : decode cX10_lay 66 = .ok (.iload_n 2, 1) := dk_28 (dk_at dksX10_lay_2 18 rfl rfl)
theorem dX10_lay_67 : decode cX10_lay 67 = .ok (.iload 4, 2) := dk_21 4 (dk_at dksX10_lay_2 19 rfl rfl)
theorem dX10_lay_69 : decode cX10_lay 69 = .ok (.iload 5, 2) := dk_21 5 (dk_at dksX10_lay_2 21 rfl rfl)
theorem dX10_lay_71 : decode cX10_lay 71 = .ok (.invokevirtual 84, 3) := dk_182 0 84 (dk_at dksX10_lay_3 0 rfl rfl)
theorem dX10_lay_74 : decode cX10_lay 74 = .ok (.ifCond .eq 13, 3) := dk_153 0 13 (dk_at dksX10_lay_3 3 rfl rfl)
theorem dX10_lay_77 : decode cX10_lay 77 = .ok (.iload 4, 2) := dk_21 4 (dk_at dksX10_lay_3 6 rfl rfl)
theorem dX10_lay_79 : decode cX10_lay 79 = .ok (.iload 5, 2) := dk_21 5 (dk_at dksX10_lay_3 8 rfl rfl)
theorem dX10_lay_81 : decode cX10_lay 81 = .ok (.invokestatic 88, 3) := dk_184 0 88 (dk_at dksX10_lay_3 10 rfl rfl)
theorem dX10_lay_84 : decode cX10_lay 84 = .ok (.goto 4, 3) := dk_167 0 4 (dk_at dksX10_lay_3 13 rfl rfl)
theorem dX10_lay_87 : decode cX10_lay 87 = .ok (.iconst 0, 1) := dk_3 (dk_at dksX10_lay_3 16 rfl rfl)
theorem dX10_lay_88 : decode cX10_lay 88 = .ok (.ior, 1) := dk_128 (dk_at dksX10_lay_3 17 rfl rfl)
theorem dX10_lay_89 : decode cX10_lay 89 = .ok (.istore_n 3, 1) := dk_62 (dk_at dksX10_lay_3 18 rfl rfl)
theorem dX10_lay_90 : decode cX10_lay 90 = .ok (.iinc 5 1, 3) := dk_132 5 1 (dk_at dksX10_lay_3 19 rfl rfl)
theorem dX10_lay_93 : decode cX10_lay 93 = .ok (.goto (-36), 3) := dk_167 255 220 (dk_at dksX10_lay_4 0 rfl rfl)
theorem dX10_lay_96 : decode cX10_lay 96 = .ok (.iinc 4 1, 3) := dk_132 4 1 (dk_at dksX10_lay_4 3 rfl rfl)
theorem dX10_lay_99 : decode cX10_lay 99 = .ok (.goto (-51), 3) := dk_167 255 205 (dk_at dksX10_lay_4 6 rfl rfl)
theorem dX10_lay_102 : decode cX10_lay 102 = .ok (.aload_n 0, 1) := dk_42 (dk_at dksX10_lay_4 9 rfl rfl)
theorem dX10_lay_103 : decode cX10_lay 103 = .ok (.getfield 35, 3) := dk_180 0 35 (dk_at dksX10_lay_4 10 rfl rfl)
theorem dX10_lay_106 : decode cX10_lay 106 = .ok (.getfield 91, 3) := dk_180 0 91 (dk_at dksX10_lay_4 13 rfl rfl)
theorem dX10_lay_109 : decode cX10_lay 109 = .ok (.iload_n 2, 1) := dk_28 (dk_at dksX10_lay_4 16 rfl rfl)
theorem dX10_lay_110 : decode cX10_lay 110 = .ok (.iload_n 3, 1) := dk_29 (dk_at dksX10_lay_4 17 rfl rfl)
theorem dX10_lay_111 : decode cX10_lay 111 = .ok (.iastore, 1) := dk_79 (dk_at dksX10_lay_4 18 rfl rfl)
theorem dX10_lay_112 : decode cX10_lay 112 = .ok (.iinc 2 1, 3) := dk_132 2 1 (dk_at dksX10_lay_4 19 rfl rfl)
theorem dX10_lay_115 : decode cX10_lay 115 = .ok (.goto (-83), 3) := dk_167 255 173 (dk_at dksX10_lay_5 0 rfl rfl)
theorem dX10_lay_118 : decode cX10_lay 118 = .ok (.return_, 1) := dk_177 (dk_at dksX10_lay_5 3 rfl rfl)
abbrev cX10_casesOf : ByteArray := prog_8_method_8_code
def yX10_casesOf : MethodName := ⟨RX10, "casesOf", "(I)V"⟩
def dkwX10_casesOf_0 : List UInt8 := [42, 180, 0, 35, 27, 2, 2, 182, 0, 39, 177]
abbrev dktX10_casesOf_0 : List UInt8 := dkwX10_casesOf_0 ++ []
theorem dksX10_casesOf_0 : cX10_casesOf.data.toList.drop 0 = dktX10_casesOf_0 := by decide +kernel
theorem dX10_casesOf_0 : decode cX10_casesOf 0 = .ok (.aload_n 0, 1) := dk_42 (dk_at dksX10_casesOf_0 0 rfl rfl)
theorem dX10_casesOf_1 : decode cX10_casesOf 1 = .ok (.getfield 35, 3) := dk_180 0 35 (dk_at dksX10_casesOf_0 1 rfl rfl)
theorem dX10_casesOf_4 : decode cX10_casesOf 4 = .ok (.iload_n 1, 1) := dk_27 (dk_at dksX10_casesOf_0 4 rfl rfl)
theorem dX10_casesOf_5 : decode cX10_casesOf 5 = .ok (.iconst (-1), 1) := dk_2 (dk_at dksX10_casesOf_0 5 rfl rfl)
theorem dX10_casesOf_6 : decode cX10_casesOf 6 = .ok (.iconst (-1), 1) := dk_2 (dk_at dksX10_casesOf_0 6 rfl rfl)
theorem dX10_casesOf_7 : decode cX10_casesOf 7 = .ok (.invokevirtual 39, 3) := dk_182 0 39 (dk_at dksX10_casesOf_0 7 rfl rfl)
theorem dX10_casesOf_10 : decode cX10_casesOf 10 = .ok (.return_, 1) := dk_177 (dk_at dksX10_casesOf_0 10 rfl rfl)
abbrev cX10_isSo : ByteArray := prog_8_method_10_code
def yX10_isSo : MethodName := ⟨RX10, "isSo", "(LNineDemands$Facts;III)Z"⟩
def dkwX10_isSo_1 : List UInt8 := [3, 172]
abbrev dktX10_isSo_1 : List UInt8 := dkwX10_isSo_1 ++ []
def dkwX10_isSo_0 : List UInt8 := [42, 43, 28, 29, 21, 4, 182, 0, 66, 42, 180, 0, 31, 43, 182, 0, 70, 153, 0, 7, 4, 167, 0, 4]
abbrev dktX10_isSo_0 : List UInt8 := dkwX10_isSo_0 ++ dktX10_isSo_1
theorem dksX10_isSo_0 : cX10_isSo.data.toList.drop 0 = dktX10_isSo_0 := by decide +kernel
theorem dksX10_isSo_1 : cX10_isSo.data.toList.drop 24 = dktX10_isSo_1 := dk_seg dksX10_isSo_0 24 rfl rfl
theorem dX10_isSo_0 : decode cX10_isSo 0 = .ok (.aload_n 0, 1) := dk_42 (dk_at dksX10_isSo_0 0 rfl rfl)
theorem dX10_isSo_1 : decode cX10_isSo 1 = .ok (.aload_n 1, 1) := dk_43 (dk_at dksX10_isSo_0 1 rfl rfl)
theorem dX10_isSo_2 : decode cX10_isSo 2 = .ok (.iload_n 2, 1) := dk_28 (dk_at dksX10_isSo_0 2 rfl rfl)
theorem dX10_isSo_3 : decode cX10_isSo 3 = .ok (.iload_n 3, 1) := dk_29 (dk_at dksX10_isSo_0 3 rfl rfl)
theorem dX10_isSo_4 : decode cX10_isSo 4 = .ok (.iload 4, 2) := dk_21 4 (dk_at dksX10_isSo_0 4 rfl rfl)
theorem dX10_isSo_6 : decode cX10_isSo 6 = .ok (.invokevirtual 66, 3) := dk_182 0 66 (dk_at dksX10_isSo_0 6 rfl rfl)
theorem dX10_isSo_9 : decode cX10_isSo 9 = .ok (.aload_n 0, 1) := dk_42 (dk_at dksX10_isSo_0 9 rfl rfl)
theorem dX10_isSo_10 : decode cX10_isSo 10 = .ok (.getfield 31, 3) := dk_180 0 31 (dk_at dksX10_isSo_0 10 rfl rfl)
theorem dX10_isSo_13 : decode cX10_isSo 13 = .ok (.aload_n 1, 1) := dk_43 (dk_at dksX10_isSo_0 13 rfl rfl)
theorem dX10_isSo_14 : decode cX10_isSo 14 = .ok (.invokevirtual 70, 3) := dk_182 0 70 (dk_at dksX10_isSo_0 14 rfl rfl)
theorem dX10_isSo_17 : decode cX10_isSo 17 = .ok (.ifCond .eq 7, 3) := dk_153 0 7 (dk_at dksX10_isSo_0 17 rfl rfl)
theorem dX10_isSo_20 : decode cX10_isSo 20 = .ok (.iconst 1, 1) := dk_4 (dk_at dksX10_isSo_0 20 rfl rfl)
theorem dX10_isSo_21 : decode cX10_isSo 21 = .ok (.goto 4, 3) := dk_167 0 4 (dk_at dksX10_isSo_0 21 rfl rfl)
theorem dX10_isSo_24 : decode cX10_isSo 24 = .ok (.iconst 0, 1) := dk_3 (dk_at dksX10_isSo_1 0 rfl rfl)
theorem dX10_isSo_25 : decode cX10_isSo 25 = .ok (.ireturn, 1) := dk_172 (dk_at dksX10_isSo_1 1 rfl rfl)
abbrev cX10_tell : ByteArray := prog_8_method_9_code
def yX10_tell : MethodName := ⟨RX10, "tell", "(LNineDemands$Facts;III)V"⟩
def dkwX10_tell_3 : List UInt8 := [182, 0, 53, 16, 114, 21, 5, 5, 184, 0, 63, 182, 0, 53, 87, 177]
abbrev dktX10_tell_3 : List UInt8 := dkwX10_tell_3 ++ []
def dkwX10_tell_2 : List UInt8 := [182, 0, 53, 87, 43, 16, 112, 21, 5, 3, 184, 0, 63, 182, 0, 53, 16, 113, 21, 5, 4, 184, 0, 63]
abbrev dktX10_tell_2 : List UInt8 := dkwX10_tell_2 ++ dktX10_tell_3
def dkwX10_tell_1 : List UInt8 := [16, 98, 21, 5, 4, 184, 0, 49, 182, 0, 53, 16, 99, 29, 182, 0, 53, 16, 115, 21, 5, 184, 0, 59]
abbrev dktX10_tell_1 : List UInt8 := dkwX10_tell_1 ++ dktX10_tell_2
def dkwX10_tell_0 : List UInt8 := [42, 180, 0, 35, 180, 0, 45, 28, 46, 54, 5, 43, 16, 97, 21, 5, 3, 184, 0, 49, 182, 0, 53]
abbrev dktX10_tell_0 : List UInt8 := dkwX10_tell_0 ++ dktX10_tell_1
theorem dksX10_tell_0 : cX10_tell.data.toList.drop 0 = dktX10_tell_0 := by decide +kernel
theorem dksX10_tell_1 : cX10_tell.data.toList.drop 23 = dktX10_tell_1 := dk_seg dksX10_tell_0 23 rfl rfl
theorem dksX10_tell_2 : cX10_tell.data.toList.drop 47 = dktX10_tell_2 := dk_seg dksX10_tell_1 24 rfl rfl
theorem dksX10_tell_3 : cX10_tell.data.toList.drop 71 = dktX10_tell_3 := dk_seg dksX10_tell_2 24 rfl rfl
theorem dX10_tell_0 : decode cX10_tell 0 = .ok (.aload_n 0, 1) := dk_42 (dk_at dksX10_tell_0 0 rfl rfl)
theorem dX10_tell_1 : decode cX10_tell 1 = .ok (.getfield 35, 3) := dk_180 0 35 (dk_at dksX10_tell_0 1 rfl rfl)
theorem dX10_tell_4 : decode cX10_tell 4 = .ok (.getfield 45, 3) := dk_180 0 45 (dk_at dksX10_tell_0 4 rfl rfl)
theorem dX10_tell_7 : decode cX10_tell 7 = .ok (.iload_n 2, 1) := dk_28 (dk_at dksX10_tell_0 7 rfl rfl)
theorem dX10_tell_8 : decode cX10_tell 8 = .ok (.iaload, 1) := dk_46 (dk_at dksX10_tell_0 8 rfl rfl)
theorem dX10_tell_9 : decode cX10_tell 9 = .ok (.istore 5, 2) := dk_54 5 (dk_at dksX10_tell_0 9 rfl rfl)
theorem dX10_tell_11 : decode cX10_tell 11 = .ok (.aload_n 1, 1) := dk_43 (dk_at dksX10_tell_0 11 rfl rfl)
theorem dX10_tell_12 : decode cX10_tell 12 = .ok (.bipush 97, 2) := dk_16 97 (dk_at dksX10_tell_0 12 rfl rfl)
theorem dX10_tell_14 : decode cX10_tell 14 = .ok (.iload 5, 2) := dk_21 5 (dk_at dksX10_tell_0 14 rfl rfl)
theorem dX10_tell_16 : decode cX10_tell 16 = .ok (.iconst 0, 1) := dk_3 (dk_at dksX10_tell_0 16 rfl rfl)
theorem dX10_tell_17 : decode cX10_tell 17 = .ok (.invokestatic 49, 3) := dk_184 0 49 (dk_at dksX10_tell_0 17 rfl rfl)
theorem dX10_tell_20 : decode cX10_tell 20 = .ok (.invokevirtual 53, 3) := dk_182 0 53 (dk_at dksX10_tell_0 20 rfl rfl)
theorem dX10_tell_23 : decode cX10_tell 23 = .ok (.bipush 98, 2) := dk_16 98 (dk_at dksX10_tell_1 0 rfl rfl)
theorem dX10_tell_25 : decode cX10_tell 25 = .ok (.iload 5, 2) := dk_21 5 (dk_at dksX10_tell_1 2 rfl rfl)
theorem dX10_tell_27 : decode cX10_tell 27 = .ok (.iconst 1, 1) := dk_4 (dk_at dksX10_tell_1 4 rfl rfl)
theorem dX10_tell_28 : decode cX10_tell 28 = .ok (.invokestatic 49, 3) := dk_184 0 49 (dk_at dksX10_tell_1 5 rfl rfl)
theorem dX10_tell_31 : decode cX10_tell 31 = .ok (.invokevirtual 53, 3) := dk_182 0 53 (dk_at dksX10_tell_1 8 rfl rfl)
theorem dX10_tell_34 : decode cX10_tell 34 = .ok (.bipush 99, 2) := dk_16 99 (dk_at dksX10_tell_1 11 rfl rfl)
theorem dX10_tell_36 : decode cX10_tell 36 = .ok (.iload_n 3, 1) := dk_29 (dk_at dksX10_tell_1 13 rfl rfl)
theorem dX10_tell_37 : decode cX10_tell 37 = .ok (.invokevirtual 53, 3) := dk_182 0 53 (dk_at dksX10_tell_1 14 rfl rfl)
theorem dX10_tell_40 : decode cX10_tell 40 = .ok (.bipush 115, 2) := dk_16 115 (dk_at dksX10_tell_1 17 rfl rfl)
theorem dX10_tell_42 : decode cX10_tell 42 = .ok (.iload 5, 2) := dk_21 5 (dk_at dksX10_tell_1 19 rfl rfl)
theorem dX10_tell_44 : decode cX10_tell 44 = .ok (.invokestatic 59, 3) := dk_184 0 59 (dk_at dksX10_tell_1 21 rfl rfl)
theorem dX10_tell_47 : decode cX10_tell 47 = .ok (.invokevirtual 53, 3) := dk_182 0 53 (dk_at dksX10_tell_2 0 rfl rfl)
theorem dX10_tell_50 : decode cX10_tell 50 = .ok (.pop, 1) := dk_87 (dk_at dksX10_tell_2 3 rfl rfl)
theorem dX10_tell_51 : decode cX10_tell 51 = .ok (.aload_n 1, 1) := dk_43 (dk_at dksX10_tell_2 4 rfl rfl)
theorem dX10_tell_52 : decode cX10_tell 52 = .ok (.bipush 112, 2) := dk_16 112 (dk_at dksX10_tell_2 5 rfl rfl)
theorem dX10_tell_54 : decode cX10_tell 54 = .ok (.iload 5, 2) := dk_21 5 (dk_at dksX10_tell_2 7 rfl rfl)
theorem dX10_tell_56 : decode cX10_tell 56 = .ok (.iconst 0, 1) := dk_3 (dk_at dksX10_tell_2 9 rfl rfl)
theorem dX10_tell_57 : decode cX10_tell 57 = .ok (.invokestatic 63, 3) := dk_184 0 63 (dk_at dksX10_tell_2 10 rfl rfl)
theorem dX10_tell_60 : decode cX10_tell 60 = .ok (.invokevirtual 53, 3) := dk_182 0 53 (dk_at dksX10_tell_2 13 rfl rfl)
theorem dX10_tell_63 : decode cX10_tell 63 = .ok (.bipush 113, 2) := dk_16 113 (dk_at dksX10_tell_2 16 rfl rfl)
theorem dX10_tell_65 : decode cX10_tell 65 = .ok (.iload 5, 2) := dk_21 5 (dk_at dksX10_tell_2 18 rfl rfl)
theorem dX10_tell_67 : decode cX10_tell 67 = .ok (.iconst 1, 1) := dk_4 (dk_at dksX10_tell_2 20 rfl rfl)
theorem dX10_tell_68 : decode cX10_tell 68 = .ok (.invokestatic 63, 3) := dk_184 0 63 (dk_at dksX10_tell_2 21 rfl rfl)
theorem dX10_tell_71 : decode cX10_tell 71 = .ok (.invokevirtual 53, 3) := dk_182 0 53 (dk_at dksX10_tell_3 0 rfl rfl)
theorem dX10_tell_74 : decode cX10_tell 74 = .ok (.bipush 114, 2) := dk_16 114 (dk_at dksX10_tell_3 3 rfl rfl)
theorem dX10_tell_76 : decode cX10_tell 76 = .ok (.iload 5, 2) := dk_21 5 (dk_at dksX10_tell_3 5 rfl rfl)
theorem dX10_tell_78 : decode cX10_tell 78 = .ok (.iconst 2, 1) := dk_5 (dk_at dksX10_tell_3 7 rfl rfl)
theorem dX10_tell_79 : decode cX10_tell 79 = .ok (.invokestatic 63, 3) := dk_184 0 63 (dk_at dksX10_tell_3 8 rfl rfl)
theorem dX10_tell_82 : decode cX10_tell 82 = .ok (.invokevirtual 53, 3) := dk_182 0 53 (dk_at dksX10_tell_3 11 rfl rfl)
theorem dX10_tell_85 : decode cX10_tell 85 = .ok (.pop, 1) := dk_87 (dk_at dksX10_tell_3 14 rfl rfl)
theorem dX10_tell_86 : decode cX10_tell 86 = .ok (.return_, 1) := dk_177 (dk_at dksX10_tell_3 15 rfl rfl)
abbrev cX10_isOf : ByteArray := prog_8_method_3_code
def yX10_isOf : MethodName := ⟨RX10, "isOf", "(I)Z"⟩
def dkwX10_isOf_0 : List UInt8 := [27, 154, 0, 7, 4, 167, 0, 4, 3, 172]
abbrev dktX10_isOf_0 : List UInt8 := dkwX10_isOf_0 ++ []
theorem dksX10_isOf_0 : cX10_isOf.data.toList.drop 0 = dktX10_isOf_0 := by decide +kernel
theorem dX10_isOf_0 : decode cX10_isOf 0 = .ok (.iload_n 1, 1) := dk_27 (dk_at dksX10_isOf_0 0 rfl rfl)
theorem dX10_isOf_1 : decode cX10_isOf 1 = .ok (.ifCond .ne 7, 3) := dk_154 0 7 (dk_at dksX10_isOf_0 1 rfl rfl)
theorem dX10_isOf_4 : decode cX10_isOf 4 = .ok (.iconst 1, 1) := dk_4 (dk_at dksX10_isOf_0 4 rfl rfl)
theorem dX10_isOf_5 : decode cX10_isOf 5 = .ok (.goto 4, 3) := dk_167 0 4 (dk_at dksX10_isOf_0 5 rfl rfl)
theorem dX10_isOf_8 : decode cX10_isOf 8 = .ok (.iconst 0, 1) := dk_3 (dk_at dksX10_isOf_0 8 rfl rfl)
theorem dX10_isOf_9 : decode cX10_isOf 9 = .ok (.ireturn, 1) := dk_172 (dk_at dksX10_isOf_0 9 rfl rfl)
abbrev cX10_goes : ByteArray := prog_8_method_12_code
def yX10_goes : MethodName := ⟨RX10, "goes", "(III)Z"⟩
def dkwX10_goes_0 : List UInt8 := [42, 180, 0, 35, 180, 0, 91, 27, 46, 28, 29, 184, 0, 88, 126, 153, 0, 7, 4, 167, 0, 4, 3, 172]
abbrev dktX10_goes_0 : List UInt8 := dkwX10_goes_0 ++ []
theorem dksX10_goes_0 : cX10_goes.data.toList.drop 0 = dktX10_goes_0 := by decide +kernel
theorem dX10_goes_0 : decode cX10_goes 0 = .ok (.aload_n 0, 1) := dk_42 (dk_at dksX10_goes_0 0 rfl rfl)
theorem dX10_goes_1 : decode cX10_goes 1 = .ok (.getfield 35, 3) := dk_180 0 35 (dk_at dksX10_goes_0 1 rfl rfl)
theorem dX10_goes_4 : decode cX10_goes 4 = .ok (.getfield 91, 3) := dk_180 0 91 (dk_at dksX10_goes_0 4 rfl rfl)
theorem dX10_goes_7 : decode cX10_goes 7 = .ok (.iload_n 1, 1) := dk_27 (dk_at dksX10_goes_0 7 rfl rfl)
theorem dX10_goes_8 : decode cX10_goes 8 = .ok (.iaload, 1) := dk_46 (dk_at dksX10_goes_0 8 rfl rfl)
theorem dX10_goes_9 : decode cX10_goes 9 = .ok (.iload_n 2, 1) := dk_28 (dk_at dksX10_goes_0 9 rfl rfl)
theorem dX10_goes_10 : decode cX10_goes 10 = .ok (.iload_n 3, 1) := dk_29 (dk_at dksX10_goes_0 10 rfl rfl)
theorem dX10_goes_11 : decode cX10_goes 11 = .ok (.invokestatic 88, 3) := dk_184 0 88 (dk_at dksX10_goes_0 11 rfl rfl)
theorem dX10_goes_14 : decode cX10_goes 14 = .ok (.iand, 1) := dk_126 (dk_at dksX10_goes_0 14 rfl rfl)
theorem dX10_goes_15 : decode cX10_goes 15 = .ok (.ifCond .eq 7, 3) := dk_153 0 7 (dk_at dksX10_goes_0 15 rfl rfl)
theorem dX10_goes_18 : decode cX10_goes 18 = .ok (.iconst 1, 1) := dk_4 (dk_at dksX10_goes_0 18 rfl rfl)
theorem dX10_goes_19 : decode cX10_goes 19 = .ok (.goto 4, 3) := dk_167 0 4 (dk_at dksX10_goes_0 19 rfl rfl)
theorem dX10_goes_22 : decode cX10_goes 22 = .ok (.iconst 0, 1) := dk_3 (dk_at dksX10_goes_0 22 rfl rfl)
theorem dX10_goes_23 : decode cX10_goes 23 = .ok (.ireturn, 1) := dk_172 (dk_at dksX10_goes_0 23 rfl rfl)
abbrev cX10_bids : ByteArray := prog_8_method_13_code
def yX10_bids : MethodName := ⟨RX10, "bids", "(I)I"⟩
def dkwX10_bids_0 : List UInt8 := [42, 180, 0, 9, 16, 10, 182, 0, 94, 27, 42, 180, 0, 15, 96, 172]
abbrev dktX10_bids_0 : List UInt8 := dkwX10_bids_0 ++ []
theorem dksX10_bids_0 : cX10_bids.data.toList.drop 0 = dktX10_bids_0 := by decide +kernel
theorem dX10_bids_0 : decode cX10_bids 0 = .ok (.aload_n 0, 1) := dk_42 (dk_at dksX10_bids_0 0 rfl rfl)
theorem dX10_bids_1 : decode cX10_bids 1 = .ok (.getfield 9, 3) := dk_180 0 9 (dk_at dksX10_bids_0 1 rfl rfl)
theorem dX10_bids_4 : decode cX10_bids 4 = .ok (.bipush 10, 2) := dk_16 10 (dk_at dksX10_bids_0 4 rfl rfl)
theorem dX10_bids_6 : decode cX10_bids 6 = .ok (.invokevirtual 94, 3) := dk_182 0 94 (dk_at dksX10_bids_0 6 rfl rfl)
theorem dX10_bids_9 : decode cX10_bids 9 = .ok (.iload_n 1, 1) := dk_27 (dk_at dksX10_bids_0 9 rfl rfl)
theorem dX10_bids_10 : decode cX10_bids 10 = .ok (.aload_n 0, 1) := dk_42 (dk_at dksX10_bids_0 10 rfl rfl)
theorem dX10_bids_11 : decode cX10_bids 11 = .ok (.getfield 15, 3) := dk_180 0 15 (dk_at dksX10_bids_0 11 rfl rfl)
theorem dX10_bids_14 : decode cX10_bids 14 = .ok (.iadd, 1) := dk_96 (dk_at dksX10_bids_0 14 rfl rfl)
theorem dX10_bids_15 : decode cX10_bids 15 = .ok (.ireturn, 1) := dk_172 (dk_at dksX10_bids_0 15 rfl rfl)
abbrev cX10_bars : ByteArray := prog_8_method_14_code
def yX10_bars : MethodName := ⟨RX10, "bars", "(I)I"⟩
def dkwX10_bars_0 : List UInt8 := [42, 180, 0, 9, 16, 11, 182, 0, 94, 42, 27, 182, 0, 99, 5, 104, 172]
abbrev dktX10_bars_0 : List UInt8 := dkwX10_bars_0 ++ []
theorem dksX10_bars_0 : cX10_bars.data.toList.drop 0 = dktX10_bars_0 := by decide +kernel
theorem dX10_bars_0 : decode cX10_bars 0 = .ok (.aload_n 0, 1) := dk_42 (dk_at dksX10_bars_0 0 rfl rfl)
theorem dX10_bars_1 : decode cX10_bars 1 = .ok (.getfield 9, 3) := dk_180 0 9 (dk_at dksX10_bars_0 1 rfl rfl)
theorem dX10_bars_4 : decode cX10_bars 4 = .ok (.bipush 11, 2) := dk_16 11 (dk_at dksX10_bars_0 4 rfl rfl)
theorem dX10_bars_6 : decode cX10_bars 6 = .ok (.invokevirtual 94, 3) := dk_182 0 94 (dk_at dksX10_bars_0 6 rfl rfl)
theorem dX10_bars_9 : decode cX10_bars 9 = .ok (.aload_n 0, 1) := dk_42 (dk_at dksX10_bars_0 9 rfl rfl)
theorem dX10_bars_10 : decode cX10_bars 10 = .ok (.iload_n 1, 1) := dk_27 (dk_at dksX10_bars_0 10 rfl rfl)
theorem dX10_bars_11 : decode cX10_bars 11 = .ok (.invokevirtual 99, 3) := dk_182 0 99 (dk_at dksX10_bars_0 11 rfl rfl)
theorem dX10_bars_14 : decode cX10_bars 14 = .ok (.iconst 2, 1) := dk_5 (dk_at dksX10_bars_0 14 rfl rfl)
theorem dX10_bars_15 : decode cX10_bars 15 = .ok (.imul, 1) := dk_104 (dk_at dksX10_bars_0 15 rfl rfl)
theorem dX10_bars_16 : decode cX10_bars 16 = .ok (.ireturn, 1) := dk_172 (dk_at dksX10_bars_0 16 rfl rfl)
abbrev cX10_yields : ByteArray := prog_8_method_15_code
def yX10_yields : MethodName := ⟨RX10, "yields", "(I)I"⟩
def dkwX10_yields_0 : List UInt8 := [42, 180, 0, 9, 16, 12, 182, 0, 94, 27, 42, 180, 0, 19, 100, 172]
abbrev dktX10_yields_0 : List UInt8 := dkwX10_yields_0 ++ []
theorem dksX10_yields_0 : cX10_yields.data.toList.drop 0 = dktX10_yields_0 := by decide +kernel
theorem dX10_yields_0 : decode cX10_yields 0 = .ok (.aload_n 0, 1) := dk_42 (dk_at dksX10_yields_0 0 rfl rfl)
theorem dX10_yields_1 : decode cX10_yields 1 = .ok (.getfield 9, 3) := dk_180 0 9 (dk_at dksX10_yields_0 1 rfl rfl)
theorem dX10_yields_4 : decode cX10_yields 4 = .ok (.bipush 12, 2) := dk_16 12 (dk_at dksX10_yields_0 4 rfl rfl)
theorem dX10_yields_6 : decode cX10_yields 6 = .ok (.invokevirtual 94, 3) := dk_182 0 94 (dk_at dksX10_yields_0 6 rfl rfl)
theorem dX10_yields_9 : decode cX10_yields 9 = .ok (.iload_n 1, 1) := dk_27 (dk_at dksX10_yields_0 9 rfl rfl)
theorem dX10_yields_10 : decode cX10_yields 10 = .ok (.aload_n 0, 1) := dk_42 (dk_at dksX10_yields_0 10 rfl rfl)
theorem dX10_yields_11 : decode cX10_yields 11 = .ok (.getfield 19, 3) := dk_180 0 19 (dk_at dksX10_yields_0 11 rfl rfl)
theorem dX10_yields_14 : decode cX10_yields 14 = .ok (.isub, 1) := dk_100 (dk_at dksX10_yields_0 14 rfl rfl)
theorem dX10_yields_15 : decode cX10_yields 15 = .ok (.ireturn, 1) := dk_172 (dk_at dksX10_yields_0 15 rfl rfl)
abbrev cX10_stands : ByteArray := prog_8_method_16_code
def yX10_stands : MethodName := ⟨RX10, "stands", "(I)I"⟩
def dkwX10_stands_0 : List UInt8 := [42, 180, 0, 9, 16, 13, 182, 0, 94, 42, 27, 182, 0, 102, 61, 28, 42, 27, 182, 0, 105, 130, 172]
abbrev dktX10_stands_0 : List UInt8 := dkwX10_stands_0 ++ []
theorem dksX10_stands_0 : cX10_stands.data.toList.drop 0 = dktX10_stands_0 := by decide +kernel
theorem dX10_stands_0 : decode cX10_stands 0 = .ok (.aload_n 0, 1) := dk_42 (dk_at dksX10_stands_0 0 rfl rfl)
theorem dX10_stands_1 : decode cX10_stands 1 = .ok (.getfield 9, 3) := dk_180 0 9 (dk_at dksX10_stands_0 1 rfl rfl)
theorem dX10_stands_4 : decode cX10_stands 4 = .ok (.bipush 13, 2) := dk_16 13 (dk_at dksX10_stands_0 4 rfl rfl)
theorem dX10_stands_6 : decode cX10_stands 6 = .ok (.invokevirtual 94, 3) := dk_182 0 94 (dk_at dksX10_stands_0 6 rfl rfl)
theorem dX10_stands_9 : decode cX10_stands 9 = .ok (.aload_n 0, 1) := dk_42 (dk_at dksX10_stands_0 9 rfl rfl)
theorem dX10_stands_10 : decode cX10_stands 10 = .ok (.iload_n 1, 1) := dk_27 (dk_at dksX10_stands_0 10 rfl rfl)
theorem dX10_stands_11 : decode cX10_stands 11 = .ok (.invokevirtual 102, 3) := dk_182 0 102 (dk_at dksX10_stands_0 11 rfl rfl)
theorem dX10_stands_14 : decode cX10_stands 14 = .ok (.istore_n 2, 1) := dk_61 (dk_at dksX10_stands_0 14 rfl rfl)
theorem dX10_stands_15 : decode cX10_stands 15 = .ok (.iload_n 2, 1) := dk_28 (dk_at dksX10_stands_0 15 rfl rfl)
theorem dX10_stands_16 : decode cX10_stands 16 = .ok (.aload_n 0, 1) := dk_42 (dk_at dksX10_stands_0 16 rfl rfl)
theorem dX10_stands_17 : decode cX10_stands 17 = .ok (.iload_n 1, 1) := dk_27 (dk_at dksX10_stands_0 17 rfl rfl)
theorem dX10_stands_18 : decode cX10_stands 18 = .ok (.invokevirtual 105, 3) := dk_182 0 105 (dk_at dksX10_stands_0 18 rfl rfl)
theorem dX10_stands_21 : decode cX10_stands 21 = .ok (.ixor, 1) := dk_130 (dk_at dksX10_stands_0 21 rfl rfl)
theorem dX10_stands_22 : decode cX10_stands 22 = .ok (.ireturn, 1) := dk_172 (dk_at dksX10_stands_0 22 rfl rfl)
abbrev cX10_again : ByteArray := prog_8_method_7_code
def yX10_again : MethodName := ⟨RX10, "again", "()LNineDemands$Demand;"⟩
def dkwX10_again_0 : List UInt8 := [42, 182, 0, 27, 76, 43, 42, 180, 0, 31, 181, 0, 31, 43, 42, 180, 0, 35, 181, 0, 35, 43, 176]
abbrev dktX10_again_0 : List UInt8 := dkwX10_again_0 ++ []
theorem dksX10_again_0 : cX10_again.data.toList.drop 0 = dktX10_again_0 := by decide +kernel
theorem dX10_again_0 : decode cX10_again 0 = .ok (.aload_n 0, 1) := dk_42 (dk_at dksX10_again_0 0 rfl rfl)
theorem dX10_again_1 : decode cX10_again 1 = .ok (.invokevirtual 27, 3) := dk_182 0 27 (dk_at dksX10_again_0 1 rfl rfl)
theorem dX10_again_4 : decode cX10_again 4 = .ok (.astore_n 1, 1) := dk_76 (dk_at dksX10_again_0 4 rfl rfl)
theorem dX10_again_5 : decode cX10_again 5 = .ok (.aload_n 1, 1) := dk_43 (dk_at dksX10_again_0 5 rfl rfl)
theorem dX10_again_6 : decode cX10_again 6 = .ok (.aload_n 0, 1) := dk_42 (dk_at dksX10_again_0 6 rfl rfl)
theorem dX10_again_7 : decode cX10_again 7 = .ok (.getfield 31, 3) := dk_180 0 31 (dk_at dksX10_again_0 7 rfl rfl)
theorem dX10_again_10 : decode cX10_again 10 = .ok (.putfield 31, 3) := dk_181 0 31 (dk_at dksX10_again_0 10 rfl rfl)
theorem dX10_again_13 : decode cX10_again 13 = .ok (.aload_n 1, 1) := dk_43 (dk_at dksX10_again_0 13 rfl rfl)
theorem dX10_again_14 : decode cX10_again 14 = .ok (.aload_n 0, 1) := dk_42 (dk_at dksX10_again_0 14 rfl rfl)
theorem dX10_again_15 : decode cX10_again 15 = .ok (.getfield 35, 3) := dk_180 0 35 (dk_at dksX10_again_0 15 rfl rfl)
theorem dX10_again_18 : decode cX10_again 18 = .ok (.putfield 35, 3) := dk_181 0 35 (dk_at dksX10_again_0 18 rfl rfl)
theorem dX10_again_21 : decode cX10_again 21 = .ok (.aload_n 1, 1) := dk_43 (dk_at dksX10_again_0 21 rfl rfl)
theorem dX10_again_22 : decode cX10_again 22 = .ok (.areturn, 1) := dk_176 (dk_at dksX10_again_0 22 rfl rfl)
abbrev cX10_another : ByteArray := prog_8_method_6_code
def yX10_another : MethodName := ⟨RX10, "another", "()LNineDemands$Demand;"⟩
def dkwX10_another_0 : List UInt8 := [187, 0, 10, 89, 42, 180, 0, 9, 42, 180, 0, 15, 42, 180, 0, 19, 183, 0, 24, 176]
abbrev dktX10_another_0 : List UInt8 := dkwX10_another_0 ++ []
theorem dksX10_another_0 : cX10_another.data.toList.drop 0 = dktX10_another_0 := by decide +kernel
theorem dX10_another_0 : decode cX10_another 0 = .ok (.new 10, 3) := dk_187 0 10 (dk_at dksX10_another_0 0 rfl rfl)
theorem dX10_another_3 : decode cX10_another 3 = .ok (.dup, 1) := dk_89 (dk_at dksX10_another_0 3 rfl rfl)
theorem dX10_another_4 : decode cX10_another 4 = .ok (.aload_n 0, 1) := dk_42 (dk_at dksX10_another_0 4 rfl rfl)
theorem dX10_another_5 : decode cX10_another 5 = .ok (.getfield 9, 3) := dk_180 0 9 (dk_at dksX10_another_0 5 rfl rfl)
theorem dX10_another_8 : decode cX10_another 8 = .ok (.aload_n 0, 1) := dk_42 (dk_at dksX10_another_0 8 rfl rfl)
theorem dX10_another_9 : decode cX10_another 9 = .ok (.getfield 15, 3) := dk_180 0 15 (dk_at dksX10_another_0 9 rfl rfl)
theorem dX10_another_12 : decode cX10_another 12 = .ok (.aload_n 0, 1) := dk_42 (dk_at dksX10_another_0 12 rfl rfl)
theorem dX10_another_13 : decode cX10_another 13 = .ok (.getfield 19, 3) := dk_180 0 19 (dk_at dksX10_another_0 13 rfl rfl)
theorem dX10_another_16 : decode cX10_another 16 = .ok (.invokespecial 24, 3) := dk_183 0 24 (dk_at dksX10_another_0 16 rfl rfl)
theorem dX10_another_19 : decode cX10_another 19 = .ok (.areturn, 1) := dk_176 (dk_at dksX10_another_0 19 rfl rfl)
theorem q108 : (Jvm.Cond.initialized "NineDemands$Demand") ∈ lw_all := lw_g (lw_at lw_m1 18 rfl) rfl
theorem q527 : (Jvm.Cond.instanceMethod ({ cls := "NineDemands$Demand", name := "<init>", desc := "(LNineDemands$Trace;II)V" } : Jvm.MethodName)) ∈ lw_all := lw_g (lw_at lw_m2 197 rfl) rfl
theorem q528 : (Jvm.Cond.code ({ cls := "NineDemands$Demand", name := "<init>", desc := "(LNineDemands$Trace;II)V" } : Jvm.MethodName) prog_8_method_1_code (4 : Nat) (Option.none : Option Jvm.ClassFile.FieldType)) ∈ lw_all := lw_g (lw_at lw_m2 198 rfl) rfl
theorem q529 : (Jvm.Cond.methodLink "NineDemands$Demand" (3 : Nat) ({ cls := "java/lang/Object", name := "<init>", desc := "()V" } : Jvm.MethodName)) ∈ lw_all := lw_g (lw_at lw_m2 199 rfl) rfl
theorem q530 : (Jvm.Cond.fieldLink "NineDemands$Demand" (9 : Nat) "NineDemands$Demand" "trace" "LNineDemands$Trace;") ∈ lw_all := lw_g (lw_at lw_m2 200 rfl) rfl
theorem q541 : (Jvm.Cond.fieldLink "NineDemands$Demand" (15 : Nat) "NineDemands$Demand" "number" "I") ∈ lw_all := lw_g (lw_at lw_m2 211 rfl) rfl
theorem q553 : (Jvm.Cond.fieldLink "NineDemands$Demand" (19 : Nat) "NineDemands$Demand" "price" "I") ∈ lw_all := lw_g (lw_at lw_m2 223 rfl) rfl
theorem q566 : (Jvm.Cond.fieldLink "NineDemands$Demand" (31 : Nat) "NineDemands$Demand" "text" "LNineDemands$Term;") ∈ lw_all := lw_g (lw_at lw_m2 236 rfl) rfl
theorem q579 : (Jvm.Cond.fieldLink "NineDemands$Demand" (35 : Nat) "NineDemands$Demand" "cases" "LNineDemands$Cases;") ∈ lw_all := lw_g (lw_at lw_m3 9 rfl) rfl
theorem q582 : (Jvm.Cond.soleField "NineDemands$Demand" "trace") ∈ lw_all := lw_g (lw_at lw_m3 12 rfl) rfl
theorem q584 : (Jvm.Cond.soleField "NineDemands$Demand" "number") ∈ lw_all := lw_g (lw_at lw_m3 14 rfl) rfl
theorem q586 : (Jvm.Cond.soleField "NineDemands$Demand" "price") ∈ lw_all := lw_g (lw_at lw_m3 16 rfl) rfl
theorem q588 : (Jvm.Cond.soleField "NineDemands$Demand" "text") ∈ lw_all := lw_g (lw_at lw_m3 18 rfl) rfl
theorem q590 : (Jvm.Cond.soleField "NineDemands$Demand" "cases") ∈ lw_all := lw_g (lw_at lw_m3 20 rfl) rfl
theorem q641 : (Jvm.Cond.instantiable "NineDemands$Demand" (5 : Nat)) ∈ lw_all := lw_g (lw_at lw_m3 71 rfl) rfl
theorem q643 : (Jvm.Cond.laysFinal "NineDemands$Demand" "NineDemands$Demand" "trace" "LNineDemands$Trace;") ∈ lw_all := lw_g (lw_at lw_m3 73 rfl) rfl
theorem q644 : (Jvm.Cond.laysFinal "NineDemands$Demand" "NineDemands$Demand" "number" "I") ∈ lw_all := lw_g (lw_at lw_m3 74 rfl) rfl
theorem q645 : (Jvm.Cond.lays "NineDemands$Demand" "NineDemands$Demand" "price" "I") ∈ lw_all := lw_g (lw_at lw_m3 75 rfl) rfl
theorem q646 : (Jvm.Cond.lays "NineDemands$Demand" "NineDemands$Demand" "text" "LNineDemands$Term;") ∈ lw_all := lw_g (lw_at lw_m3 76 rfl) rfl
theorem q647 : (Jvm.Cond.lays "NineDemands$Demand" "NineDemands$Demand" "cases" "LNineDemands$Cases;") ∈ lw_all := lw_g (lw_at lw_m3 77 rfl) rfl
theorem q648 : (Jvm.Cond.superclass "NineDemands$Demand" "java/lang/Object") ∈ lw_all := lw_g (lw_at lw_m3 78 rfl) rfl
theorem q654 : (Jvm.Cond.instanceMethod ({ cls := "NineDemands$Demand", name := "hasText", desc := "()Z" } : Jvm.MethodName)) ∈ lw_all := lw_g (lw_at lw_m3 84 rfl) rfl
theorem q655 : (Jvm.Cond.selects "NineDemands$Demand" ({ cls := "NineDemands$Demand", name := "hasText", desc := "()Z" } : Jvm.MethodName) ({ cls := "NineDemands$Demand", name := "hasText", desc := "()Z" } : Jvm.MethodName)) ∈ lw_all := lw_g (lw_at lw_m3 85 rfl) rfl
theorem q656 : (Jvm.Cond.sameMethod "NineDemands$Demand" "NineDemands$Demand" "hasText" "()Z") ∈ lw_all := lw_g (lw_at lw_m3 86 rfl) rfl
theorem q670 : (Jvm.Cond.declares ({ cls := "NineDemands$Demand", name := "hasText", desc := "()Z" } : Jvm.MethodName)) ∈ lw_tbl := lw_at lw_m3 100 rfl
theorem q671 : (Jvm.Cond.code ({ cls := "NineDemands$Demand", name := "hasText", desc := "()Z" } : Jvm.MethodName) prog_8_method_4_code (1 : Nat) (Option.some Jvm.ClassFile.FieldType.boolean)) ∈ lw_all := lw_g (lw_at lw_m3 101 rfl) rfl
theorem q675 : (Jvm.Cond.instanceMethod ({ cls := "NineDemands$Demand", name := "names", desc := "()Ljava/lang/String;" } : Jvm.MethodName)) ∈ lw_all := lw_g (lw_at lw_m3 105 rfl) rfl
theorem q676 : (Jvm.Cond.selects "NineDemands$Demand" ({ cls := "NineDemands$Demand", name := "names", desc := "()Ljava/lang/String;" } : Jvm.MethodName) ({ cls := "NineDemands$Demand", name := "names", desc := "()Ljava/lang/String;" } : Jvm.MethodName)) ∈ lw_all := lw_g (lw_at lw_m3 106 rfl) rfl
theorem q677 : (Jvm.Cond.sameMethod "NineDemands$Demand" "NineDemands$Demand" "names" "()Ljava/lang/String;") ∈ lw_all := lw_g (lw_at lw_m3 107 rfl) rfl
theorem q911 : (Jvm.Cond.code ({ cls := "NineDemands$Demand", name := "names", desc := "()Ljava/lang/String;" } : Jvm.MethodName) prog_8_method_5_code (1 : Nat) (Option.some (Jvm.ClassFile.FieldType.object "java/lang/String"))) ∈ lw_all := lw_g (lw_at lw_m4 101 rfl) rfl
theorem q912 : (Jvm.Cond.stringRef "NineDemands$Demand" (22 : Nat) "abcspqr") ∈ lw_tbl := lw_at lw_m4 102 rfl
theorem q1104 : (Jvm.Cond.instanceMethod ({ cls := "NineDemands$Demand", name := "lay", desc := "(LNineDemands$Facts;)V" } : Jvm.MethodName)) ∈ lw_all := lw_g (lw_at lw_m5 54 rfl) rfl
theorem q1105 : (Jvm.Cond.selects "NineDemands$Demand" ({ cls := "NineDemands$Demand", name := "lay", desc := "(LNineDemands$Facts;)V" } : Jvm.MethodName) ({ cls := "NineDemands$Demand", name := "lay", desc := "(LNineDemands$Facts;)V" } : Jvm.MethodName)) ∈ lw_all := lw_g (lw_at lw_m5 55 rfl) rfl
theorem q1106 : (Jvm.Cond.sameMethod "NineDemands$Demand" "NineDemands$Demand" "lay" "(LNineDemands$Facts;)V") ∈ lw_all := lw_g (lw_at lw_m5 56 rfl) rfl
theorem q1112 : (Jvm.Cond.code ({ cls := "NineDemands$Demand", name := "lay", desc := "(LNineDemands$Facts;)V" } : Jvm.MethodName) prog_8_method_11_code (6 : Nat) (Option.none : Option Jvm.ClassFile.FieldType)) ∈ lw_all := lw_g (lw_at lw_m5 62 rfl) rfl
theorem q1113 : (Jvm.Cond.classLink "NineDemands$Demand" (40 : Nat) "NineDemands$Cases") ∈ lw_all := lw_g (lw_at lw_m5 63 rfl) rfl
theorem q1115 : (Jvm.Cond.methodLinkNest "NineDemands$Demand" (76 : Nat) ({ cls := "NineDemands$Cases", name := "<init>", desc := "()V" } : Jvm.MethodName) "NineDemands") ∈ lw_tbl := lw_at lw_m5 65 rfl
theorem q1124 : (Jvm.Cond.fieldLinkNest "NineDemands$Demand" (45 : Nat) "NineDemands$Cases" "first" "[I" "NineDemands") ∈ lw_tbl := lw_at lw_m5 74 rfl
theorem q1136 : (Jvm.Cond.fieldLinkNest "NineDemands$Demand" (91 : Nat) "NineDemands$Cases" "goes" "[I" "NineDemands") ∈ lw_tbl := lw_at lw_m5 86 rfl
theorem q1141 : (Jvm.Cond.fieldLinkNest "NineDemands$Demand" (81 : Nat) "NineDemands$Cases" "many" "I" "NineDemands") ∈ lw_tbl := lw_at lw_m5 91 rfl
theorem q1154 : (Jvm.Cond.methodLink "NineDemands$Demand" (77 : Nat) ({ cls := "NineDemands$Demand", name := "casesOf", desc := "(I)V" } : Jvm.MethodName)) ∈ lw_all := lw_g (lw_at lw_m5 104 rfl) rfl
theorem q1155 : (Jvm.Cond.instanceMethod ({ cls := "NineDemands$Demand", name := "casesOf", desc := "(I)V" } : Jvm.MethodName)) ∈ lw_all := lw_g (lw_at lw_m5 105 rfl) rfl
theorem q1156 : (Jvm.Cond.selects "NineDemands$Demand" ({ cls := "NineDemands$Demand", name := "casesOf", desc := "(I)V" } : Jvm.MethodName) ({ cls := "NineDemands$Demand", name := "casesOf", desc := "(I)V" } : Jvm.MethodName)) ∈ lw_all := lw_g (lw_at lw_m5 106 rfl) rfl
theorem q1157 : (Jvm.Cond.sameMethod "NineDemands$Demand" "NineDemands$Demand" "casesOf" "(I)V") ∈ lw_all := lw_g (lw_at lw_m5 107 rfl) rfl
theorem q1189 : (Jvm.Cond.code ({ cls := "NineDemands$Demand", name := "casesOf", desc := "(I)V" } : Jvm.MethodName) prog_8_method_8_code (2 : Nat) (Option.none : Option Jvm.ClassFile.FieldType)) ∈ lw_all := lw_g (lw_at lw_m5 139 rfl) rfl
theorem q1190 : (Jvm.Cond.methodLink "NineDemands$Demand" (39 : Nat) ({ cls := "NineDemands$Cases", name := "add", desc := "(III)V" } : Jvm.MethodName)) ∈ lw_all := lw_g (lw_at lw_m5 140 rfl) rfl
theorem q1191 : (Jvm.Cond.methodLink "NineDemands$Demand" (84 : Nat) ({ cls := "NineDemands$Demand", name := "isSo", desc := "(LNineDemands$Facts;III)Z" } : Jvm.MethodName)) ∈ lw_all := lw_g (lw_at lw_m5 141 rfl) rfl
theorem q1192 : (Jvm.Cond.instanceMethod ({ cls := "NineDemands$Demand", name := "isSo", desc := "(LNineDemands$Facts;III)Z" } : Jvm.MethodName)) ∈ lw_all := lw_g (lw_at lw_m5 142 rfl) rfl
theorem q1193 : (Jvm.Cond.selects "NineDemands$Demand" ({ cls := "NineDemands$Demand", name := "isSo", desc := "(LNineDemands$Facts;III)Z" } : Jvm.MethodName) ({ cls := "NineDemands$Demand", name := "isSo", desc := "(LNineDemands$Facts;III)Z" } : Jvm.MethodName)) ∈ lw_all := lw_g (lw_at lw_m5 143 rfl) rfl
theorem q1194 : (Jvm.Cond.sameMethod "NineDemands$Demand" "NineDemands$Demand" "isSo" "(LNineDemands$Facts;III)Z") ∈ lw_all := lw_g (lw_at lw_m5 144 rfl) rfl
theorem q1209 : (Jvm.Cond.code ({ cls := "NineDemands$Demand", name := "isSo", desc := "(LNineDemands$Facts;III)Z" } : Jvm.MethodName) prog_8_method_10_code (5 : Nat) (Option.some Jvm.ClassFile.FieldType.boolean)) ∈ lw_all := lw_g (lw_at lw_m5 159 rfl) rfl
theorem q1210 : (Jvm.Cond.methodLink "NineDemands$Demand" (66 : Nat) ({ cls := "NineDemands$Demand", name := "tell", desc := "(LNineDemands$Facts;III)V" } : Jvm.MethodName)) ∈ lw_all := lw_g (lw_at lw_m5 160 rfl) rfl
theorem q1211 : (Jvm.Cond.instanceMethod ({ cls := "NineDemands$Demand", name := "tell", desc := "(LNineDemands$Facts;III)V" } : Jvm.MethodName)) ∈ lw_all := lw_g (lw_at lw_m5 161 rfl) rfl
theorem q1212 : (Jvm.Cond.selects "NineDemands$Demand" ({ cls := "NineDemands$Demand", name := "tell", desc := "(LNineDemands$Facts;III)V" } : Jvm.MethodName) ({ cls := "NineDemands$Demand", name := "tell", desc := "(LNineDemands$Facts;III)V" } : Jvm.MethodName)) ∈ lw_all := lw_g (lw_at lw_m5 162 rfl) rfl
theorem q1213 : (Jvm.Cond.sameMethod "NineDemands$Demand" "NineDemands$Demand" "tell" "(LNineDemands$Facts;III)V") ∈ lw_all := lw_g (lw_at lw_m5 163 rfl) rfl
theorem q1232 : (Jvm.Cond.code ({ cls := "NineDemands$Demand", name := "tell", desc := "(LNineDemands$Facts;III)V" } : Jvm.MethodName) prog_8_method_9_code (6 : Nat) (Option.none : Option Jvm.ClassFile.FieldType)) ∈ lw_all := lw_g (lw_at lw_m5 182 rfl) rfl
theorem q1233 : (Jvm.Cond.methodLinkNest "NineDemands$Demand" (49 : Nat) ({ cls := "NineDemands", name := "wanting", desc := "(II)I" } : Jvm.MethodName) "NineDemands") ∈ lw_tbl := lw_at lw_m5 183 rfl
theorem q1234 : (Jvm.Cond.methodLink "NineDemands$Demand" (53 : Nat) ({ cls := "NineDemands$Facts", name := "with", desc := "(CI)LNineDemands$Facts;" } : Jvm.MethodName)) ∈ lw_all := lw_g (lw_at lw_m5 184 rfl) rfl
theorem q1235 : (Jvm.Cond.methodLinkNest "NineDemands$Demand" (59 : Nat) ({ cls := "NineDemands", name := "peopleOf", desc := "(I)I" } : Jvm.MethodName) "NineDemands") ∈ lw_tbl := lw_at lw_m5 185 rfl
theorem q1236 : (Jvm.Cond.methodLinkNest "NineDemands$Demand" (63 : Nat) ({ cls := "NineDemands", name := "wants", desc := "(II)I" } : Jvm.MethodName) "NineDemands") ∈ lw_tbl := lw_at lw_m5 186 rfl
theorem q1237 : (Jvm.Cond.methodLink "NineDemands$Demand" (70 : Nat) ({ cls := "NineDemands$Term", name := "value", desc := "(LNineDemands$Facts;)I" } : Jvm.MethodName)) ∈ lw_all := lw_g (lw_at lw_m5 187 rfl) rfl
theorem q1257 : (Jvm.Cond.methodLinkNest "NineDemands$Demand" (88 : Nat) ({ cls := "NineDemands", name := "bitOf", desc := "(II)I" } : Jvm.MethodName) "NineDemands") ∈ lw_tbl := lw_at lw_m5 207 rfl
theorem q1288 : (Jvm.Cond.selects "NineDemands$Demand" ({ cls := "java/lang/Object", name := "getClass", desc := "()Ljava/lang/Class;" } : Jvm.MethodName) ({ cls := "java/lang/Object", name := "getClass", desc := "()Ljava/lang/Class;" } : Jvm.MethodName)) ∈ lw_all := lw_g (lw_at lw_m5 238 rfl) rfl
theorem q1348 : (Jvm.Cond.instanceMethod ({ cls := "NineDemands$Demand", name := "isOf", desc := "(I)Z" } : Jvm.MethodName)) ∈ lw_all := lw_g (lw_at lw_m6 58 rfl) rfl
theorem q1349 : (Jvm.Cond.selects "NineDemands$Demand" ({ cls := "NineDemands$Demand", name := "isOf", desc := "(I)Z" } : Jvm.MethodName) ({ cls := "NineDemands$Demand", name := "isOf", desc := "(I)Z" } : Jvm.MethodName)) ∈ lw_all := lw_g (lw_at lw_m6 59 rfl) rfl
theorem q1350 : (Jvm.Cond.sameMethod "NineDemands$Demand" "NineDemands$Demand" "isOf" "(I)Z") ∈ lw_all := lw_g (lw_at lw_m6 60 rfl) rfl
theorem q1371 : (Jvm.Cond.code ({ cls := "NineDemands$Demand", name := "isOf", desc := "(I)Z" } : Jvm.MethodName) prog_8_method_3_code (2 : Nat) (Option.some Jvm.ClassFile.FieldType.boolean)) ∈ lw_all := lw_g (lw_at lw_m6 81 rfl) rfl
theorem q1389 : (Jvm.Cond.instanceMethod ({ cls := "NineDemands$Demand", name := "goes", desc := "(III)Z" } : Jvm.MethodName)) ∈ lw_all := lw_g (lw_at lw_m6 99 rfl) rfl
theorem q1390 : (Jvm.Cond.selects "NineDemands$Demand" ({ cls := "NineDemands$Demand", name := "goes", desc := "(III)Z" } : Jvm.MethodName) ({ cls := "NineDemands$Demand", name := "goes", desc := "(III)Z" } : Jvm.MethodName)) ∈ lw_all := lw_g (lw_at lw_m6 100 rfl) rfl
theorem q1391 : (Jvm.Cond.sameMethod "NineDemands$Demand" "NineDemands$Demand" "goes" "(III)Z") ∈ lw_all := lw_g (lw_at lw_m6 101 rfl) rfl
theorem q1397 : (Jvm.Cond.code ({ cls := "NineDemands$Demand", name := "goes", desc := "(III)Z" } : Jvm.MethodName) prog_8_method_12_code (4 : Nat) (Option.some Jvm.ClassFile.FieldType.boolean)) ∈ lw_all := lw_g (lw_at lw_m6 107 rfl) rfl
theorem q1674 : (Jvm.Cond.declares ({ cls := "NineDemands$Demand", name := "bids", desc := "(I)I" } : Jvm.MethodName)) ∈ lw_tbl := lw_at lw_m7 144 rfl
theorem q1675 : (Jvm.Cond.instanceMethod ({ cls := "NineDemands$Demand", name := "bids", desc := "(I)I" } : Jvm.MethodName)) ∈ lw_all := lw_g (lw_at lw_m7 145 rfl) rfl
theorem q1676 : (Jvm.Cond.code ({ cls := "NineDemands$Demand", name := "bids", desc := "(I)I" } : Jvm.MethodName) prog_8_method_13_code (2 : Nat) (Option.some Jvm.ClassFile.FieldType.int)) ∈ lw_all := lw_g (lw_at lw_m7 146 rfl) rfl
theorem q1677 : (Jvm.Cond.methodLink "NineDemands$Demand" (94 : Nat) ({ cls := "NineDemands$Trace", name := "begins", desc := "(I)V" } : Jvm.MethodName)) ∈ lw_all := lw_g (lw_at lw_m7 147 rfl) rfl
theorem q1681 : (Jvm.Cond.publicMethod ({ cls := "NineDemands$Demand", name := "bids", desc := "(I)I" } : Jvm.MethodName)) ∈ lw_tbl := lw_at lw_m7 151 rfl
theorem q1682 : (Jvm.Cond.castable "NineDemands$Demand" "NineDemands$Bids") ∈ lw_tbl := lw_at lw_m7 152 rfl
theorem q1683 : (Jvm.Cond.selects "NineDemands$Demand" ({ cls := "NineDemands$Bids", name := "bids", desc := "(I)I" } : Jvm.MethodName) ({ cls := "NineDemands$Demand", name := "bids", desc := "(I)I" } : Jvm.MethodName)) ∈ lw_all := lw_g (lw_at lw_m7 153 rfl) rfl
theorem q1684 : (Jvm.Cond.unhidden "NineDemands$Demand" "bids" "(I)I") ∈ lw_tbl := lw_at lw_m7 154 rfl
theorem q1711 : (Jvm.Cond.instanceMethod ({ cls := "NineDemands$Demand", name := "bars", desc := "(I)I" } : Jvm.MethodName)) ∈ lw_all := lw_g (lw_at lw_m7 181 rfl) rfl
theorem q1712 : (Jvm.Cond.code ({ cls := "NineDemands$Demand", name := "bars", desc := "(I)I" } : Jvm.MethodName) prog_8_method_14_code (2 : Nat) (Option.some Jvm.ClassFile.FieldType.int)) ∈ lw_all := lw_g (lw_at lw_m7 182 rfl) rfl
theorem q1713 : (Jvm.Cond.methodLink "NineDemands$Demand" (99 : Nat) ({ cls := "NineDemands$Demand", name := "bids", desc := "(I)I" } : Jvm.MethodName)) ∈ lw_all := lw_g (lw_at lw_m7 183 rfl) rfl
theorem q1716 : (Jvm.Cond.declares ({ cls := "NineDemands$Demand", name := "yields", desc := "(I)I" } : Jvm.MethodName)) ∈ lw_tbl := lw_at lw_m7 186 rfl
theorem q1725 : (Jvm.Cond.instanceMethod ({ cls := "NineDemands$Demand", name := "yields", desc := "(I)I" } : Jvm.MethodName)) ∈ lw_all := lw_g (lw_at lw_m7 195 rfl) rfl
theorem q1726 : (Jvm.Cond.code ({ cls := "NineDemands$Demand", name := "yields", desc := "(I)I" } : Jvm.MethodName) prog_8_method_15_code (2 : Nat) (Option.some Jvm.ClassFile.FieldType.int)) ∈ lw_all := lw_g (lw_at lw_m7 196 rfl) rfl
theorem q1735 : (Jvm.Cond.castable "NineDemands$Demand" "NineDemands$Bars") ∈ lw_tbl := lw_at lw_m7 205 rfl
theorem q1736 : (Jvm.Cond.selects "NineDemands$Demand" ({ cls := "NineDemands$Bars", name := "bars", desc := "(I)I" } : Jvm.MethodName) ({ cls := "NineDemands$Demand", name := "bars", desc := "(I)I" } : Jvm.MethodName)) ∈ lw_all := lw_g (lw_at lw_m7 206 rfl) rfl
theorem q1737 : (Jvm.Cond.unhidden "NineDemands$Demand" "bars" "(I)I") ∈ lw_tbl := lw_at lw_m7 207 rfl
theorem q1738 : (Jvm.Cond.publicMethod ({ cls := "NineDemands$Demand", name := "bars", desc := "(I)I" } : Jvm.MethodName)) ∈ lw_tbl := lw_at lw_m7 208 rfl
theorem q1755 : (Jvm.Cond.publicMethod ({ cls := "NineDemands$Demand", name := "yields", desc := "(I)I" } : Jvm.MethodName)) ∈ lw_tbl := lw_at lw_m7 225 rfl
theorem q1759 : (Jvm.Cond.castable "NineDemands$Demand" "NineDemands$Yields") ∈ lw_tbl := lw_at lw_m7 229 rfl
theorem q1760 : (Jvm.Cond.selects "NineDemands$Demand" ({ cls := "NineDemands$Yields", name := "yields", desc := "(I)I" } : Jvm.MethodName) ({ cls := "NineDemands$Demand", name := "yields", desc := "(I)I" } : Jvm.MethodName)) ∈ lw_all := lw_g (lw_at lw_m7 230 rfl) rfl
theorem q1761 : (Jvm.Cond.unhidden "NineDemands$Demand" "yields" "(I)I") ∈ lw_tbl := lw_at lw_m7 231 rfl
theorem q1789 : (Jvm.Cond.declares ({ cls := "NineDemands$Demand", name := "stands", desc := "(I)I" } : Jvm.MethodName)) ∈ lw_tbl := lw_at lw_m8 19 rfl
theorem q1790 : (Jvm.Cond.instanceMethod ({ cls := "NineDemands$Demand", name := "stands", desc := "(I)I" } : Jvm.MethodName)) ∈ lw_all := lw_g (lw_at lw_m8 20 rfl) rfl
theorem q1791 : (Jvm.Cond.code ({ cls := "NineDemands$Demand", name := "stands", desc := "(I)I" } : Jvm.MethodName) prog_8_method_16_code (3 : Nat) (Option.some Jvm.ClassFile.FieldType.int)) ∈ lw_all := lw_g (lw_at lw_m8 21 rfl) rfl
theorem q1792 : (Jvm.Cond.methodLink "NineDemands$Demand" (102 : Nat) ({ cls := "NineDemands$Demand", name := "bars", desc := "(I)I" } : Jvm.MethodName)) ∈ lw_all := lw_g (lw_at lw_m8 22 rfl) rfl
theorem q1793 : (Jvm.Cond.methodLink "NineDemands$Demand" (105 : Nat) ({ cls := "NineDemands$Demand", name := "yields", desc := "(I)I" } : Jvm.MethodName)) ∈ lw_all := lw_g (lw_at lw_m8 23 rfl) rfl
theorem q1804 : (Jvm.Cond.castable "NineDemands$Demand" "NineDemands$Stands") ∈ lw_tbl := lw_at lw_m8 34 rfl
theorem q1805 : (Jvm.Cond.selects "NineDemands$Demand" ({ cls := "NineDemands$Stands", name := "stands", desc := "(I)I" } : Jvm.MethodName) ({ cls := "NineDemands$Demand", name := "stands", desc := "(I)I" } : Jvm.MethodName)) ∈ lw_all := lw_g (lw_at lw_m8 35 rfl) rfl
theorem q1806 : (Jvm.Cond.unhidden "NineDemands$Demand" "stands" "(I)I") ∈ lw_tbl := lw_at lw_m8 36 rfl
theorem q1807 : (Jvm.Cond.publicMethod ({ cls := "NineDemands$Demand", name := "stands", desc := "(I)I" } : Jvm.MethodName)) ∈ lw_tbl := lw_at lw_m8 37 rfl
theorem q1915 : (Jvm.Cond.instanceMethod ({ cls := "NineDemands$Demand", name := "again", desc := "()LNineDemands$Demand;" } : Jvm.MethodName)) ∈ lw_all := lw_g (lw_at lw_m8 145 rfl) rfl
theorem q1916 : (Jvm.Cond.selects "NineDemands$Demand" ({ cls := "NineDemands$Demand", name := "again", desc := "()LNineDemands$Demand;" } : Jvm.MethodName) ({ cls := "NineDemands$Demand", name := "again", desc := "()LNineDemands$Demand;" } : Jvm.MethodName)) ∈ lw_all := lw_g (lw_at lw_m8 146 rfl) rfl
theorem q1917 : (Jvm.Cond.sameMethod "NineDemands$Demand" "NineDemands$Demand" "again" "()LNineDemands$Demand;") ∈ lw_all := lw_g (lw_at lw_m8 147 rfl) rfl
theorem q1923 : (Jvm.Cond.code ({ cls := "NineDemands$Demand", name := "again", desc := "()LNineDemands$Demand;" } : Jvm.MethodName) prog_8_method_7_code (2 : Nat) (Option.some (Jvm.ClassFile.FieldType.object "NineDemands$Demand"))) ∈ lw_all := lw_g (lw_at lw_m8 153 rfl) rfl
theorem q1924 : (Jvm.Cond.methodLink "NineDemands$Demand" (27 : Nat) ({ cls := "NineDemands$Demand", name := "another", desc := "()LNineDemands$Demand;" } : Jvm.MethodName)) ∈ lw_all := lw_g (lw_at lw_m8 154 rfl) rfl
theorem q1925 : (Jvm.Cond.instanceMethod ({ cls := "NineDemands$Demand", name := "another", desc := "()LNineDemands$Demand;" } : Jvm.MethodName)) ∈ lw_all := lw_g (lw_at lw_m8 155 rfl) rfl
theorem q1926 : (Jvm.Cond.selects "NineDemands$Demand" ({ cls := "NineDemands$Demand", name := "another", desc := "()LNineDemands$Demand;" } : Jvm.MethodName) ({ cls := "NineDemands$Demand", name := "another", desc := "()LNineDemands$Demand;" } : Jvm.MethodName)) ∈ lw_all := lw_g (lw_at lw_m8 156 rfl) rfl
theorem q1927 : (Jvm.Cond.sameMethod "NineDemands$Demand" "NineDemands$Demand" "another" "()LNineDemands$Demand;") ∈ lw_all := lw_g (lw_at lw_m8 157 rfl) rfl
theorem q1953 : (Jvm.Cond.code ({ cls := "NineDemands$Demand", name := "another", desc := "()LNineDemands$Demand;" } : Jvm.MethodName) prog_8_method_6_code (1 : Nat) (Option.some (Jvm.ClassFile.FieldType.object "NineDemands$Demand"))) ∈ lw_all := lw_g (lw_at lw_m8 183 rfl) rfl
theorem q1954 : (Jvm.Cond.classLink "NineDemands$Demand" (10 : Nat) "NineDemands$Demand") ∈ lw_all := lw_g (lw_at lw_m8 184 rfl) rfl
theorem q1955 : (Jvm.Cond.methodLink "NineDemands$Demand" (24 : Nat) ({ cls := "NineDemands$Demand", name := "<init>", desc := "(LNineDemands$Trace;II)V" } : Jvm.MethodName)) ∈ lw_all := lw_g (lw_at lw_m8 185 rfl) rfl
theorem q2491 : (Jvm.Cond.sameMethod "NineDemands$Demand" "NineDemands$Demand" "bids" "(I)I") ∈ lw_all := lw_g (lw_at lw_m11 1 rfl) rfl
theorem q2492 : (Jvm.Cond.sameMethod "NineDemands$Demand" "NineDemands$Demand" "bars" "(I)I") ∈ lw_all := lw_g (lw_at lw_m11 2 rfl) rfl
theorem q2495 : (Jvm.Cond.selects "NineDemands$Demand" ({ cls := "NineDemands$Demand", name := "bids", desc := "(I)I" } : Jvm.MethodName) ({ cls := "NineDemands$Demand", name := "bids", desc := "(I)I" } : Jvm.MethodName)) ∈ lw_all := lw_g (lw_at lw_m11 5 rfl) rfl
theorem q2500 : (Jvm.Cond.sameMethod "NineDemands$Demand" "NineDemands$Demand" "yields" "(I)I") ∈ lw_all := lw_g (lw_at lw_m11 10 rfl) rfl
theorem q2504 : (Jvm.Cond.selects "NineDemands$Demand" ({ cls := "NineDemands$Demand", name := "bars", desc := "(I)I" } : Jvm.MethodName) ({ cls := "NineDemands$Demand", name := "bars", desc := "(I)I" } : Jvm.MethodName)) ∈ lw_all := lw_g (lw_at lw_m11 14 rfl) rfl
theorem q2510 : (Jvm.Cond.selects "NineDemands$Demand" ({ cls := "NineDemands$Demand", name := "yields", desc := "(I)I" } : Jvm.MethodName) ({ cls := "NineDemands$Demand", name := "yields", desc := "(I)I" } : Jvm.MethodName)) ∈ lw_all := lw_g (lw_at lw_m11 20 rfl) rfl
theorem q2538 : (Jvm.Cond.castable "NineDemands$Demand" "java/lang/Object") ∈ lw_tbl := lw_at lw_m11 48 rfl
theorem in_X10 : ∀ w ∈ wsX100, w ∈ lw_all := lw_in wsX100 [643, 644, 645, 646, 647] (by decide +kernel) (by decide +kernel)
/-! NineDemands$Moved -/
set_option maxRecDepth 100000
def RX11 : String := "NineDemands$Moved"
def TX11 : u_T := fun k => match k with
  | 0 => ("NineDemands$Demand", "trace", "LNineDemands$Trace;", true)
  | 1 => ("NineDemands$Demand", "number", "I", true)
  | 2 => ("NineDemands$Demand", "price", "I", false)
  | 3 => ("NineDemands$Demand", "text", "LNineDemands$Term;", false)
  | _ => ("NineDemands$Demand", "cases", "LNineDemands$Cases;", false)
def tyX11 : Nat → FieldType := fun k => match k with
  | 0 => .object "NineDemands$Trace"
  | 1 => .int
  | 2 => .int
  | 3 => .object "NineDemands$Term"
  | _ => .object "NineDemands$Cases"
abbrev wsX110 : List Cond := u_ws RX11 TX11 5
theorem nmX11 : ∀ a, a < 5 → ∀ b, b < 5 → a ≠ b → (TX11 a).2.1 ≠ (TX11 b).2.1 := by decide +kernel
theorem tyX11_ok : ∀ k, k < 5 → parseFieldDescriptor (TX11 k).2.2.1 = some (tyX11 k) := by decide +kernel
abbrev cX11_init : ByteArray := prog_14_method_1_code
def yX11_init : MethodName := ⟨RX11, "<init>", "(LNineDemands$Trace;II)V"⟩
def dkwX11_init_0 : List UInt8 := [42, 43, 28, 29, 183, 0, 3, 177]
abbrev dktX11_init_0 : List UInt8 := dkwX11_init_0 ++ []
theorem dksX11_init_0 : cX11_init.data.toList.drop 0 = dktX11_init_0 := by decide +kernel
theorem dX11_init_0 : decode cX11_init 0 = .ok (.aload_n 0, 1) := dk_42 (dk_at dksX11_init_0 0 rfl rfl)
theorem dX11_init_1 : decode cX11_init 1 = .ok (.aload_n 1, 1) := dk_43 (dk_at dksX11_init_0 1 rfl rfl)
theorem dX11_init_2 : decode cX11_init 2 = .ok (.iload_n 2, 1) := dk_28 (dk_at dksX11_init_0 2 rfl rfl)
theorem dX11_init_3 : decode cX11_init 3 = .ok (.iload_n 3, 1) := dk_29 (dk_at dksX11_init_0 3 rfl rfl)
theorem dX11_init_4 : decode cX11_init 4 = .ok (.invokespecial 3, 3) := dk_183 0 3 (dk_at dksX11_init_0 4 rfl rfl)
theorem dX11_init_7 : decode cX11_init 7 = .ok (.return_, 1) := dk_177 (dk_at dksX11_init_0 7 rfl rfl)
abbrev cX11_names : ByteArray := prog_14_method_5_code
def yX11_names : MethodName := ⟨RX11, "names", "()Ljava/lang/String;"⟩
def dkwX11_names_0 : List UInt8 := [187, 0, 13, 89, 183, 0, 15, 42, 182, 0, 31, 182, 0, 22, 18, 36, 182, 0, 22, 182, 0, 28, 176]
abbrev dktX11_names_0 : List UInt8 := dkwX11_names_0 ++ []
theorem dksX11_names_0 : cX11_names.data.toList.drop 0 = dktX11_names_0 := by decide +kernel
theorem dX11_names_0 : decode cX11_names 0 = .ok (.new 13, 3) := dk_187 0 13 (dk_at dksX11_names_0 0 rfl rfl)
theorem dX11_names_3 : decode cX11_names 3 = .ok (.dup, 1) := dk_89 (dk_at dksX11_names_0 3 rfl rfl)
theorem dX11_names_4 : decode cX11_names 4 = .ok (.invokespecial 15, 3) := dk_183 0 15 (dk_at dksX11_names_0 4 rfl rfl)
theorem dX11_names_7 : decode cX11_names 7 = .ok (.aload_n 0, 1) := dk_42 (dk_at dksX11_names_0 7 rfl rfl)
theorem dX11_names_8 : decode cX11_names 8 = .ok (.invokevirtual 31, 3) := dk_182 0 31 (dk_at dksX11_names_0 8 rfl rfl)
theorem dX11_names_11 : decode cX11_names 11 = .ok (.invokevirtual 22, 3) := dk_182 0 22 (dk_at dksX11_names_0 11 rfl rfl)
theorem dX11_names_14 : decode cX11_names 14 = .ok (.ldc 36, 2) := dk_18 36 (dk_at dksX11_names_0 14 rfl rfl)
theorem dX11_names_16 : decode cX11_names 16 = .ok (.invokevirtual 22, 3) := dk_182 0 22 (dk_at dksX11_names_0 16 rfl rfl)
theorem dX11_names_19 : decode cX11_names 19 = .ok (.invokevirtual 28, 3) := dk_182 0 28 (dk_at dksX11_names_0 19 rfl rfl)
theorem dX11_names_22 : decode cX11_names 22 = .ok (.areturn, 1) := dk_176 (dk_at dksX11_names_0 22 rfl rfl)
abbrev cX11_paired : ByteArray := prog_14_method_4_code
def yX11_paired : MethodName := ⟨RX11, "paired", "()Ljava/lang/String;"⟩
def dkwX11_paired_0 : List UInt8 := [187, 0, 13, 89, 183, 0, 15, 42, 183, 0, 18, 182, 0, 22, 18, 26, 182, 0, 22, 182, 0, 28, 176]
abbrev dktX11_paired_0 : List UInt8 := dkwX11_paired_0 ++ []
theorem dksX11_paired_0 : cX11_paired.data.toList.drop 0 = dktX11_paired_0 := by decide +kernel
theorem dX11_paired_0 : decode cX11_paired 0 = .ok (.new 13, 3) := dk_187 0 13 (dk_at dksX11_paired_0 0 rfl rfl)
theorem dX11_paired_3 : decode cX11_paired 3 = .ok (.dup, 1) := dk_89 (dk_at dksX11_paired_0 3 rfl rfl)
theorem dX11_paired_4 : decode cX11_paired 4 = .ok (.invokespecial 15, 3) := dk_183 0 15 (dk_at dksX11_paired_0 4 rfl rfl)
theorem dX11_paired_7 : decode cX11_paired 7 = .ok (.aload_n 0, 1) := dk_42 (dk_at dksX11_paired_0 7 rfl rfl)
theorem dX11_paired_8 : decode cX11_paired 8 = .ok (.invokespecial 18, 3) := dk_183 0 18 (dk_at dksX11_paired_0 8 rfl rfl)
theorem dX11_paired_11 : decode cX11_paired 11 = .ok (.invokevirtual 22, 3) := dk_182 0 22 (dk_at dksX11_paired_0 11 rfl rfl)
theorem dX11_paired_14 : decode cX11_paired 14 = .ok (.ldc 26, 2) := dk_18 26 (dk_at dksX11_paired_0 14 rfl rfl)
theorem dX11_paired_16 : decode cX11_paired 16 = .ok (.invokevirtual 22, 3) := dk_182 0 22 (dk_at dksX11_paired_0 16 rfl rfl)
theorem dX11_paired_19 : decode cX11_paired 19 = .ok (.invokevirtual 28, 3) := dk_182 0 28 (dk_at dksX11_paired_0 19 rfl rfl)
theorem dX11_paired_22 : decode cX11_paired 22 = .ok (.areturn, 1) := dk_176 (dk_at dksX11_paired_0 22 rfl rfl)
abbrev cX11_casesOf : ByteArray := prog_14_method_7_code
def yX11_casesOf : MethodName := ⟨RX11, "casesOf", "(I)V"⟩
def dkwX11_casesOf_1 : List UInt8 := [182, 0, 62, 132, 2, 1, 167, 255, 229, 177]
abbrev dktX11_casesOf_1 : List UInt8 := dkwX11_casesOf_1 ++ []
def dkwX11_casesOf_0 : List UInt8 := [3, 61, 28, 27, 184, 0, 50, 162, 0, 25, 42, 180, 0, 54, 27, 27, 4, 28, 120, 184, 0, 58, 28]
abbrev dktX11_casesOf_0 : List UInt8 := dkwX11_casesOf_0 ++ dktX11_casesOf_1
theorem dksX11_casesOf_0 : cX11_casesOf.data.toList.drop 0 = dktX11_casesOf_0 := by decide +kernel
theorem dksX11_casesOf_1 : cX11_casesOf.data.toList.drop 23 = dktX11_casesOf_1 := dk_seg dksX11_casesOf_0 23 rfl rfl
theorem dX11_casesOf_0 : decode cX11_casesOf 0 = .ok (.iconst 0, 1) := dk_3 (dk_at dksX11_casesOf_0 0 rfl rfl)
theorem dX11_casesOf_1 : decode cX11_casesOf 1 = .ok (.istore_n 2, 1) := dk_61 (dk_at dksX11_casesOf_0 1 rfl rfl)
theorem dX11_casesOf_2 : decode cX11_casesOf 2 = .ok (.iload_n 2, 1) := dk_28 (dk_at dksX11_casesOf_0 2 rfl rfl)
theorem dX11_casesOf_3 : decode cX11_casesOf 3 = .ok (.iload_n 1, 1) := dk_27 (dk_at dksX11_casesOf_0 3 rfl rfl)
theorem dX11_casesOf_4 : decode cX11_casesOf 4 = .ok (.invokestatic 50, 3) := dk_184 0 50 (dk_at dksX11_casesOf_0 4 rfl rfl)
theorem dX11_casesOf_7 : decode cX11_casesOf 7 = .ok (.if_icmp .ge 25, 3) := dk_162 0 25 (dk_at dksX11_casesOf_0 7 rfl rfl)
theorem dX11_casesOf_10 : decode cX11_casesOf 10 = .ok (.aload_n 0, 1) := dk_42 (dk_at dksX11_casesOf_0 10 rfl rfl)
theorem dX11_casesOf_11 : decode cX11_casesOf 11 = .ok (.getfield 54, 3) := dk_180 0 54 (dk_at dksX11_casesOf_0 11 rfl rfl)
theorem dX11_casesOf_14 : decode cX11_casesOf 14 = .ok (.iload_n 1, 1) := dk_27 (dk_at dksX11_casesOf_0 14 rfl rfl)
theorem dX11_casesOf_15 : decode cX11_casesOf 15 = .ok (.iload_n 1, 1) := dk_27 (dk_at dksX11_casesOf_0 15 rfl rfl)
theorem dX11_casesOf_16 : decode cX11_casesOf 16 = .ok (.iconst 1, 1) := dk_4 (dk_at dksX11_casesOf_0 16 rfl rfl)
theorem dX11_casesOf_17 : decode cX11_casesOf 17 = .ok (.iload_n 2, 1) := dk_28 (dk_at dksX11_casesOf_0 17 rfl rfl)
theorem dX11_casesOf_18 : decode cX11_casesOf 18 = .ok (.ishl, 1) := dk_120 (dk_at dksX11_casesOf_0 18 rfl rfl)
theorem dX11_casesOf_19 : decode cX11_casesOf 19 = .ok (.invokestatic 58, 3) := dk_184 0 58 (dk_at dksX11_casesOf_0 19 rfl rfl)
theorem dX11_casesOf_22 : decode cX11_casesOf 22 = .ok (.iload_n 2, 1) := dk_28 (dk_at dksX11_casesOf_0 22 rfl rfl)
theorem dX11_casesOf_23 : decode cX11_casesOf 23 = .ok (.invokevirtual 62, 3) := dk_182 0 62 (dk_at dksX11_casesOf_1 0 rfl rfl)
theorem dX11_casesOf_26 : decode cX11_casesOf 26 = .ok (.iinc 2 1, 3) := dk_132 2 1 (dk_at dksX11_casesOf_1 3 rfl rfl)
theorem dX11_casesOf_29 : decode cX11_casesOf 29 = .ok (.goto (-27), 3) := dk_167 255 229 (dk_at dksX11_casesOf_1 6 rfl rfl)
theorem dX11_casesOf_32 : decode cX11_casesOf 32 = .ok (.return_, 1) := dk_177 (dk_at dksX11_casesOf_1 9 rfl rfl)
abbrev cX11_tell : ByteArray := prog_14_method_8_code
def yX11_tell : MethodName := ⟨RX11, "tell", "(LNineDemands$Facts;III)V"⟩
def dkwX11_tell_2 : List UInt8 := [180, 0, 78, 28, 46, 184, 0, 85, 182, 0, 72, 87, 177]
abbrev dktX11_tell_2 : List UInt8 := dkwX11_tell_2 ++ []
def dkwX11_tell_1 : List UInt8 := [180, 0, 78, 28, 46, 182, 0, 72, 16, 119, 42, 180, 0, 54, 180, 0, 82, 28, 46, 42, 180, 0, 54]
abbrev dktX11_tell_1 : List UInt8 := dkwX11_tell_1 ++ dktX11_tell_2
def dkwX11_tell_0 : List UInt8 := [42, 43, 28, 29, 21, 4, 183, 0, 68, 43, 16, 100, 21, 4, 182, 0, 72, 16, 105, 42, 180, 0, 54]
abbrev dktX11_tell_0 : List UInt8 := dkwX11_tell_0 ++ dktX11_tell_1
theorem dksX11_tell_0 : cX11_tell.data.toList.drop 0 = dktX11_tell_0 := by decide +kernel
theorem dksX11_tell_1 : cX11_tell.data.toList.drop 23 = dktX11_tell_1 := dk_seg dksX11_tell_0 23 rfl rfl
theorem dksX11_tell_2 : cX11_tell.data.toList.drop 46 = dktX11_tell_2 := dk_seg dksX11_tell_1 23 rfl rfl
theorem dX11_tell_0 : decode cX11_tell 0 = .ok (.aload_n 0, 1) := dk_42 (dk_at dksX11_tell_0 0 rfl rfl)
theorem dX11_tell_1 : decode cX11_tell 1 = .ok (.aload_n 1, 1) := dk_43 (dk_at dksX11_tell_0 1 rfl rfl)
theorem dX11_tell_2 : decode cX11_tell 2 = .ok (.iload_n 2, 1) := dk_28 (dk_at dksX11_tell_0 2 rfl rfl)
theorem dX11_tell_3 : decode cX11_tell 3 = .ok (.iload_n 3, 1) := dk_29 (dk_at dksX11_tell_0 3 rfl rfl)
theorem dX11_tell_4 : decode cX11_tell 4 = .ok (.iload 4, 2) := dk_21 4 (dk_at dksX11_tell_0 4 rfl rfl)
theorem dX11_tell_6 : decode cX11_tell 6 = .ok (.invokespecial 68, 3) := dk_183 0 68 (dk_at dksX11_tell_0 6 rfl rfl)
theorem dX11_tell_9 : decode cX11_tell 9 = .ok (.aload_n 1, 1) := dk_43 (dk_at dksX11_tell_0 9 rfl rfl)
theorem dX11_tell_10 : decode cX11_tell 10 = .ok (.bipush 100, 2) := dk_16 100 (dk_at dksX11_tell_0 10 rfl rfl)
theorem dX11_tell_12 : decode cX11_tell 12 = .ok (.iload 4, 2) := dk_21 4 (dk_at dksX11_tell_0 12 rfl rfl)
theorem dX11_tell_14 : decode cX11_tell 14 = .ok (.invokevirtual 72, 3) := dk_182 0 72 (dk_at dksX11_tell_0 14 rfl rfl)
theorem dX11_tell_17 : decode cX11_tell 17 = .ok (.bipush 105, 2) := dk_16 105 (dk_at dksX11_tell_0 17 rfl rfl)
theorem dX11_tell_19 : decode cX11_tell 19 = .ok (.aload_n 0, 1) := dk_42 (dk_at dksX11_tell_0 19 rfl rfl)
theorem dX11_tell_20 : decode cX11_tell 20 = .ok (.getfield 54, 3) := dk_180 0 54 (dk_at dksX11_tell_0 20 rfl rfl)
theorem dX11_tell_23 : decode cX11_tell 23 = .ok (.getfield 78, 3) := dk_180 0 78 (dk_at dksX11_tell_1 0 rfl rfl)
theorem dX11_tell_26 : decode cX11_tell 26 = .ok (.iload_n 2, 1) := dk_28 (dk_at dksX11_tell_1 3 rfl rfl)
theorem dX11_tell_27 : decode cX11_tell 27 = .ok (.iaload, 1) := dk_46 (dk_at dksX11_tell_1 4 rfl rfl)
theorem dX11_tell_28 : decode cX11_tell 28 = .ok (.invokevirtual 72, 3) := dk_182 0 72 (dk_at dksX11_tell_1 5 rfl rfl)
theorem dX11_tell_31 : decode cX11_tell 31 = .ok (.bipush 119, 2) := dk_16 119 (dk_at dksX11_tell_1 8 rfl rfl)
theorem dX11_tell_33 : decode cX11_tell 33 = .ok (.aload_n 0, 1) := dk_42 (dk_at dksX11_tell_1 10 rfl rfl)
theorem dX11_tell_34 : decode cX11_tell 34 = .ok (.getfield 54, 3) := dk_180 0 54 (dk_at dksX11_tell_1 11 rfl rfl)
theorem dX11_tell_37 : decode cX11_tell 37 = .ok (.getfield 82, 3) := dk_180 0 82 (dk_at dksX11_tell_1 14 rfl rfl)
theorem dX11_tell_40 : decode cX11_tell 40 = .ok (.iload_n 2, 1) := dk_28 (dk_at dksX11_tell_1 17 rfl rfl)
theorem dX11_tell_41 : decode cX11_tell 41 = .ok (.iaload, 1) := dk_46 (dk_at dksX11_tell_1 18 rfl rfl)
theorem dX11_tell_42 : decode cX11_tell 42 = .ok (.aload_n 0, 1) := dk_42 (dk_at dksX11_tell_1 19 rfl rfl)
theorem dX11_tell_43 : decode cX11_tell 43 = .ok (.getfield 54, 3) := dk_180 0 54 (dk_at dksX11_tell_1 20 rfl rfl)
theorem dX11_tell_46 : decode cX11_tell 46 = .ok (.getfield 78, 3) := dk_180 0 78 (dk_at dksX11_tell_2 0 rfl rfl)
theorem dX11_tell_49 : decode cX11_tell 49 = .ok (.iload_n 2, 1) := dk_28 (dk_at dksX11_tell_2 3 rfl rfl)
theorem dX11_tell_50 : decode cX11_tell 50 = .ok (.iaload, 1) := dk_46 (dk_at dksX11_tell_2 4 rfl rfl)
theorem dX11_tell_51 : decode cX11_tell 51 = .ok (.invokestatic 85, 3) := dk_184 0 85 (dk_at dksX11_tell_2 5 rfl rfl)
theorem dX11_tell_54 : decode cX11_tell 54 = .ok (.invokevirtual 72, 3) := dk_182 0 72 (dk_at dksX11_tell_2 8 rfl rfl)
theorem dX11_tell_57 : decode cX11_tell 57 = .ok (.pop, 1) := dk_87 (dk_at dksX11_tell_2 11 rfl rfl)
theorem dX11_tell_58 : decode cX11_tell 58 = .ok (.return_, 1) := dk_177 (dk_at dksX11_tell_2 12 rfl rfl)
abbrev cX11_isOf : ByteArray := prog_14_method_3_code
def yX11_isOf : MethodName := ⟨RX11, "isOf", "(I)Z"⟩
def dkwX11_isOf_0 : List UInt8 := [27, 4, 159, 0, 11, 42, 27, 183, 0, 9, 153, 0, 7, 4, 167, 0, 4, 3, 172]
abbrev dktX11_isOf_0 : List UInt8 := dkwX11_isOf_0 ++ []
theorem dksX11_isOf_0 : cX11_isOf.data.toList.drop 0 = dktX11_isOf_0 := by decide +kernel
theorem dX11_isOf_0 : decode cX11_isOf 0 = .ok (.iload_n 1, 1) := dk_27 (dk_at dksX11_isOf_0 0 rfl rfl)
theorem dX11_isOf_1 : decode cX11_isOf 1 = .ok (.iconst 1, 1) := dk_4 (dk_at dksX11_isOf_0 1 rfl rfl)
theorem dX11_isOf_2 : decode cX11_isOf 2 = .ok (.if_icmp .eq 11, 3) := dk_159 0 11 (dk_at dksX11_isOf_0 2 rfl rfl)
theorem dX11_isOf_5 : decode cX11_isOf 5 = .ok (.aload_n 0, 1) := dk_42 (dk_at dksX11_isOf_0 5 rfl rfl)
theorem dX11_isOf_6 : decode cX11_isOf 6 = .ok (.iload_n 1, 1) := dk_27 (dk_at dksX11_isOf_0 6 rfl rfl)
theorem dX11_isOf_7 : decode cX11_isOf 7 = .ok (.invokespecial 9, 3) := dk_183 0 9 (dk_at dksX11_isOf_0 7 rfl rfl)
theorem dX11_isOf_10 : decode cX11_isOf 10 = .ok (.ifCond .eq 7, 3) := dk_153 0 7 (dk_at dksX11_isOf_0 10 rfl rfl)
theorem dX11_isOf_13 : decode cX11_isOf 13 = .ok (.iconst 1, 1) := dk_4 (dk_at dksX11_isOf_0 13 rfl rfl)
theorem dX11_isOf_14 : decode cX11_isOf 14 = .ok (.goto 4, 3) := dk_167 0 4 (dk_at dksX11_isOf_0 14 rfl rfl)
theorem dX11_isOf_17 : decode cX11_isOf 17 = .ok (.iconst 0, 1) := dk_3 (dk_at dksX11_isOf_0 17 rfl rfl)
theorem dX11_isOf_18 : decode cX11_isOf 18 = .ok (.ireturn, 1) := dk_172 (dk_at dksX11_isOf_0 18 rfl rfl)
abbrev cX11_bars : ByteArray := prog_14_method_9_code
def yX11_bars : MethodName := ⟨RX11, "bars", "(I)I"⟩
def dkwX11_bars_0 : List UInt8 := [42, 180, 0, 38, 16, 20, 182, 0, 88, 42, 27, 183, 0, 94, 61, 28, 42, 27, 182, 0, 97, 96, 172]
abbrev dktX11_bars_0 : List UInt8 := dkwX11_bars_0 ++ []
theorem dksX11_bars_0 : cX11_bars.data.toList.drop 0 = dktX11_bars_0 := by decide +kernel
theorem dX11_bars_0 : decode cX11_bars 0 = .ok (.aload_n 0, 1) := dk_42 (dk_at dksX11_bars_0 0 rfl rfl)
theorem dX11_bars_1 : decode cX11_bars 1 = .ok (.getfield 38, 3) := dk_180 0 38 (dk_at dksX11_bars_0 1 rfl rfl)
theorem dX11_bars_4 : decode cX11_bars 4 = .ok (.bipush 20, 2) := dk_16 20 (dk_at dksX11_bars_0 4 rfl rfl)
theorem dX11_bars_6 : decode cX11_bars 6 = .ok (.invokevirtual 88, 3) := dk_182 0 88 (dk_at dksX11_bars_0 6 rfl rfl)
theorem dX11_bars_9 : decode cX11_bars 9 = .ok (.aload_n 0, 1) := dk_42 (dk_at dksX11_bars_0 9 rfl rfl)
theorem dX11_bars_10 : decode cX11_bars 10 = .ok (.iload_n 1, 1) := dk_27 (dk_at dksX11_bars_0 10 rfl rfl)
theorem dX11_bars_11 : decode cX11_bars 11 = .ok (.invokespecial 94, 3) := dk_183 0 94 (dk_at dksX11_bars_0 11 rfl rfl)
theorem dX11_bars_14 : decode cX11_bars 14 = .ok (.istore_n 2, 1) := dk_61 (dk_at dksX11_bars_0 14 rfl rfl)
theorem dX11_bars_15 : decode cX11_bars 15 = .ok (.iload_n 2, 1) := dk_28 (dk_at dksX11_bars_0 15 rfl rfl)
theorem dX11_bars_16 : decode cX11_bars 16 = .ok (.aload_n 0, 1) := dk_42 (dk_at dksX11_bars_0 16 rfl rfl)
theorem dX11_bars_17 : decode cX11_bars 17 = .ok (.iload_n 1, 1) := dk_27 (dk_at dksX11_bars_0 17 rfl rfl)
theorem dX11_bars_18 : decode cX11_bars 18 = .ok (.invokevirtual 97, 3) := dk_182 0 97 (dk_at dksX11_bars_0 18 rfl rfl)
theorem dX11_bars_21 : decode cX11_bars 21 = .ok (.iadd, 1) := dk_96 (dk_at dksX11_bars_0 21 rfl rfl)
theorem dX11_bars_22 : decode cX11_bars 22 = .ok (.ireturn, 1) := dk_172 (dk_at dksX11_bars_0 22 rfl rfl)
abbrev cX11_another : ByteArray := prog_14_method_6_code
def yX11_another : MethodName := ⟨RX11, "another", "()LNineDemands$Demand;"⟩
def dkwX11_another_0 : List UInt8 := [187, 0, 32, 89, 42, 180, 0, 38, 42, 180, 0, 42, 42, 180, 0, 46, 183, 0, 49, 176]
abbrev dktX11_another_0 : List UInt8 := dkwX11_another_0 ++ []
theorem dksX11_another_0 : cX11_another.data.toList.drop 0 = dktX11_another_0 := by decide +kernel
theorem dX11_another_0 : decode cX11_another 0 = .ok (.new 32, 3) := dk_187 0 32 (dk_at dksX11_another_0 0 rfl rfl)
theorem dX11_another_3 : decode cX11_another 3 = .ok (.dup, 1) := dk_89 (dk_at dksX11_another_0 3 rfl rfl)
theorem dX11_another_4 : decode cX11_another 4 = .ok (.aload_n 0, 1) := dk_42 (dk_at dksX11_another_0 4 rfl rfl)
theorem dX11_another_5 : decode cX11_another 5 = .ok (.getfield 38, 3) := dk_180 0 38 (dk_at dksX11_another_0 5 rfl rfl)
theorem dX11_another_8 : decode cX11_another 8 = .ok (.aload_n 0, 1) := dk_42 (dk_at dksX11_another_0 8 rfl rfl)
theorem dX11_another_9 : decode cX11_another 9 = .ok (.getfield 42, 3) := dk_180 0 42 (dk_at dksX11_another_0 9 rfl rfl)
theorem dX11_another_12 : decode cX11_another 12 = .ok (.aload_n 0, 1) := dk_42 (dk_at dksX11_another_0 12 rfl rfl)
theorem dX11_another_13 : decode cX11_another 13 = .ok (.getfield 46, 3) := dk_180 0 46 (dk_at dksX11_another_0 13 rfl rfl)
theorem dX11_another_16 : decode cX11_another 16 = .ok (.invokespecial 49, 3) := dk_183 0 49 (dk_at dksX11_another_0 16 rfl rfl)
theorem dX11_another_19 : decode cX11_another 19 = .ok (.areturn, 1) := dk_176 (dk_at dksX11_another_0 19 rfl rfl)
theorem q109 : (Jvm.Cond.initialized "NineDemands$Moved") ∈ lw_all := lw_g (lw_at lw_m1 19 rfl) rfl
theorem q522 : (Jvm.Cond.instantiable "NineDemands$Moved" (5 : Nat)) ∈ lw_all := lw_g (lw_at lw_m2 192 rfl) rfl
theorem q524 : (Jvm.Cond.instanceMethod ({ cls := "NineDemands$Moved", name := "<init>", desc := "(LNineDemands$Trace;II)V" } : Jvm.MethodName)) ∈ lw_all := lw_g (lw_at lw_m2 194 rfl) rfl
theorem q525 : (Jvm.Cond.code ({ cls := "NineDemands$Moved", name := "<init>", desc := "(LNineDemands$Trace;II)V" } : Jvm.MethodName) prog_14_method_1_code (4 : Nat) (Option.none : Option Jvm.ClassFile.FieldType)) ∈ lw_all := lw_g (lw_at lw_m2 195 rfl) rfl
theorem q526 : (Jvm.Cond.methodLink "NineDemands$Moved" (3 : Nat) ({ cls := "NineDemands$Demand", name := "<init>", desc := "(LNineDemands$Trace;II)V" } : Jvm.MethodName)) ∈ lw_all := lw_g (lw_at lw_m2 196 rfl) rfl
theorem q539 : (Jvm.Cond.fieldLink "NineDemands$Moved" (38 : Nat) "NineDemands$Moved" "trace" "LNineDemands$Trace;") ∈ lw_all := lw_g (lw_at lw_m2 209 rfl) rfl
theorem q540 : (Jvm.Cond.sameField "NineDemands$Moved" "NineDemands$Demand" "trace" "LNineDemands$Trace;") ∈ lw_all := lw_g (lw_at lw_m2 210 rfl) rfl
theorem q551 : (Jvm.Cond.fieldLink "NineDemands$Moved" (42 : Nat) "NineDemands$Moved" "number" "I") ∈ lw_all := lw_g (lw_at lw_m2 221 rfl) rfl
theorem q552 : (Jvm.Cond.sameField "NineDemands$Moved" "NineDemands$Demand" "number" "I") ∈ lw_all := lw_g (lw_at lw_m2 222 rfl) rfl
theorem q563 : (Jvm.Cond.fieldLink "NineDemands$Moved" (46 : Nat) "NineDemands$Moved" "price" "I") ∈ lw_all := lw_g (lw_at lw_m2 233 rfl) rfl
theorem q564 : (Jvm.Cond.sameField "NineDemands$Moved" "NineDemands$Demand" "price" "I") ∈ lw_all := lw_g (lw_at lw_m2 234 rfl) rfl
theorem q577 : (Jvm.Cond.fieldLink "NineDemands$Moved" (54 : Nat) "NineDemands$Moved" "cases" "LNineDemands$Cases;") ∈ lw_all := lw_g (lw_at lw_m3 7 rfl) rfl
theorem q578 : (Jvm.Cond.sameField "NineDemands$Moved" "NineDemands$Demand" "cases" "LNineDemands$Cases;") ∈ lw_all := lw_g (lw_at lw_m3 8 rfl) rfl
theorem q581 : (Jvm.Cond.laysFinal "NineDemands$Moved" "NineDemands$Demand" "trace" "LNineDemands$Trace;") ∈ lw_all := lw_g (lw_at lw_m3 11 rfl) rfl
theorem q583 : (Jvm.Cond.laysFinal "NineDemands$Moved" "NineDemands$Demand" "number" "I") ∈ lw_all := lw_g (lw_at lw_m3 13 rfl) rfl
theorem q585 : (Jvm.Cond.lays "NineDemands$Moved" "NineDemands$Demand" "price" "I") ∈ lw_all := lw_g (lw_at lw_m3 15 rfl) rfl
theorem q587 : (Jvm.Cond.lays "NineDemands$Moved" "NineDemands$Demand" "text" "LNineDemands$Term;") ∈ lw_all := lw_g (lw_at lw_m3 17 rfl) rfl
theorem q589 : (Jvm.Cond.lays "NineDemands$Moved" "NineDemands$Demand" "cases" "LNineDemands$Cases;") ∈ lw_all := lw_g (lw_at lw_m3 19 rfl) rfl
theorem q591 : (Jvm.Cond.superclass "NineDemands$Moved" "NineDemands$Demand") ∈ lw_all := lw_g (lw_at lw_m3 21 rfl) rfl
theorem q661 : (Jvm.Cond.selects "NineDemands$Moved" ({ cls := "NineDemands$Demand", name := "hasText", desc := "()Z" } : Jvm.MethodName) ({ cls := "NineDemands$Demand", name := "hasText", desc := "()Z" } : Jvm.MethodName)) ∈ lw_all := lw_g (lw_at lw_m3 91 rfl) rfl
theorem q669 : (Jvm.Cond.sameMethod "NineDemands$Moved" "NineDemands$Demand" "hasText" "()Z") ∈ lw_all := lw_g (lw_at lw_m3 99 rfl) rfl
theorem q679 : (Jvm.Cond.instanceMethod ({ cls := "NineDemands$Moved", name := "names", desc := "()Ljava/lang/String;" } : Jvm.MethodName)) ∈ lw_all := lw_g (lw_at lw_m3 109 rfl) rfl
theorem q680 : (Jvm.Cond.code ({ cls := "NineDemands$Moved", name := "names", desc := "()Ljava/lang/String;" } : Jvm.MethodName) prog_14_method_5_code (1 : Nat) (Option.some (Jvm.ClassFile.FieldType.object "java/lang/String"))) ∈ lw_all := lw_g (lw_at lw_m3 110 rfl) rfl
theorem q681 : (Jvm.Cond.classLink "NineDemands$Moved" (13 : Nat) "java/lang/StringBuilder") ∈ lw_all := lw_g (lw_at lw_m3 111 rfl) rfl
theorem q683 : (Jvm.Cond.methodLink "NineDemands$Moved" (15 : Nat) ({ cls := "java/lang/StringBuilder", name := "<init>", desc := "()V" } : Jvm.MethodName)) ∈ lw_all := lw_g (lw_at lw_m3 113 rfl) rfl
theorem q712 : (Jvm.Cond.methodLink "NineDemands$Moved" (31 : Nat) ({ cls := "NineDemands$Moved", name := "paired", desc := "()Ljava/lang/String;" } : Jvm.MethodName)) ∈ lw_all := lw_g (lw_at lw_m3 142 rfl) rfl
theorem q713 : (Jvm.Cond.instanceMethod ({ cls := "NineDemands$Moved", name := "paired", desc := "()Ljava/lang/String;" } : Jvm.MethodName)) ∈ lw_all := lw_g (lw_at lw_m3 143 rfl) rfl
theorem q714 : (Jvm.Cond.selects "NineDemands$Moved" ({ cls := "NineDemands$Moved", name := "paired", desc := "()Ljava/lang/String;" } : Jvm.MethodName) ({ cls := "NineDemands$Moved", name := "paired", desc := "()Ljava/lang/String;" } : Jvm.MethodName)) ∈ lw_all := lw_g (lw_at lw_m3 144 rfl) rfl
theorem q715 : (Jvm.Cond.sameMethod "NineDemands$Moved" "NineDemands$Moved" "paired" "()Ljava/lang/String;") ∈ lw_all := lw_g (lw_at lw_m3 145 rfl) rfl
theorem q719 : (Jvm.Cond.code ({ cls := "NineDemands$Moved", name := "paired", desc := "()Ljava/lang/String;" } : Jvm.MethodName) prog_14_method_4_code (1 : Nat) (Option.some (Jvm.ClassFile.FieldType.object "java/lang/String"))) ∈ lw_all := lw_g (lw_at lw_m3 149 rfl) rfl
theorem q720 : (Jvm.Cond.methodLink "NineDemands$Moved" (18 : Nat) ({ cls := "NineDemands$Demand", name := "names", desc := "()Ljava/lang/String;" } : Jvm.MethodName)) ∈ lw_all := lw_g (lw_at lw_m3 150 rfl) rfl
theorem q721 : (Jvm.Cond.methodLink "NineDemands$Moved" (22 : Nat) ({ cls := "java/lang/StringBuilder", name := "append", desc := "(Ljava/lang/String;)Ljava/lang/StringBuilder;" } : Jvm.MethodName)) ∈ lw_all := lw_g (lw_at lw_m3 151 rfl) rfl
theorem q839 : (Jvm.Cond.stringRef "NineDemands$Moved" (26 : Nat) "dw") ∈ lw_tbl := lw_at lw_m4 29 rfl
theorem q840 : (Jvm.Cond.methodLink "NineDemands$Moved" (28 : Nat) ({ cls := "java/lang/StringBuilder", name := "toString", desc := "()Ljava/lang/String;" } : Jvm.MethodName)) ∈ lw_all := lw_g (lw_at lw_m4 30 rfl) rfl
theorem q900 : (Jvm.Cond.stringRef "NineDemands$Moved" (36 : Nat) "i") ∈ lw_tbl := lw_at lw_m4 90 rfl
theorem q906 : (Jvm.Cond.declares ({ cls := "NineDemands$Moved", name := "paired", desc := "()Ljava/lang/String;" } : Jvm.MethodName)) ∈ lw_tbl := lw_at lw_m4 96 rfl
theorem q908 : (Jvm.Cond.selects "NineDemands$Moved" ({ cls := "NineDemands$Demand", name := "names", desc := "()Ljava/lang/String;" } : Jvm.MethodName) ({ cls := "NineDemands$Moved", name := "names", desc := "()Ljava/lang/String;" } : Jvm.MethodName)) ∈ lw_all := lw_g (lw_at lw_m4 98 rfl) rfl
theorem q1109 : (Jvm.Cond.selects "NineDemands$Moved" ({ cls := "NineDemands$Demand", name := "lay", desc := "(LNineDemands$Facts;)V" } : Jvm.MethodName) ({ cls := "NineDemands$Demand", name := "lay", desc := "(LNineDemands$Facts;)V" } : Jvm.MethodName)) ∈ lw_all := lw_g (lw_at lw_m5 59 rfl) rfl
theorem q1123 : (Jvm.Cond.fieldLinkNest "NineDemands$Moved" (82 : Nat) "NineDemands$Cases" "first" "[I" "NineDemands") ∈ lw_tbl := lw_at lw_m5 73 rfl
theorem q1133 : (Jvm.Cond.fieldLinkNest "NineDemands$Moved" (78 : Nat) "NineDemands$Cases" "who" "[I" "NineDemands") ∈ lw_tbl := lw_at lw_m5 83 rfl
theorem q1176 : (Jvm.Cond.selects "NineDemands$Moved" ({ cls := "NineDemands$Demand", name := "casesOf", desc := "(I)V" } : Jvm.MethodName) ({ cls := "NineDemands$Moved", name := "casesOf", desc := "(I)V" } : Jvm.MethodName)) ∈ lw_all := lw_g (lw_at lw_m5 126 rfl) rfl
theorem q1177 : (Jvm.Cond.instanceMethod ({ cls := "NineDemands$Moved", name := "casesOf", desc := "(I)V" } : Jvm.MethodName)) ∈ lw_all := lw_g (lw_at lw_m5 127 rfl) rfl
theorem q1178 : (Jvm.Cond.code ({ cls := "NineDemands$Moved", name := "casesOf", desc := "(I)V" } : Jvm.MethodName) prog_14_method_7_code (3 : Nat) (Option.none : Option Jvm.ClassFile.FieldType)) ∈ lw_all := lw_g (lw_at lw_m5 128 rfl) rfl
theorem q1179 : (Jvm.Cond.methodLinkNest "NineDemands$Moved" (50 : Nat) ({ cls := "NineDemands", name := "peopleOf", desc := "(I)I" } : Jvm.MethodName) "NineDemands") ∈ lw_tbl := lw_at lw_m5 129 rfl
theorem q1180 : (Jvm.Cond.methodLinkNest "NineDemands$Moved" (58 : Nat) ({ cls := "NineDemands", name := "changed", desc := "(II)I" } : Jvm.MethodName) "NineDemands") ∈ lw_tbl := lw_at lw_m5 130 rfl
theorem q1181 : (Jvm.Cond.methodLink "NineDemands$Moved" (62 : Nat) ({ cls := "NineDemands$Cases", name := "add", desc := "(III)V" } : Jvm.MethodName)) ∈ lw_all := lw_g (lw_at lw_m5 131 rfl) rfl
theorem q1199 : (Jvm.Cond.selects "NineDemands$Moved" ({ cls := "NineDemands$Demand", name := "isSo", desc := "(LNineDemands$Facts;III)Z" } : Jvm.MethodName) ({ cls := "NineDemands$Demand", name := "isSo", desc := "(LNineDemands$Facts;III)Z" } : Jvm.MethodName)) ∈ lw_all := lw_g (lw_at lw_m5 149 rfl) rfl
theorem q1215 : (Jvm.Cond.instanceMethod ({ cls := "NineDemands$Moved", name := "tell", desc := "(LNineDemands$Facts;III)V" } : Jvm.MethodName)) ∈ lw_all := lw_g (lw_at lw_m5 165 rfl) rfl
theorem q1216 : (Jvm.Cond.code ({ cls := "NineDemands$Moved", name := "tell", desc := "(LNineDemands$Facts;III)V" } : Jvm.MethodName) prog_14_method_8_code (5 : Nat) (Option.none : Option Jvm.ClassFile.FieldType)) ∈ lw_all := lw_g (lw_at lw_m5 166 rfl) rfl
theorem q1217 : (Jvm.Cond.methodLink "NineDemands$Moved" (68 : Nat) ({ cls := "NineDemands$Demand", name := "tell", desc := "(LNineDemands$Facts;III)V" } : Jvm.MethodName)) ∈ lw_all := lw_g (lw_at lw_m5 167 rfl) rfl
theorem q1218 : (Jvm.Cond.methodLink "NineDemands$Moved" (72 : Nat) ({ cls := "NineDemands$Facts", name := "with", desc := "(CI)LNineDemands$Facts;" } : Jvm.MethodName)) ∈ lw_all := lw_g (lw_at lw_m5 168 rfl) rfl
theorem q1222 : (Jvm.Cond.methodLinkNest "NineDemands$Moved" (85 : Nat) ({ cls := "NineDemands", name := "wants", desc := "(II)I" } : Jvm.MethodName) "NineDemands") ∈ lw_tbl := lw_at lw_m5 172 rfl
theorem q1229 : (Jvm.Cond.selects "NineDemands$Moved" ({ cls := "NineDemands$Demand", name := "tell", desc := "(LNineDemands$Facts;III)V" } : Jvm.MethodName) ({ cls := "NineDemands$Moved", name := "tell", desc := "(LNineDemands$Facts;III)V" } : Jvm.MethodName)) ∈ lw_all := lw_g (lw_at lw_m5 179 rfl) rfl
theorem q1294 : (Jvm.Cond.selects "NineDemands$Moved" ({ cls := "java/lang/Object", name := "getClass", desc := "()Ljava/lang/Class;" } : Jvm.MethodName) ({ cls := "java/lang/Object", name := "getClass", desc := "()Ljava/lang/Class;" } : Jvm.MethodName)) ∈ lw_all := lw_g (lw_at lw_m6 4 rfl) rfl
theorem q1355 : (Jvm.Cond.instanceMethod ({ cls := "NineDemands$Moved", name := "isOf", desc := "(I)Z" } : Jvm.MethodName)) ∈ lw_all := lw_g (lw_at lw_m6 65 rfl) rfl
theorem q1356 : (Jvm.Cond.code ({ cls := "NineDemands$Moved", name := "isOf", desc := "(I)Z" } : Jvm.MethodName) prog_14_method_3_code (2 : Nat) (Option.some Jvm.ClassFile.FieldType.boolean)) ∈ lw_all := lw_g (lw_at lw_m6 66 rfl) rfl
theorem q1357 : (Jvm.Cond.methodLink "NineDemands$Moved" (9 : Nat) ({ cls := "NineDemands$Demand", name := "isOf", desc := "(I)Z" } : Jvm.MethodName)) ∈ lw_all := lw_g (lw_at lw_m6 67 rfl) rfl
theorem q1362 : (Jvm.Cond.selects "NineDemands$Moved" ({ cls := "NineDemands$Demand", name := "isOf", desc := "(I)Z" } : Jvm.MethodName) ({ cls := "NineDemands$Moved", name := "isOf", desc := "(I)Z" } : Jvm.MethodName)) ∈ lw_all := lw_g (lw_at lw_m6 72 rfl) rfl
theorem q1394 : (Jvm.Cond.selects "NineDemands$Moved" ({ cls := "NineDemands$Demand", name := "goes", desc := "(III)Z" } : Jvm.MethodName) ({ cls := "NineDemands$Demand", name := "goes", desc := "(III)Z" } : Jvm.MethodName)) ∈ lw_all := lw_g (lw_at lw_m6 104 rfl) rfl
theorem q1673 : (Jvm.Cond.sameMethod "NineDemands$Moved" "NineDemands$Demand" "bids" "(I)I") ∈ lw_all := lw_g (lw_at lw_m7 143 rfl) rfl
theorem q1685 : (Jvm.Cond.castable "NineDemands$Moved" "NineDemands$Bids") ∈ lw_tbl := lw_at lw_m7 155 rfl
theorem q1686 : (Jvm.Cond.selects "NineDemands$Moved" ({ cls := "NineDemands$Bids", name := "bids", desc := "(I)I" } : Jvm.MethodName) ({ cls := "NineDemands$Demand", name := "bids", desc := "(I)I" } : Jvm.MethodName)) ∈ lw_all := lw_g (lw_at lw_m7 156 rfl) rfl
theorem q1687 : (Jvm.Cond.unhidden "NineDemands$Moved" "bids" "(I)I") ∈ lw_tbl := lw_at lw_m7 157 rfl
theorem q1706 : (Jvm.Cond.instanceMethod ({ cls := "NineDemands$Moved", name := "bars", desc := "(I)I" } : Jvm.MethodName)) ∈ lw_all := lw_g (lw_at lw_m7 176 rfl) rfl
theorem q1707 : (Jvm.Cond.publicMethod ({ cls := "NineDemands$Moved", name := "bars", desc := "(I)I" } : Jvm.MethodName)) ∈ lw_tbl := lw_at lw_m7 177 rfl
theorem q1708 : (Jvm.Cond.code ({ cls := "NineDemands$Moved", name := "bars", desc := "(I)I" } : Jvm.MethodName) prog_14_method_9_code (3 : Nat) (Option.some Jvm.ClassFile.FieldType.int)) ∈ lw_all := lw_g (lw_at lw_m7 178 rfl) rfl
theorem q1709 : (Jvm.Cond.methodLink "NineDemands$Moved" (88 : Nat) ({ cls := "NineDemands$Trace", name := "begins", desc := "(I)V" } : Jvm.MethodName)) ∈ lw_all := lw_g (lw_at lw_m7 179 rfl) rfl
theorem q1710 : (Jvm.Cond.methodLink "NineDemands$Moved" (94 : Nat) ({ cls := "NineDemands$Demand", name := "bars", desc := "(I)I" } : Jvm.MethodName)) ∈ lw_all := lw_g (lw_at lw_m7 180 rfl) rfl
theorem q1714 : (Jvm.Cond.methodLink "NineDemands$Moved" (97 : Nat) ({ cls := "NineDemands$Moved", name := "yields", desc := "(I)I" } : Jvm.MethodName)) ∈ lw_all := lw_g (lw_at lw_m7 184 rfl) rfl
theorem q1715 : (Jvm.Cond.sameMethod "NineDemands$Moved" "NineDemands$Demand" "yields" "(I)I") ∈ lw_all := lw_g (lw_at lw_m7 185 rfl) rfl
theorem q1719 : (Jvm.Cond.selects "NineDemands$Moved" ({ cls := "NineDemands$Moved", name := "yields", desc := "(I)I" } : Jvm.MethodName) ({ cls := "NineDemands$Demand", name := "yields", desc := "(I)I" } : Jvm.MethodName)) ∈ lw_all := lw_g (lw_at lw_m7 189 rfl) rfl
theorem q1739 : (Jvm.Cond.castable "NineDemands$Moved" "NineDemands$Bars") ∈ lw_tbl := lw_at lw_m7 209 rfl
theorem q1740 : (Jvm.Cond.selects "NineDemands$Moved" ({ cls := "NineDemands$Bars", name := "bars", desc := "(I)I" } : Jvm.MethodName) ({ cls := "NineDemands$Moved", name := "bars", desc := "(I)I" } : Jvm.MethodName)) ∈ lw_all := lw_g (lw_at lw_m7 210 rfl) rfl
theorem q1741 : (Jvm.Cond.unhidden "NineDemands$Moved" "bars" "(I)I") ∈ lw_tbl := lw_at lw_m7 211 rfl
theorem q1762 : (Jvm.Cond.castable "NineDemands$Moved" "NineDemands$Yields") ∈ lw_tbl := lw_at lw_m7 232 rfl
theorem q1763 : (Jvm.Cond.selects "NineDemands$Moved" ({ cls := "NineDemands$Yields", name := "yields", desc := "(I)I" } : Jvm.MethodName) ({ cls := "NineDemands$Demand", name := "yields", desc := "(I)I" } : Jvm.MethodName)) ∈ lw_all := lw_g (lw_at lw_m7 233 rfl) rfl
theorem q1764 : (Jvm.Cond.unhidden "NineDemands$Moved" "yields" "(I)I") ∈ lw_tbl := lw_at lw_m7 234 rfl
theorem q1788 : (Jvm.Cond.sameMethod "NineDemands$Moved" "NineDemands$Demand" "stands" "(I)I") ∈ lw_all := lw_g (lw_at lw_m8 18 rfl) rfl
theorem q1808 : (Jvm.Cond.castable "NineDemands$Moved" "NineDemands$Stands") ∈ lw_tbl := lw_at lw_m8 38 rfl
theorem q1809 : (Jvm.Cond.selects "NineDemands$Moved" ({ cls := "NineDemands$Stands", name := "stands", desc := "(I)I" } : Jvm.MethodName) ({ cls := "NineDemands$Demand", name := "stands", desc := "(I)I" } : Jvm.MethodName)) ∈ lw_all := lw_g (lw_at lw_m8 39 rfl) rfl
theorem q1810 : (Jvm.Cond.unhidden "NineDemands$Moved" "stands" "(I)I") ∈ lw_tbl := lw_at lw_m8 40 rfl
theorem q1920 : (Jvm.Cond.selects "NineDemands$Moved" ({ cls := "NineDemands$Demand", name := "again", desc := "()LNineDemands$Demand;" } : Jvm.MethodName) ({ cls := "NineDemands$Demand", name := "again", desc := "()LNineDemands$Demand;" } : Jvm.MethodName)) ∈ lw_all := lw_g (lw_at lw_m8 150 rfl) rfl
theorem q1938 : (Jvm.Cond.selects "NineDemands$Moved" ({ cls := "NineDemands$Demand", name := "another", desc := "()LNineDemands$Demand;" } : Jvm.MethodName) ({ cls := "NineDemands$Moved", name := "another", desc := "()LNineDemands$Demand;" } : Jvm.MethodName)) ∈ lw_all := lw_g (lw_at lw_m8 168 rfl) rfl
theorem q1939 : (Jvm.Cond.instanceMethod ({ cls := "NineDemands$Moved", name := "another", desc := "()LNineDemands$Demand;" } : Jvm.MethodName)) ∈ lw_all := lw_g (lw_at lw_m8 169 rfl) rfl
theorem q1940 : (Jvm.Cond.code ({ cls := "NineDemands$Moved", name := "another", desc := "()LNineDemands$Demand;" } : Jvm.MethodName) prog_14_method_6_code (1 : Nat) (Option.some (Jvm.ClassFile.FieldType.object "NineDemands$Demand"))) ∈ lw_all := lw_g (lw_at lw_m8 170 rfl) rfl
theorem q1941 : (Jvm.Cond.classLink "NineDemands$Moved" (32 : Nat) "NineDemands$Moved") ∈ lw_all := lw_g (lw_at lw_m8 171 rfl) rfl
theorem q1942 : (Jvm.Cond.methodLink "NineDemands$Moved" (49 : Nat) ({ cls := "NineDemands$Moved", name := "<init>", desc := "(LNineDemands$Trace;II)V" } : Jvm.MethodName)) ∈ lw_all := lw_g (lw_at lw_m8 172 rfl) rfl
theorem q2489 : (Jvm.Cond.sameMethod "NineDemands$Moved" "NineDemands$Moved" "tell" "(LNineDemands$Facts;III)V") ∈ lw_all := lw_g (lw_at lw_m10 239 rfl) rfl
theorem q2490 : (Jvm.Cond.sameMethod "NineDemands$Moved" "NineDemands$Moved" "isOf" "(I)Z") ∈ lw_all := lw_g (lw_at lw_m11 0 rfl) rfl
theorem q2496 : (Jvm.Cond.selects "NineDemands$Moved" ({ cls := "NineDemands$Demand", name := "bids", desc := "(I)I" } : Jvm.MethodName) ({ cls := "NineDemands$Demand", name := "bids", desc := "(I)I" } : Jvm.MethodName)) ∈ lw_all := lw_g (lw_at lw_m11 6 rfl) rfl
theorem q2499 : (Jvm.Cond.sameMethod "NineDemands$Moved" "NineDemands$Moved" "bars" "(I)I") ∈ lw_all := lw_g (lw_at lw_m11 9 rfl) rfl
theorem q2505 : (Jvm.Cond.selects "NineDemands$Moved" ({ cls := "NineDemands$Demand", name := "bars", desc := "(I)I" } : Jvm.MethodName) ({ cls := "NineDemands$Moved", name := "bars", desc := "(I)I" } : Jvm.MethodName)) ∈ lw_all := lw_g (lw_at lw_m11 15 rfl) rfl
theorem q2511 : (Jvm.Cond.selects "NineDemands$Moved" ({ cls := "NineDemands$Demand", name := "yields", desc := "(I)I" } : Jvm.MethodName) ({ cls := "NineDemands$Demand", name := "yields", desc := "(I)I" } : Jvm.MethodName)) ∈ lw_all := lw_g (lw_at lw_m11 21 rfl) rfl
theorem q2519 : (Jvm.Cond.castable "NineDemands$Moved" "NineDemands$Demand") ∈ lw_tbl := lw_at lw_m11 29 rfl
theorem q2533 : (Jvm.Cond.castable "NineDemands$Moved" "java/lang/Object") ∈ lw_tbl := lw_at lw_m11 43 rfl
theorem in_X11 : ∀ w ∈ wsX110, w ∈ lw_all := lw_in wsX110 [581, 583, 585, 587, 589] (by decide +kernel) (by decide +kernel)
/-! NineDemands$Alike -/
set_option maxRecDepth 100000
def RX12 : String := "NineDemands$Alike"
def TX12 : u_T := fun k => match k with
  | 0 => ("NineDemands$Demand", "trace", "LNineDemands$Trace;", true)
  | 1 => ("NineDemands$Demand", "number", "I", true)
  | 2 => ("NineDemands$Demand", "price", "I", false)
  | 3 => ("NineDemands$Demand", "text", "LNineDemands$Term;", false)
  | _ => ("NineDemands$Demand", "cases", "LNineDemands$Cases;", false)
def tyX12 : Nat → FieldType := fun k => match k with
  | 0 => .object "NineDemands$Trace"
  | 1 => .int
  | 2 => .int
  | 3 => .object "NineDemands$Term"
  | _ => .object "NineDemands$Cases"
abbrev wsX120 : List Cond := u_ws RX12 TX12 5
theorem nmX12 : ∀ a, a < 5 → ∀ b, b < 5 → a ≠ b → (TX12 a).2.1 ≠ (TX12 b).2.1 := by decide +kernel
theorem tyX12_ok : ∀ k, k < 5 → parseFieldDescriptor (TX12 k).2.2.1 = some (tyX12 k) := by decide +kernel
abbrev cX12_init : ByteArray := prog_2_method_1_code
def yX12_init : MethodName := ⟨RX12, "<init>", "(LNineDemands$Trace;II)V"⟩
def dkwX12_init_0 : List UInt8 := [42, 43, 28, 29, 183, 0, 3, 177]
abbrev dktX12_init_0 : List UInt8 := dkwX12_init_0 ++ []
theorem dksX12_init_0 : cX12_init.data.toList.drop 0 = dktX12_init_0 := by decide +kernel
theorem dX12_init_0 : decode cX12_init 0 = .ok (.aload_n 0, 1) := dk_42 (dk_at dksX12_init_0 0 rfl rfl)
theorem dX12_init_1 : decode cX12_init 1 = .ok (.aload_n 1, 1) := dk_43 (dk_at dksX12_init_0 1 rfl rfl)
theorem dX12_init_2 : decode cX12_init 2 = .ok (.iload_n 2, 1) := dk_28 (dk_at dksX12_init_0 2 rfl rfl)
theorem dX12_init_3 : decode cX12_init 3 = .ok (.iload_n 3, 1) := dk_29 (dk_at dksX12_init_0 3 rfl rfl)
theorem dX12_init_4 : decode cX12_init 4 = .ok (.invokespecial 3, 3) := dk_183 0 3 (dk_at dksX12_init_0 4 rfl rfl)
theorem dX12_init_7 : decode cX12_init 7 = .ok (.return_, 1) := dk_177 (dk_at dksX12_init_0 7 rfl rfl)
abbrev cX12_hasText : ByteArray := prog_2_method_4_code
def yX12_hasText : MethodName := ⟨RX12, "hasText", "()Z"⟩
theorem dX12_hasText_0 : decode cX12_hasText 0 = .ok (.iconst 0, 1) := by decide +kernel
theorem dX12_hasText_1 : decode cX12_hasText 1 = .ok (.ireturn, 1) := by decide +kernel
abbrev cX12_casesOf : ByteArray := prog_2_method_7_code
def yX12_casesOf : MethodName := ⟨RX12, "casesOf", "(I)V"⟩
def dkwX12_casesOf_0 : List UInt8 := [42, 27, 3, 4, 182, 0, 52, 42, 27, 3, 5, 182, 0, 52, 42, 27, 4, 5, 182, 0, 52, 177]
abbrev dktX12_casesOf_0 : List UInt8 := dkwX12_casesOf_0 ++ []
theorem dksX12_casesOf_0 : cX12_casesOf.data.toList.drop 0 = dktX12_casesOf_0 := by decide +kernel
theorem dX12_casesOf_0 : decode cX12_casesOf 0 = .ok (.aload_n 0, 1) := dk_42 (dk_at dksX12_casesOf_0 0 rfl rfl)
theorem dX12_casesOf_1 : decode cX12_casesOf 1 = .ok (.iload_n 1, 1) := dk_27 (dk_at dksX12_casesOf_0 1 rfl rfl)
theorem dX12_casesOf_2 : decode cX12_casesOf 2 = .ok (.iconst 0, 1) := dk_3 (dk_at dksX12_casesOf_0 2 rfl rfl)
theorem dX12_casesOf_3 : decode cX12_casesOf 3 = .ok (.iconst 1, 1) := dk_4 (dk_at dksX12_casesOf_0 3 rfl rfl)
theorem dX12_casesOf_4 : decode cX12_casesOf 4 = .ok (.invokevirtual 52, 3) := dk_182 0 52 (dk_at dksX12_casesOf_0 4 rfl rfl)
theorem dX12_casesOf_7 : decode cX12_casesOf 7 = .ok (.aload_n 0, 1) := dk_42 (dk_at dksX12_casesOf_0 7 rfl rfl)
theorem dX12_casesOf_8 : decode cX12_casesOf 8 = .ok (.iload_n 1, 1) := dk_27 (dk_at dksX12_casesOf_0 8 rfl rfl)
theorem dX12_casesOf_9 : decode cX12_casesOf 9 = .ok (.iconst 0, 1) := dk_3 (dk_at dksX12_casesOf_0 9 rfl rfl)
theorem dX12_casesOf_10 : decode cX12_casesOf 10 = .ok (.iconst 2, 1) := dk_5 (dk_at dksX12_casesOf_0 10 rfl rfl)
theorem dX12_casesOf_11 : decode cX12_casesOf 11 = .ok (.invokevirtual 52, 3) := dk_182 0 52 (dk_at dksX12_casesOf_0 11 rfl rfl)
theorem dX12_casesOf_14 : decode cX12_casesOf 14 = .ok (.aload_n 0, 1) := dk_42 (dk_at dksX12_casesOf_0 14 rfl rfl)
theorem dX12_casesOf_15 : decode cX12_casesOf 15 = .ok (.iload_n 1, 1) := dk_27 (dk_at dksX12_casesOf_0 15 rfl rfl)
theorem dX12_casesOf_16 : decode cX12_casesOf 16 = .ok (.iconst 1, 1) := dk_4 (dk_at dksX12_casesOf_0 16 rfl rfl)
theorem dX12_casesOf_17 : decode cX12_casesOf 17 = .ok (.iconst 2, 1) := dk_5 (dk_at dksX12_casesOf_0 17 rfl rfl)
theorem dX12_casesOf_18 : decode cX12_casesOf 18 = .ok (.invokevirtual 52, 3) := dk_182 0 52 (dk_at dksX12_casesOf_0 18 rfl rfl)
theorem dX12_casesOf_21 : decode cX12_casesOf 21 = .ok (.return_, 1) := dk_177 (dk_at dksX12_casesOf_0 21 rfl rfl)
abbrev cX12_pair : ByteArray := prog_2_method_6_code
def yX12_pair : MethodName := ⟨RX12, "pair", "(III)V"⟩
def dkwX12_pair_1 : List UInt8 := [180, 0, 39, 27, 27, 4, 28, 120, 4, 29, 120, 128, 184, 0, 43, 2, 182, 0, 46, 177]
abbrev dktX12_pair_1 : List UInt8 := dkwX12_pair_1 ++ []
def dkwX12_pair_0 : List UInt8 := [29, 27, 184, 0, 31, 162, 0, 36, 27, 28, 184, 0, 35, 27, 29, 184, 0, 35, 159, 0, 23, 42]
abbrev dktX12_pair_0 : List UInt8 := dkwX12_pair_0 ++ dktX12_pair_1
theorem dksX12_pair_0 : cX12_pair.data.toList.drop 0 = dktX12_pair_0 := by decide +kernel
theorem dksX12_pair_1 : cX12_pair.data.toList.drop 22 = dktX12_pair_1 := dk_seg dksX12_pair_0 22 rfl rfl
theorem dX12_pair_0 : decode cX12_pair 0 = .ok (.iload_n 3, 1) := dk_29 (dk_at dksX12_pair_0 0 rfl rfl)
theorem dX12_pair_1 : decode cX12_pair 1 = .ok (.iload_n 1, 1) := dk_27 (dk_at dksX12_pair_0 1 rfl rfl)
theorem dX12_pair_2 : decode cX12_pair 2 = .ok (.invokestatic 31, 3) := dk_184 0 31 (dk_at dksX12_pair_0 2 rfl rfl)
theorem dX12_pair_5 : decode cX12_pair 5 = .ok (.if_icmp .ge 36, 3) := dk_162 0 36 (dk_at dksX12_pair_0 5 rfl rfl)
theorem dX12_pair_8 : decode cX12_pair 8 = .ok (.iload_n 1, 1) := dk_27 (dk_at dksX12_pair_0 8 rfl rfl)
theorem dX12_pair_9 : decode cX12_pair 9 = .ok (.iload_n 2, 1) := dk_28 (dk_at dksX12_pair_0 9 rfl rfl)
theorem dX12_pair_10 : decode cX12_pair 10 = .ok (.invokestatic 35, 3) := dk_184 0 35 (dk_at dksX12_pair_0 10 rfl rfl)
theorem dX12_pair_13 : decode cX12_pair 13 = .ok (.iload_n 1, 1) := dk_27 (dk_at dksX12_pair_0 13 rfl rfl)
theorem dX12_pair_14 : decode cX12_pair 14 = .ok (.iload_n 3, 1) := dk_29 (dk_at dksX12_pair_0 14 rfl rfl)
theorem dX12_pair_15 : decode cX12_pair 15 = .ok (.invokestatic 35, 3) := dk_184 0 35 (dk_at dksX12_pair_0 15 rfl rfl)
theorem dX12_pair_18 : decode cX12_pair 18 = .ok (.if_icmp .eq 23, 3) := dk_159 0 23 (dk_at dksX12_pair_0 18 rfl rfl)
theorem dX12_pair_21 : decode cX12_pair 21 = .ok (.aload_n 0, 1) := dk_42 (dk_at dksX12_pair_0 21 rfl rfl)
theorem dX12_pair_22 : decode cX12_pair 22 = .ok (.getfield 39, 3) := dk_180 0 39 (dk_at dksX12_pair_1 0 rfl rfl)
theorem dX12_pair_25 : decode cX12_pair 25 = .ok (.iload_n 1, 1) := dk_27 (dk_at dksX12_pair_1 3 rfl rfl)
theorem dX12_pair_26 : decode cX12_pair 26 = .ok (.iload_n 1, 1) := dk_27 (dk_at dksX12_pair_1 4 rfl rfl)
theorem dX12_pair_27 : decode cX12_pair 27 = .ok (.iconst 1, 1) := dk_4 (dk_at dksX12_pair_1 5 rfl rfl)
theorem dX12_pair_28 : decode cX12_pair 28 = .ok (.iload_n 2, 1) := dk_28 (dk_at dksX12_pair_1 6 rfl rfl)
theorem dX12_pair_29 : decode cX12_pair 29 = .ok (.ishl, 1) := dk_120 (dk_at dksX12_pair_1 7 rfl rfl)
theorem dX12_pair_30 : decode cX12_pair 30 = .ok (.iconst 1, 1) := dk_4 (dk_at dksX12_pair_1 8 rfl rfl)
theorem dX12_pair_31 : decode cX12_pair 31 = .ok (.iload_n 3, 1) := dk_29 (dk_at dksX12_pair_1 9 rfl rfl)
theorem dX12_pair_32 : decode cX12_pair 32 = .ok (.ishl, 1) := dk_120 (dk_at dksX12_pair_1 10 rfl rfl)
theorem dX12_pair_33 : decode cX12_pair 33 = .ok (.ior, 1) := dk_128 (dk_at dksX12_pair_1 11 rfl rfl)
theorem dX12_pair_34 : decode cX12_pair 34 = .ok (.invokestatic 43, 3) := dk_184 0 43 (dk_at dksX12_pair_1 12 rfl rfl)
theorem dX12_pair_37 : decode cX12_pair 37 = .ok (.iconst (-1), 1) := dk_2 (dk_at dksX12_pair_1 15 rfl rfl)
theorem dX12_pair_38 : decode cX12_pair 38 = .ok (.invokevirtual 46, 3) := dk_182 0 46 (dk_at dksX12_pair_1 16 rfl rfl)
theorem dX12_pair_41 : decode cX12_pair 41 = .ok (.return_, 1) := dk_177 (dk_at dksX12_pair_1 19 rfl rfl)
abbrev cX12_isSo : ByteArray := prog_2_method_8_code
def yX12_isSo : MethodName := ⟨RX12, "isSo", "(LNineDemands$Facts;III)Z"⟩
def dkwX12_isSo_0 : List UInt8 := [21, 4, 29, 160, 0, 7, 4, 167, 0, 4, 3, 172]
abbrev dktX12_isSo_0 : List UInt8 := dkwX12_isSo_0 ++ []
theorem dksX12_isSo_0 : cX12_isSo.data.toList.drop 0 = dktX12_isSo_0 := by decide +kernel
theorem dX12_isSo_0 : decode cX12_isSo 0 = .ok (.iload 4, 2) := dk_21 4 (dk_at dksX12_isSo_0 0 rfl rfl)
theorem dX12_isSo_2 : decode cX12_isSo 2 = .ok (.iload_n 3, 1) := dk_29 (dk_at dksX12_isSo_0 2 rfl rfl)
theorem dX12_isSo_3 : decode cX12_isSo 3 = .ok (.if_icmp .ne 7, 3) := dk_160 0 7 (dk_at dksX12_isSo_0 3 rfl rfl)
theorem dX12_isSo_6 : decode cX12_isSo 6 = .ok (.iconst 1, 1) := dk_4 (dk_at dksX12_isSo_0 6 rfl rfl)
theorem dX12_isSo_7 : decode cX12_isSo 7 = .ok (.goto 4, 3) := dk_167 0 4 (dk_at dksX12_isSo_0 7 rfl rfl)
theorem dX12_isSo_10 : decode cX12_isSo 10 = .ok (.iconst 0, 1) := dk_3 (dk_at dksX12_isSo_0 10 rfl rfl)
theorem dX12_isSo_11 : decode cX12_isSo 11 = .ok (.ireturn, 1) := dk_172 (dk_at dksX12_isSo_0 11 rfl rfl)
abbrev cX12_isOf : ByteArray := prog_2_method_3_code
def yX12_isOf : MethodName := ⟨RX12, "isOf", "(I)Z"⟩
def dkwX12_isOf_0 : List UInt8 := [27, 5, 159, 0, 11, 42, 27, 183, 0, 13, 153, 0, 7, 4, 167, 0, 4, 3, 172]
abbrev dktX12_isOf_0 : List UInt8 := dkwX12_isOf_0 ++ []
theorem dksX12_isOf_0 : cX12_isOf.data.toList.drop 0 = dktX12_isOf_0 := by decide +kernel
theorem dX12_isOf_0 : decode cX12_isOf 0 = .ok (.iload_n 1, 1) := dk_27 (dk_at dksX12_isOf_0 0 rfl rfl)
theorem dX12_isOf_1 : decode cX12_isOf 1 = .ok (.iconst 2, 1) := dk_5 (dk_at dksX12_isOf_0 1 rfl rfl)
theorem dX12_isOf_2 : decode cX12_isOf 2 = .ok (.if_icmp .eq 11, 3) := dk_159 0 11 (dk_at dksX12_isOf_0 2 rfl rfl)
theorem dX12_isOf_5 : decode cX12_isOf 5 = .ok (.aload_n 0, 1) := dk_42 (dk_at dksX12_isOf_0 5 rfl rfl)
theorem dX12_isOf_6 : decode cX12_isOf 6 = .ok (.iload_n 1, 1) := dk_27 (dk_at dksX12_isOf_0 6 rfl rfl)
theorem dX12_isOf_7 : decode cX12_isOf 7 = .ok (.invokespecial 13, 3) := dk_183 0 13 (dk_at dksX12_isOf_0 7 rfl rfl)
theorem dX12_isOf_10 : decode cX12_isOf 10 = .ok (.ifCond .eq 7, 3) := dk_153 0 7 (dk_at dksX12_isOf_0 10 rfl rfl)
theorem dX12_isOf_13 : decode cX12_isOf 13 = .ok (.iconst 1, 1) := dk_4 (dk_at dksX12_isOf_0 13 rfl rfl)
theorem dX12_isOf_14 : decode cX12_isOf 14 = .ok (.goto 4, 3) := dk_167 0 4 (dk_at dksX12_isOf_0 14 rfl rfl)
theorem dX12_isOf_17 : decode cX12_isOf 17 = .ok (.iconst 0, 1) := dk_3 (dk_at dksX12_isOf_0 17 rfl rfl)
theorem dX12_isOf_18 : decode cX12_isOf 18 = .ok (.ireturn, 1) := dk_172 (dk_at dksX12_isOf_0 18 rfl rfl)
abbrev cX12_bids : ByteArray := prog_2_method_9_code
def yX12_bids : MethodName := ⟨RX12, "bids", "(I)I"⟩
def dkwX12_bids_0 : List UInt8 := [42, 180, 0, 19, 16, 30, 182, 0, 55, 42, 27, 183, 0, 61, 4, 100, 172]
abbrev dktX12_bids_0 : List UInt8 := dkwX12_bids_0 ++ []
theorem dksX12_bids_0 : cX12_bids.data.toList.drop 0 = dktX12_bids_0 := by decide +kernel
theorem dX12_bids_0 : decode cX12_bids 0 = .ok (.aload_n 0, 1) := dk_42 (dk_at dksX12_bids_0 0 rfl rfl)
theorem dX12_bids_1 : decode cX12_bids 1 = .ok (.getfield 19, 3) := dk_180 0 19 (dk_at dksX12_bids_0 1 rfl rfl)
theorem dX12_bids_4 : decode cX12_bids 4 = .ok (.bipush 30, 2) := dk_16 30 (dk_at dksX12_bids_0 4 rfl rfl)
theorem dX12_bids_6 : decode cX12_bids 6 = .ok (.invokevirtual 55, 3) := dk_182 0 55 (dk_at dksX12_bids_0 6 rfl rfl)
theorem dX12_bids_9 : decode cX12_bids 9 = .ok (.aload_n 0, 1) := dk_42 (dk_at dksX12_bids_0 9 rfl rfl)
theorem dX12_bids_10 : decode cX12_bids 10 = .ok (.iload_n 1, 1) := dk_27 (dk_at dksX12_bids_0 10 rfl rfl)
theorem dX12_bids_11 : decode cX12_bids 11 = .ok (.invokespecial 61, 3) := dk_183 0 61 (dk_at dksX12_bids_0 11 rfl rfl)
theorem dX12_bids_14 : decode cX12_bids 14 = .ok (.iconst 1, 1) := dk_4 (dk_at dksX12_bids_0 14 rfl rfl)
theorem dX12_bids_15 : decode cX12_bids 15 = .ok (.isub, 1) := dk_100 (dk_at dksX12_bids_0 15 rfl rfl)
theorem dX12_bids_16 : decode cX12_bids 16 = .ok (.ireturn, 1) := dk_172 (dk_at dksX12_bids_0 16 rfl rfl)
abbrev cX12_stands : ByteArray := prog_2_method_10_code
def yX12_stands : MethodName := ⟨RX12, "stands", "(I)I"⟩
def dkwX12_stands_0 : List UInt8 := [42, 180, 0, 19, 16, 31, 182, 0, 55, 42, 27, 4, 96, 183, 0, 64, 172]
abbrev dktX12_stands_0 : List UInt8 := dkwX12_stands_0 ++ []
theorem dksX12_stands_0 : cX12_stands.data.toList.drop 0 = dktX12_stands_0 := by decide +kernel
theorem dX12_stands_0 : decode cX12_stands 0 = .ok (.aload_n 0, 1) := dk_42 (dk_at dksX12_stands_0 0 rfl rfl)
theorem dX12_stands_1 : decode cX12_stands 1 = .ok (.getfield 19, 3) := dk_180 0 19 (dk_at dksX12_stands_0 1 rfl rfl)
theorem dX12_stands_4 : decode cX12_stands 4 = .ok (.bipush 31, 2) := dk_16 31 (dk_at dksX12_stands_0 4 rfl rfl)
theorem dX12_stands_6 : decode cX12_stands 6 = .ok (.invokevirtual 55, 3) := dk_182 0 55 (dk_at dksX12_stands_0 6 rfl rfl)
theorem dX12_stands_9 : decode cX12_stands 9 = .ok (.aload_n 0, 1) := dk_42 (dk_at dksX12_stands_0 9 rfl rfl)
theorem dX12_stands_10 : decode cX12_stands 10 = .ok (.iload_n 1, 1) := dk_27 (dk_at dksX12_stands_0 10 rfl rfl)
theorem dX12_stands_11 : decode cX12_stands 11 = .ok (.iconst 1, 1) := dk_4 (dk_at dksX12_stands_0 11 rfl rfl)
theorem dX12_stands_12 : decode cX12_stands 12 = .ok (.iadd, 1) := dk_96 (dk_at dksX12_stands_0 12 rfl rfl)
theorem dX12_stands_13 : decode cX12_stands 13 = .ok (.invokespecial 64, 3) := dk_183 0 64 (dk_at dksX12_stands_0 13 rfl rfl)
theorem dX12_stands_16 : decode cX12_stands 16 = .ok (.ireturn, 1) := dk_172 (dk_at dksX12_stands_0 16 rfl rfl)
abbrev cX12_another : ByteArray := prog_2_method_5_code
def yX12_another : MethodName := ⟨RX12, "another", "()LNineDemands$Demand;"⟩
def dkwX12_another_0 : List UInt8 := [187, 0, 17, 89, 42, 180, 0, 19, 42, 180, 0, 23, 42, 180, 0, 27, 183, 0, 30, 176]
abbrev dktX12_another_0 : List UInt8 := dkwX12_another_0 ++ []
theorem dksX12_another_0 : cX12_another.data.toList.drop 0 = dktX12_another_0 := by decide +kernel
theorem dX12_another_0 : decode cX12_another 0 = .ok (.new 17, 3) := dk_187 0 17 (dk_at dksX12_another_0 0 rfl rfl)
theorem dX12_another_3 : decode cX12_another 3 = .ok (.dup, 1) := dk_89 (dk_at dksX12_another_0 3 rfl rfl)
theorem dX12_another_4 : decode cX12_another 4 = .ok (.aload_n 0, 1) := dk_42 (dk_at dksX12_another_0 4 rfl rfl)
theorem dX12_another_5 : decode cX12_another 5 = .ok (.getfield 19, 3) := dk_180 0 19 (dk_at dksX12_another_0 5 rfl rfl)
theorem dX12_another_8 : decode cX12_another 8 = .ok (.aload_n 0, 1) := dk_42 (dk_at dksX12_another_0 8 rfl rfl)
theorem dX12_another_9 : decode cX12_another 9 = .ok (.getfield 23, 3) := dk_180 0 23 (dk_at dksX12_another_0 9 rfl rfl)
theorem dX12_another_12 : decode cX12_another 12 = .ok (.aload_n 0, 1) := dk_42 (dk_at dksX12_another_0 12 rfl rfl)
theorem dX12_another_13 : decode cX12_another 13 = .ok (.getfield 27, 3) := dk_180 0 27 (dk_at dksX12_another_0 13 rfl rfl)
theorem dX12_another_16 : decode cX12_another 16 = .ok (.invokespecial 30, 3) := dk_183 0 30 (dk_at dksX12_another_0 16 rfl rfl)
theorem dX12_another_19 : decode cX12_another 19 = .ok (.areturn, 1) := dk_176 (dk_at dksX12_another_0 19 rfl rfl)
theorem q110 : (Jvm.Cond.initialized "NineDemands$Alike") ∈ lw_all := lw_g (lw_at lw_m1 20 rfl) rfl
theorem q531 : (Jvm.Cond.fieldLink "NineDemands$Alike" (19 : Nat) "NineDemands$Alike" "trace" "LNineDemands$Trace;") ∈ lw_all := lw_g (lw_at lw_m2 201 rfl) rfl
theorem q532 : (Jvm.Cond.sameField "NineDemands$Alike" "NineDemands$Demand" "trace" "LNineDemands$Trace;") ∈ lw_all := lw_g (lw_at lw_m2 202 rfl) rfl
theorem q542 : (Jvm.Cond.fieldLink "NineDemands$Alike" (23 : Nat) "NineDemands$Alike" "number" "I") ∈ lw_all := lw_g (lw_at lw_m2 212 rfl) rfl
theorem q543 : (Jvm.Cond.sameField "NineDemands$Alike" "NineDemands$Demand" "number" "I") ∈ lw_all := lw_g (lw_at lw_m2 213 rfl) rfl
theorem q554 : (Jvm.Cond.fieldLink "NineDemands$Alike" (27 : Nat) "NineDemands$Alike" "price" "I") ∈ lw_all := lw_g (lw_at lw_m2 224 rfl) rfl
theorem q555 : (Jvm.Cond.sameField "NineDemands$Alike" "NineDemands$Demand" "price" "I") ∈ lw_all := lw_g (lw_at lw_m2 225 rfl) rfl
theorem q575 : (Jvm.Cond.fieldLink "NineDemands$Alike" (39 : Nat) "NineDemands$Alike" "cases" "LNineDemands$Cases;") ∈ lw_all := lw_g (lw_at lw_m3 5 rfl) rfl
theorem q576 : (Jvm.Cond.sameField "NineDemands$Alike" "NineDemands$Demand" "cases" "LNineDemands$Cases;") ∈ lw_all := lw_g (lw_at lw_m3 6 rfl) rfl
theorem q593 : (Jvm.Cond.instantiable "NineDemands$Alike" (5 : Nat)) ∈ lw_all := lw_g (lw_at lw_m3 23 rfl) rfl
theorem q595 : (Jvm.Cond.instanceMethod ({ cls := "NineDemands$Alike", name := "<init>", desc := "(LNineDemands$Trace;II)V" } : Jvm.MethodName)) ∈ lw_all := lw_g (lw_at lw_m3 25 rfl) rfl
theorem q596 : (Jvm.Cond.code ({ cls := "NineDemands$Alike", name := "<init>", desc := "(LNineDemands$Trace;II)V" } : Jvm.MethodName) prog_2_method_1_code (4 : Nat) (Option.none : Option Jvm.ClassFile.FieldType)) ∈ lw_all := lw_g (lw_at lw_m3 26 rfl) rfl
theorem q597 : (Jvm.Cond.methodLink "NineDemands$Alike" (3 : Nat) ({ cls := "NineDemands$Moved", name := "<init>", desc := "(LNineDemands$Trace;II)V" } : Jvm.MethodName)) ∈ lw_all := lw_g (lw_at lw_m3 27 rfl) rfl
theorem q598 : (Jvm.Cond.laysFinal "NineDemands$Alike" "NineDemands$Demand" "trace" "LNineDemands$Trace;") ∈ lw_all := lw_g (lw_at lw_m3 28 rfl) rfl
theorem q599 : (Jvm.Cond.laysFinal "NineDemands$Alike" "NineDemands$Demand" "number" "I") ∈ lw_all := lw_g (lw_at lw_m3 29 rfl) rfl
theorem q600 : (Jvm.Cond.lays "NineDemands$Alike" "NineDemands$Demand" "price" "I") ∈ lw_all := lw_g (lw_at lw_m3 30 rfl) rfl
theorem q601 : (Jvm.Cond.lays "NineDemands$Alike" "NineDemands$Demand" "text" "LNineDemands$Term;") ∈ lw_all := lw_g (lw_at lw_m3 31 rfl) rfl
theorem q602 : (Jvm.Cond.lays "NineDemands$Alike" "NineDemands$Demand" "cases" "LNineDemands$Cases;") ∈ lw_all := lw_g (lw_at lw_m3 32 rfl) rfl
theorem q603 : (Jvm.Cond.superclass "NineDemands$Alike" "NineDemands$Moved") ∈ lw_all := lw_g (lw_at lw_m3 33 rfl) rfl
theorem q657 : (Jvm.Cond.selects "NineDemands$Alike" ({ cls := "NineDemands$Demand", name := "hasText", desc := "()Z" } : Jvm.MethodName) ({ cls := "NineDemands$Alike", name := "hasText", desc := "()Z" } : Jvm.MethodName)) ∈ lw_all := lw_g (lw_at lw_m3 87 rfl) rfl
theorem q658 : (Jvm.Cond.instanceMethod ({ cls := "NineDemands$Alike", name := "hasText", desc := "()Z" } : Jvm.MethodName)) ∈ lw_all := lw_g (lw_at lw_m3 88 rfl) rfl
theorem q659 : (Jvm.Cond.code ({ cls := "NineDemands$Alike", name := "hasText", desc := "()Z" } : Jvm.MethodName) prog_2_method_4_code (1 : Nat) (Option.some Jvm.ClassFile.FieldType.boolean)) ∈ lw_all := lw_g (lw_at lw_m3 89 rfl) rfl
theorem q678 : (Jvm.Cond.selects "NineDemands$Alike" ({ cls := "NineDemands$Demand", name := "names", desc := "()Ljava/lang/String;" } : Jvm.MethodName) ({ cls := "NineDemands$Moved", name := "names", desc := "()Ljava/lang/String;" } : Jvm.MethodName)) ∈ lw_all := lw_g (lw_at lw_m3 108 rfl) rfl
theorem q716 : (Jvm.Cond.selects "NineDemands$Alike" ({ cls := "NineDemands$Moved", name := "paired", desc := "()Ljava/lang/String;" } : Jvm.MethodName) ({ cls := "NineDemands$Moved", name := "paired", desc := "()Ljava/lang/String;" } : Jvm.MethodName)) ∈ lw_all := lw_g (lw_at lw_m3 146 rfl) rfl
theorem q1107 : (Jvm.Cond.selects "NineDemands$Alike" ({ cls := "NineDemands$Demand", name := "lay", desc := "(LNineDemands$Facts;)V" } : Jvm.MethodName) ({ cls := "NineDemands$Demand", name := "lay", desc := "(LNineDemands$Facts;)V" } : Jvm.MethodName)) ∈ lw_all := lw_g (lw_at lw_m5 57 rfl) rfl
theorem q1158 : (Jvm.Cond.selects "NineDemands$Alike" ({ cls := "NineDemands$Demand", name := "casesOf", desc := "(I)V" } : Jvm.MethodName) ({ cls := "NineDemands$Alike", name := "casesOf", desc := "(I)V" } : Jvm.MethodName)) ∈ lw_all := lw_g (lw_at lw_m5 108 rfl) rfl
theorem q1159 : (Jvm.Cond.instanceMethod ({ cls := "NineDemands$Alike", name := "casesOf", desc := "(I)V" } : Jvm.MethodName)) ∈ lw_all := lw_g (lw_at lw_m5 109 rfl) rfl
theorem q1160 : (Jvm.Cond.code ({ cls := "NineDemands$Alike", name := "casesOf", desc := "(I)V" } : Jvm.MethodName) prog_2_method_7_code (2 : Nat) (Option.none : Option Jvm.ClassFile.FieldType)) ∈ lw_all := lw_g (lw_at lw_m5 110 rfl) rfl
theorem q1161 : (Jvm.Cond.methodLink "NineDemands$Alike" (52 : Nat) ({ cls := "NineDemands$Alike", name := "pair", desc := "(III)V" } : Jvm.MethodName)) ∈ lw_all := lw_g (lw_at lw_m5 111 rfl) rfl
theorem q1162 : (Jvm.Cond.privateMethod ({ cls := "NineDemands$Alike", name := "pair", desc := "(III)V" } : Jvm.MethodName)) ∈ lw_tbl := lw_at lw_m5 112 rfl
theorem q1163 : (Jvm.Cond.instanceMethod ({ cls := "NineDemands$Alike", name := "pair", desc := "(III)V" } : Jvm.MethodName)) ∈ lw_all := lw_g (lw_at lw_m5 113 rfl) rfl
theorem q1164 : (Jvm.Cond.code ({ cls := "NineDemands$Alike", name := "pair", desc := "(III)V" } : Jvm.MethodName) prog_2_method_6_code (4 : Nat) (Option.none : Option Jvm.ClassFile.FieldType)) ∈ lw_all := lw_g (lw_at lw_m5 114 rfl) rfl
theorem q1165 : (Jvm.Cond.methodLinkNest "NineDemands$Alike" (31 : Nat) ({ cls := "NineDemands", name := "peopleOf", desc := "(I)I" } : Jvm.MethodName) "NineDemands") ∈ lw_tbl := lw_at lw_m5 115 rfl
theorem q1166 : (Jvm.Cond.methodLinkNest "NineDemands$Alike" (35 : Nat) ({ cls := "NineDemands", name := "wants", desc := "(II)I" } : Jvm.MethodName) "NineDemands") ∈ lw_tbl := lw_at lw_m5 116 rfl
theorem q1167 : (Jvm.Cond.methodLinkNest "NineDemands$Alike" (43 : Nat) ({ cls := "NineDemands", name := "changed", desc := "(II)I" } : Jvm.MethodName) "NineDemands") ∈ lw_tbl := lw_at lw_m5 117 rfl
theorem q1168 : (Jvm.Cond.methodLink "NineDemands$Alike" (46 : Nat) ({ cls := "NineDemands$Cases", name := "add", desc := "(III)V" } : Jvm.MethodName)) ∈ lw_all := lw_g (lw_at lw_m5 118 rfl) rfl
theorem q1195 : (Jvm.Cond.selects "NineDemands$Alike" ({ cls := "NineDemands$Demand", name := "isSo", desc := "(LNineDemands$Facts;III)Z" } : Jvm.MethodName) ({ cls := "NineDemands$Alike", name := "isSo", desc := "(LNineDemands$Facts;III)Z" } : Jvm.MethodName)) ∈ lw_all := lw_g (lw_at lw_m5 145 rfl) rfl
theorem q1196 : (Jvm.Cond.instanceMethod ({ cls := "NineDemands$Alike", name := "isSo", desc := "(LNineDemands$Facts;III)Z" } : Jvm.MethodName)) ∈ lw_all := lw_g (lw_at lw_m5 146 rfl) rfl
theorem q1197 : (Jvm.Cond.code ({ cls := "NineDemands$Alike", name := "isSo", desc := "(LNineDemands$Facts;III)Z" } : Jvm.MethodName) prog_2_method_8_code (5 : Nat) (Option.some Jvm.ClassFile.FieldType.boolean)) ∈ lw_all := lw_g (lw_at lw_m5 147 rfl) rfl
theorem q1214 : (Jvm.Cond.selects "NineDemands$Alike" ({ cls := "NineDemands$Demand", name := "tell", desc := "(LNineDemands$Facts;III)V" } : Jvm.MethodName) ({ cls := "NineDemands$Moved", name := "tell", desc := "(LNineDemands$Facts;III)V" } : Jvm.MethodName)) ∈ lw_all := lw_g (lw_at lw_m5 164 rfl) rfl
theorem q1284 : (Jvm.Cond.selects "NineDemands$Alike" ({ cls := "java/lang/Object", name := "getClass", desc := "()Ljava/lang/Class;" } : Jvm.MethodName) ({ cls := "java/lang/Object", name := "getClass", desc := "()Ljava/lang/Class;" } : Jvm.MethodName)) ∈ lw_all := lw_g (lw_at lw_m5 234 rfl) rfl
theorem q1351 : (Jvm.Cond.selects "NineDemands$Alike" ({ cls := "NineDemands$Demand", name := "isOf", desc := "(I)Z" } : Jvm.MethodName) ({ cls := "NineDemands$Alike", name := "isOf", desc := "(I)Z" } : Jvm.MethodName)) ∈ lw_all := lw_g (lw_at lw_m6 61 rfl) rfl
theorem q1352 : (Jvm.Cond.instanceMethod ({ cls := "NineDemands$Alike", name := "isOf", desc := "(I)Z" } : Jvm.MethodName)) ∈ lw_all := lw_g (lw_at lw_m6 62 rfl) rfl
theorem q1353 : (Jvm.Cond.code ({ cls := "NineDemands$Alike", name := "isOf", desc := "(I)Z" } : Jvm.MethodName) prog_2_method_3_code (2 : Nat) (Option.some Jvm.ClassFile.FieldType.boolean)) ∈ lw_all := lw_g (lw_at lw_m6 63 rfl) rfl
theorem q1354 : (Jvm.Cond.methodLink "NineDemands$Alike" (13 : Nat) ({ cls := "NineDemands$Moved", name := "isOf", desc := "(I)Z" } : Jvm.MethodName)) ∈ lw_all := lw_g (lw_at lw_m6 64 rfl) rfl
theorem q1392 : (Jvm.Cond.selects "NineDemands$Alike" ({ cls := "NineDemands$Demand", name := "goes", desc := "(III)Z" } : Jvm.MethodName) ({ cls := "NineDemands$Demand", name := "goes", desc := "(III)Z" } : Jvm.MethodName)) ∈ lw_all := lw_g (lw_at lw_m6 102 rfl) rfl
theorem q1662 : (Jvm.Cond.castable "NineDemands$Alike" "NineDemands$Bids") ∈ lw_tbl := lw_at lw_m7 132 rfl
theorem q1663 : (Jvm.Cond.selects "NineDemands$Alike" ({ cls := "NineDemands$Bids", name := "bids", desc := "(I)I" } : Jvm.MethodName) ({ cls := "NineDemands$Alike", name := "bids", desc := "(I)I" } : Jvm.MethodName)) ∈ lw_all := lw_g (lw_at lw_m7 133 rfl) rfl
theorem q1664 : (Jvm.Cond.unhidden "NineDemands$Alike" "bids" "(I)I") ∈ lw_tbl := lw_at lw_m7 134 rfl
theorem q1665 : (Jvm.Cond.instanceMethod ({ cls := "NineDemands$Alike", name := "bids", desc := "(I)I" } : Jvm.MethodName)) ∈ lw_all := lw_g (lw_at lw_m7 135 rfl) rfl
theorem q1666 : (Jvm.Cond.publicMethod ({ cls := "NineDemands$Alike", name := "bids", desc := "(I)I" } : Jvm.MethodName)) ∈ lw_tbl := lw_at lw_m7 136 rfl
theorem q1667 : (Jvm.Cond.code ({ cls := "NineDemands$Alike", name := "bids", desc := "(I)I" } : Jvm.MethodName) prog_2_method_9_code (2 : Nat) (Option.some Jvm.ClassFile.FieldType.int)) ∈ lw_all := lw_g (lw_at lw_m7 137 rfl) rfl
theorem q1668 : (Jvm.Cond.methodLink "NineDemands$Alike" (55 : Nat) ({ cls := "NineDemands$Trace", name := "begins", desc := "(I)V" } : Jvm.MethodName)) ∈ lw_all := lw_g (lw_at lw_m7 138 rfl) rfl
theorem q1672 : (Jvm.Cond.methodLink "NineDemands$Alike" (61 : Nat) ({ cls := "NineDemands$Moved", name := "bids", desc := "(I)I" } : Jvm.MethodName)) ∈ lw_all := lw_g (lw_at lw_m7 142 rfl) rfl
theorem q1703 : (Jvm.Cond.castable "NineDemands$Alike" "NineDemands$Bars") ∈ lw_tbl := lw_at lw_m7 173 rfl
theorem q1704 : (Jvm.Cond.selects "NineDemands$Alike" ({ cls := "NineDemands$Bars", name := "bars", desc := "(I)I" } : Jvm.MethodName) ({ cls := "NineDemands$Moved", name := "bars", desc := "(I)I" } : Jvm.MethodName)) ∈ lw_all := lw_g (lw_at lw_m7 174 rfl) rfl
theorem q1705 : (Jvm.Cond.unhidden "NineDemands$Alike" "bars" "(I)I") ∈ lw_tbl := lw_at lw_m7 175 rfl
theorem q1717 : (Jvm.Cond.selects "NineDemands$Alike" ({ cls := "NineDemands$Moved", name := "yields", desc := "(I)I" } : Jvm.MethodName) ({ cls := "NineDemands$Demand", name := "yields", desc := "(I)I" } : Jvm.MethodName)) ∈ lw_all := lw_g (lw_at lw_m7 187 rfl) rfl
theorem q1752 : (Jvm.Cond.castable "NineDemands$Alike" "NineDemands$Yields") ∈ lw_tbl := lw_at lw_m7 222 rfl
theorem q1753 : (Jvm.Cond.selects "NineDemands$Alike" ({ cls := "NineDemands$Yields", name := "yields", desc := "(I)I" } : Jvm.MethodName) ({ cls := "NineDemands$Demand", name := "yields", desc := "(I)I" } : Jvm.MethodName)) ∈ lw_all := lw_g (lw_at lw_m7 223 rfl) rfl
theorem q1754 : (Jvm.Cond.unhidden "NineDemands$Alike" "yields" "(I)I") ∈ lw_tbl := lw_at lw_m7 224 rfl
theorem q1781 : (Jvm.Cond.castable "NineDemands$Alike" "NineDemands$Stands") ∈ lw_tbl := lw_at lw_m8 11 rfl
theorem q1782 : (Jvm.Cond.selects "NineDemands$Alike" ({ cls := "NineDemands$Stands", name := "stands", desc := "(I)I" } : Jvm.MethodName) ({ cls := "NineDemands$Alike", name := "stands", desc := "(I)I" } : Jvm.MethodName)) ∈ lw_all := lw_g (lw_at lw_m8 12 rfl) rfl
theorem q1783 : (Jvm.Cond.unhidden "NineDemands$Alike" "stands" "(I)I") ∈ lw_tbl := lw_at lw_m8 13 rfl
theorem q1784 : (Jvm.Cond.instanceMethod ({ cls := "NineDemands$Alike", name := "stands", desc := "(I)I" } : Jvm.MethodName)) ∈ lw_all := lw_g (lw_at lw_m8 14 rfl) rfl
theorem q1785 : (Jvm.Cond.publicMethod ({ cls := "NineDemands$Alike", name := "stands", desc := "(I)I" } : Jvm.MethodName)) ∈ lw_tbl := lw_at lw_m8 15 rfl
theorem q1786 : (Jvm.Cond.code ({ cls := "NineDemands$Alike", name := "stands", desc := "(I)I" } : Jvm.MethodName) prog_2_method_10_code (2 : Nat) (Option.some Jvm.ClassFile.FieldType.int)) ∈ lw_all := lw_g (lw_at lw_m8 16 rfl) rfl
theorem q1787 : (Jvm.Cond.methodLink "NineDemands$Alike" (64 : Nat) ({ cls := "NineDemands$Moved", name := "stands", desc := "(I)I" } : Jvm.MethodName)) ∈ lw_all := lw_g (lw_at lw_m8 17 rfl) rfl
theorem q1918 : (Jvm.Cond.selects "NineDemands$Alike" ({ cls := "NineDemands$Demand", name := "again", desc := "()LNineDemands$Demand;" } : Jvm.MethodName) ({ cls := "NineDemands$Demand", name := "again", desc := "()LNineDemands$Demand;" } : Jvm.MethodName)) ∈ lw_all := lw_g (lw_at lw_m8 148 rfl) rfl
theorem q1928 : (Jvm.Cond.selects "NineDemands$Alike" ({ cls := "NineDemands$Demand", name := "another", desc := "()LNineDemands$Demand;" } : Jvm.MethodName) ({ cls := "NineDemands$Alike", name := "another", desc := "()LNineDemands$Demand;" } : Jvm.MethodName)) ∈ lw_all := lw_g (lw_at lw_m8 158 rfl) rfl
theorem q1929 : (Jvm.Cond.instanceMethod ({ cls := "NineDemands$Alike", name := "another", desc := "()LNineDemands$Demand;" } : Jvm.MethodName)) ∈ lw_all := lw_g (lw_at lw_m8 159 rfl) rfl
theorem q1930 : (Jvm.Cond.code ({ cls := "NineDemands$Alike", name := "another", desc := "()LNineDemands$Demand;" } : Jvm.MethodName) prog_2_method_5_code (1 : Nat) (Option.some (Jvm.ClassFile.FieldType.object "NineDemands$Demand"))) ∈ lw_all := lw_g (lw_at lw_m8 160 rfl) rfl
theorem q1931 : (Jvm.Cond.classLink "NineDemands$Alike" (17 : Nat) "NineDemands$Alike") ∈ lw_all := lw_g (lw_at lw_m8 161 rfl) rfl
theorem q1932 : (Jvm.Cond.methodLink "NineDemands$Alike" (30 : Nat) ({ cls := "NineDemands$Alike", name := "<init>", desc := "(LNineDemands$Trace;II)V" } : Jvm.MethodName)) ∈ lw_all := lw_g (lw_at lw_m8 162 rfl) rfl
theorem q2493 : (Jvm.Cond.selects "NineDemands$Alike" ({ cls := "NineDemands$Demand", name := "bids", desc := "(I)I" } : Jvm.MethodName) ({ cls := "NineDemands$Alike", name := "bids", desc := "(I)I" } : Jvm.MethodName)) ∈ lw_all := lw_g (lw_at lw_m11 3 rfl) rfl
theorem q2502 : (Jvm.Cond.selects "NineDemands$Alike" ({ cls := "NineDemands$Demand", name := "bars", desc := "(I)I" } : Jvm.MethodName) ({ cls := "NineDemands$Moved", name := "bars", desc := "(I)I" } : Jvm.MethodName)) ∈ lw_all := lw_g (lw_at lw_m11 12 rfl) rfl
theorem q2508 : (Jvm.Cond.selects "NineDemands$Alike" ({ cls := "NineDemands$Demand", name := "yields", desc := "(I)I" } : Jvm.MethodName) ({ cls := "NineDemands$Demand", name := "yields", desc := "(I)I" } : Jvm.MethodName)) ∈ lw_all := lw_g (lw_at lw_m11 18 rfl) rfl
theorem q2517 : (Jvm.Cond.castable "NineDemands$Alike" "NineDemands$Demand") ∈ lw_tbl := lw_at lw_m11 27 rfl
theorem q2534 : (Jvm.Cond.castable "NineDemands$Alike" "java/lang/Object") ∈ lw_tbl := lw_at lw_m11 44 rfl
theorem in_X12 : ∀ w ∈ wsX120, w ∈ lw_all := lw_in wsX120 [598, 599, 600, 601, 602] (by decide +kernel) (by decide +kernel)
/-! NineDemands$Turns -/
set_option maxRecDepth 100000
def RX13 : String := "NineDemands$Turns"
def TX13 : u_T := fun k => match k with
  | 0 => ("NineDemands$Demand", "trace", "LNineDemands$Trace;", true)
  | 1 => ("NineDemands$Demand", "number", "I", true)
  | 2 => ("NineDemands$Demand", "price", "I", false)
  | 3 => ("NineDemands$Demand", "text", "LNineDemands$Term;", false)
  | _ => ("NineDemands$Demand", "cases", "LNineDemands$Cases;", false)
def tyX13 : Nat → FieldType := fun k => match k with
  | 0 => .object "NineDemands$Trace"
  | 1 => .int
  | 2 => .int
  | 3 => .object "NineDemands$Term"
  | _ => .object "NineDemands$Cases"
abbrev wsX130 : List Cond := u_ws RX13 TX13 5
theorem nmX13 : ∀ a, a < 5 → ∀ b, b < 5 → a ≠ b → (TX13 a).2.1 ≠ (TX13 b).2.1 := by decide +kernel
theorem tyX13_ok : ∀ k, k < 5 → parseFieldDescriptor (TX13 k).2.2.1 = some (tyX13 k) := by decide +kernel
abbrev cX13_init : ByteArray := prog_27_method_1_code
def yX13_init : MethodName := ⟨RX13, "<init>", "(LNineDemands$Trace;II)V"⟩
def dkwX13_init_0 : List UInt8 := [42, 43, 28, 29, 183, 0, 3, 177]
abbrev dktX13_init_0 : List UInt8 := dkwX13_init_0 ++ []
theorem dksX13_init_0 : cX13_init.data.toList.drop 0 = dktX13_init_0 := by decide +kernel
theorem dX13_init_0 : decode cX13_init 0 = .ok (.aload_n 0, 1) := dk_42 (dk_at dksX13_init_0 0 rfl rfl)
theorem dX13_init_1 : decode cX13_init 1 = .ok (.aload_n 1, 1) := dk_43 (dk_at dksX13_init_0 1 rfl rfl)
theorem dX13_init_2 : decode cX13_init 2 = .ok (.iload_n 2, 1) := dk_28 (dk_at dksX13_init_0 2 rfl rfl)
theorem dX13_init_3 : decode cX13_init 3 = .ok (.iload_n 3, 1) := dk_29 (dk_at dksX13_init_0 3 rfl rfl)
theorem dX13_init_4 : decode cX13_init 4 = .ok (.invokespecial 3, 3) := dk_183 0 3 (dk_at dksX13_init_0 4 rfl rfl)
theorem dX13_init_7 : decode cX13_init 7 = .ok (.return_, 1) := dk_177 (dk_at dksX13_init_0 7 rfl rfl)
abbrev cX13_hasText : ByteArray := prog_27_method_4_code
def yX13_hasText : MethodName := ⟨RX13, "hasText", "()Z"⟩
def dkwX13_hasText_0 : List UInt8 := [42, 183, 0, 13, 154, 0, 7, 4, 167, 0, 4, 3, 172]
abbrev dktX13_hasText_0 : List UInt8 := dkwX13_hasText_0 ++ []
theorem dksX13_hasText_0 : cX13_hasText.data.toList.drop 0 = dktX13_hasText_0 := by decide +kernel
theorem dX13_hasText_0 : decode cX13_hasText 0 = .ok (.aload_n 0, 1) := dk_42 (dk_at dksX13_hasText_0 0 rfl rfl)
theorem dX13_hasText_1 : decode cX13_hasText 1 = .ok (.invokespecial 13, 3) := dk_183 0 13 (dk_at dksX13_hasText_0 1 rfl rfl)
theorem dX13_hasText_4 : decode cX13_hasText 4 = .ok (.ifCond .ne 7, 3) := dk_154 0 7 (dk_at dksX13_hasText_0 4 rfl rfl)
theorem dX13_hasText_7 : decode cX13_hasText 7 = .ok (.iconst 1, 1) := dk_4 (dk_at dksX13_hasText_0 7 rfl rfl)
theorem dX13_hasText_8 : decode cX13_hasText 8 = .ok (.goto 4, 3) := dk_167 0 4 (dk_at dksX13_hasText_0 8 rfl rfl)
theorem dX13_hasText_11 : decode cX13_hasText 11 = .ok (.iconst 0, 1) := dk_3 (dk_at dksX13_hasText_0 11 rfl rfl)
theorem dX13_hasText_12 : decode cX13_hasText 12 = .ok (.ireturn, 1) := dk_172 (dk_at dksX13_hasText_0 12 rfl rfl)
abbrev cX13_casesOf : ByteArray := prog_27_method_6_code
def yX13_casesOf : MethodName := ⟨RX13, "casesOf", "(I)V"⟩
def dkwX13_casesOf_0 : List UInt8 := [42, 180, 0, 31, 27, 27, 4, 27, 184, 0, 35, 120, 4, 100, 184, 0, 39, 2, 182, 0, 43, 177]
abbrev dktX13_casesOf_0 : List UInt8 := dkwX13_casesOf_0 ++ []
theorem dksX13_casesOf_0 : cX13_casesOf.data.toList.drop 0 = dktX13_casesOf_0 := by decide +kernel
theorem dX13_casesOf_0 : decode cX13_casesOf 0 = .ok (.aload_n 0, 1) := dk_42 (dk_at dksX13_casesOf_0 0 rfl rfl)
theorem dX13_casesOf_1 : decode cX13_casesOf 1 = .ok (.getfield 31, 3) := dk_180 0 31 (dk_at dksX13_casesOf_0 1 rfl rfl)
theorem dX13_casesOf_4 : decode cX13_casesOf 4 = .ok (.iload_n 1, 1) := dk_27 (dk_at dksX13_casesOf_0 4 rfl rfl)
theorem dX13_casesOf_5 : decode cX13_casesOf 5 = .ok (.iload_n 1, 1) := dk_27 (dk_at dksX13_casesOf_0 5 rfl rfl)
theorem dX13_casesOf_6 : decode cX13_casesOf 6 = .ok (.iconst 1, 1) := dk_4 (dk_at dksX13_casesOf_0 6 rfl rfl)
theorem dX13_casesOf_7 : decode cX13_casesOf 7 = .ok (.iload_n 1, 1) := dk_27 (dk_at dksX13_casesOf_0 7 rfl rfl)
theorem dX13_casesOf_8 : decode cX13_casesOf 8 = .ok (.invokestatic 35, 3) := dk_184 0 35 (dk_at dksX13_casesOf_0 8 rfl rfl)
theorem dX13_casesOf_11 : decode cX13_casesOf 11 = .ok (.ishl, 1) := dk_120 (dk_at dksX13_casesOf_0 11 rfl rfl)
theorem dX13_casesOf_12 : decode cX13_casesOf 12 = .ok (.iconst 1, 1) := dk_4 (dk_at dksX13_casesOf_0 12 rfl rfl)
theorem dX13_casesOf_13 : decode cX13_casesOf 13 = .ok (.isub, 1) := dk_100 (dk_at dksX13_casesOf_0 13 rfl rfl)
theorem dX13_casesOf_14 : decode cX13_casesOf 14 = .ok (.invokestatic 39, 3) := dk_184 0 39 (dk_at dksX13_casesOf_0 14 rfl rfl)
theorem dX13_casesOf_17 : decode cX13_casesOf 17 = .ok (.iconst (-1), 1) := dk_2 (dk_at dksX13_casesOf_0 17 rfl rfl)
theorem dX13_casesOf_18 : decode cX13_casesOf 18 = .ok (.invokevirtual 43, 3) := dk_182 0 43 (dk_at dksX13_casesOf_0 18 rfl rfl)
theorem dX13_casesOf_21 : decode cX13_casesOf 21 = .ok (.return_, 1) := dk_177 (dk_at dksX13_casesOf_0 21 rfl rfl)
abbrev cX13_isSo : ByteArray := prog_27_method_7_code
def yX13_isSo : MethodName := ⟨RX13, "isSo", "(LNineDemands$Facts;III)Z"⟩
def dkwX13_isSo_0 : List UInt8 := [21, 4, 29, 184, 0, 49, 160, 0, 7, 4, 167, 0, 4, 3, 172]
abbrev dktX13_isSo_0 : List UInt8 := dkwX13_isSo_0 ++ []
theorem dksX13_isSo_0 : cX13_isSo.data.toList.drop 0 = dktX13_isSo_0 := by decide +kernel
theorem dX13_isSo_0 : decode cX13_isSo 0 = .ok (.iload 4, 2) := dk_21 4 (dk_at dksX13_isSo_0 0 rfl rfl)
theorem dX13_isSo_2 : decode cX13_isSo 2 = .ok (.iload_n 3, 1) := dk_29 (dk_at dksX13_isSo_0 2 rfl rfl)
theorem dX13_isSo_3 : decode cX13_isSo 3 = .ok (.invokestatic 49, 3) := dk_184 0 49 (dk_at dksX13_isSo_0 3 rfl rfl)
theorem dX13_isSo_6 : decode cX13_isSo 6 = .ok (.if_icmp .ne 7, 3) := dk_160 0 7 (dk_at dksX13_isSo_0 6 rfl rfl)
theorem dX13_isSo_9 : decode cX13_isSo 9 = .ok (.iconst 1, 1) := dk_4 (dk_at dksX13_isSo_0 9 rfl rfl)
theorem dX13_isSo_10 : decode cX13_isSo 10 = .ok (.goto 4, 3) := dk_167 0 4 (dk_at dksX13_isSo_0 10 rfl rfl)
theorem dX13_isSo_13 : decode cX13_isSo 13 = .ok (.iconst 0, 1) := dk_3 (dk_at dksX13_isSo_0 13 rfl rfl)
theorem dX13_isSo_14 : decode cX13_isSo 14 = .ok (.ireturn, 1) := dk_172 (dk_at dksX13_isSo_0 14 rfl rfl)
abbrev cX13_isOf : ByteArray := prog_27_method_3_code
def yX13_isOf : MethodName := ⟨RX13, "isOf", "(I)Z"⟩
def dkwX13_isOf_0 : List UInt8 := [27, 6, 159, 0, 11, 42, 27, 183, 0, 9, 153, 0, 7, 4, 167, 0, 4, 3, 172]
abbrev dktX13_isOf_0 : List UInt8 := dkwX13_isOf_0 ++ []
theorem dksX13_isOf_0 : cX13_isOf.data.toList.drop 0 = dktX13_isOf_0 := by decide +kernel
theorem dX13_isOf_0 : decode cX13_isOf 0 = .ok (.iload_n 1, 1) := dk_27 (dk_at dksX13_isOf_0 0 rfl rfl)
theorem dX13_isOf_1 : decode cX13_isOf 1 = .ok (.iconst 3, 1) := dk_6 (dk_at dksX13_isOf_0 1 rfl rfl)
theorem dX13_isOf_2 : decode cX13_isOf 2 = .ok (.if_icmp .eq 11, 3) := dk_159 0 11 (dk_at dksX13_isOf_0 2 rfl rfl)
theorem dX13_isOf_5 : decode cX13_isOf 5 = .ok (.aload_n 0, 1) := dk_42 (dk_at dksX13_isOf_0 5 rfl rfl)
theorem dX13_isOf_6 : decode cX13_isOf 6 = .ok (.iload_n 1, 1) := dk_27 (dk_at dksX13_isOf_0 6 rfl rfl)
theorem dX13_isOf_7 : decode cX13_isOf 7 = .ok (.invokespecial 9, 3) := dk_183 0 9 (dk_at dksX13_isOf_0 7 rfl rfl)
theorem dX13_isOf_10 : decode cX13_isOf 10 = .ok (.ifCond .eq 7, 3) := dk_153 0 7 (dk_at dksX13_isOf_0 10 rfl rfl)
theorem dX13_isOf_13 : decode cX13_isOf 13 = .ok (.iconst 1, 1) := dk_4 (dk_at dksX13_isOf_0 13 rfl rfl)
theorem dX13_isOf_14 : decode cX13_isOf 14 = .ok (.goto 4, 3) := dk_167 0 4 (dk_at dksX13_isOf_0 14 rfl rfl)
theorem dX13_isOf_17 : decode cX13_isOf 17 = .ok (.iconst 0, 1) := dk_3 (dk_at dksX13_isOf_0 17 rfl rfl)
theorem dX13_isOf_18 : decode cX13_isOf 18 = .ok (.ireturn, 1) := dk_172 (dk_at dksX13_isOf_0 18 rfl rfl)
abbrev cX13_yields : ByteArray := prog_27_method_8_code
def yX13_yields : MethodName := ⟨RX13, "yields", "(I)I"⟩
def dkwX13_yields_0 : List UInt8 := [42, 180, 0, 19, 16, 40, 182, 0, 52, 42, 27, 183, 0, 58, 116, 172]
abbrev dktX13_yields_0 : List UInt8 := dkwX13_yields_0 ++ []
theorem dksX13_yields_0 : cX13_yields.data.toList.drop 0 = dktX13_yields_0 := by decide +kernel
theorem dX13_yields_0 : decode cX13_yields 0 = .ok (.aload_n 0, 1) := dk_42 (dk_at dksX13_yields_0 0 rfl rfl)
theorem dX13_yields_1 : decode cX13_yields 1 = .ok (.getfield 19, 3) := dk_180 0 19 (dk_at dksX13_yields_0 1 rfl rfl)
theorem dX13_yields_4 : decode cX13_yields 4 = .ok (.bipush 40, 2) := dk_16 40 (dk_at dksX13_yields_0 4 rfl rfl)
theorem dX13_yields_6 : decode cX13_yields 6 = .ok (.invokevirtual 52, 3) := dk_182 0 52 (dk_at dksX13_yields_0 6 rfl rfl)
theorem dX13_yields_9 : decode cX13_yields 9 = .ok (.aload_n 0, 1) := dk_42 (dk_at dksX13_yields_0 9 rfl rfl)
theorem dX13_yields_10 : decode cX13_yields 10 = .ok (.iload_n 1, 1) := dk_27 (dk_at dksX13_yields_0 10 rfl rfl)
theorem dX13_yields_11 : decode cX13_yields 11 = .ok (.invokespecial 58, 3) := dk_183 0 58 (dk_at dksX13_yields_0 11 rfl rfl)
theorem dX13_yields_14 : decode cX13_yields 14 = .ok (.ineg, 1) := dk_116 (dk_at dksX13_yields_0 14 rfl rfl)
theorem dX13_yields_15 : decode cX13_yields 15 = .ok (.ireturn, 1) := dk_172 (dk_at dksX13_yields_0 15 rfl rfl)
abbrev cX13_another : ByteArray := prog_27_method_5_code
def yX13_another : MethodName := ⟨RX13, "another", "()LNineDemands$Demand;"⟩
def dkwX13_another_0 : List UInt8 := [187, 0, 17, 89, 42, 180, 0, 19, 42, 180, 0, 23, 42, 180, 0, 27, 183, 0, 30, 176]
abbrev dktX13_another_0 : List UInt8 := dkwX13_another_0 ++ []
theorem dksX13_another_0 : cX13_another.data.toList.drop 0 = dktX13_another_0 := by decide +kernel
theorem dX13_another_0 : decode cX13_another 0 = .ok (.new 17, 3) := dk_187 0 17 (dk_at dksX13_another_0 0 rfl rfl)
theorem dX13_another_3 : decode cX13_another 3 = .ok (.dup, 1) := dk_89 (dk_at dksX13_another_0 3 rfl rfl)
theorem dX13_another_4 : decode cX13_another 4 = .ok (.aload_n 0, 1) := dk_42 (dk_at dksX13_another_0 4 rfl rfl)
theorem dX13_another_5 : decode cX13_another 5 = .ok (.getfield 19, 3) := dk_180 0 19 (dk_at dksX13_another_0 5 rfl rfl)
theorem dX13_another_8 : decode cX13_another 8 = .ok (.aload_n 0, 1) := dk_42 (dk_at dksX13_another_0 8 rfl rfl)
theorem dX13_another_9 : decode cX13_another 9 = .ok (.getfield 23, 3) := dk_180 0 23 (dk_at dksX13_another_0 9 rfl rfl)
theorem dX13_another_12 : decode cX13_another 12 = .ok (.aload_n 0, 1) := dk_42 (dk_at dksX13_another_0 12 rfl rfl)
theorem dX13_another_13 : decode cX13_another 13 = .ok (.getfield 27, 3) := dk_180 0 27 (dk_at dksX13_another_0 13 rfl rfl)
theorem dX13_another_16 : decode cX13_another 16 = .ok (.invokespecial 30, 3) := dk_183 0 30 (dk_at dksX13_another_0 16 rfl rfl)
theorem dX13_another_19 : decode cX13_another 19 = .ok (.areturn, 1) := dk_176 (dk_at dksX13_another_0 19 rfl rfl)
theorem q111 : (Jvm.Cond.initialized "NineDemands$Turns") ∈ lw_all := lw_g (lw_at lw_m1 21 rfl) rfl
theorem q537 : (Jvm.Cond.fieldLink "NineDemands$Turns" (19 : Nat) "NineDemands$Turns" "trace" "LNineDemands$Trace;") ∈ lw_all := lw_g (lw_at lw_m2 207 rfl) rfl
theorem q538 : (Jvm.Cond.sameField "NineDemands$Turns" "NineDemands$Demand" "trace" "LNineDemands$Trace;") ∈ lw_all := lw_g (lw_at lw_m2 208 rfl) rfl
theorem q548 : (Jvm.Cond.fieldLink "NineDemands$Turns" (23 : Nat) "NineDemands$Turns" "number" "I") ∈ lw_all := lw_g (lw_at lw_m2 218 rfl) rfl
theorem q549 : (Jvm.Cond.sameField "NineDemands$Turns" "NineDemands$Demand" "number" "I") ∈ lw_all := lw_g (lw_at lw_m2 219 rfl) rfl
theorem q560 : (Jvm.Cond.fieldLink "NineDemands$Turns" (27 : Nat) "NineDemands$Turns" "price" "I") ∈ lw_all := lw_g (lw_at lw_m2 230 rfl) rfl
theorem q561 : (Jvm.Cond.sameField "NineDemands$Turns" "NineDemands$Demand" "price" "I") ∈ lw_all := lw_g (lw_at lw_m2 231 rfl) rfl
theorem q571 : (Jvm.Cond.fieldLink "NineDemands$Turns" (31 : Nat) "NineDemands$Turns" "cases" "LNineDemands$Cases;") ∈ lw_all := lw_g (lw_at lw_m3 1 rfl) rfl
theorem q572 : (Jvm.Cond.sameField "NineDemands$Turns" "NineDemands$Demand" "cases" "LNineDemands$Cases;") ∈ lw_all := lw_g (lw_at lw_m3 2 rfl) rfl
theorem q605 : (Jvm.Cond.instantiable "NineDemands$Turns" (5 : Nat)) ∈ lw_all := lw_g (lw_at lw_m3 35 rfl) rfl
theorem q607 : (Jvm.Cond.instanceMethod ({ cls := "NineDemands$Turns", name := "<init>", desc := "(LNineDemands$Trace;II)V" } : Jvm.MethodName)) ∈ lw_all := lw_g (lw_at lw_m3 37 rfl) rfl
theorem q608 : (Jvm.Cond.code ({ cls := "NineDemands$Turns", name := "<init>", desc := "(LNineDemands$Trace;II)V" } : Jvm.MethodName) prog_27_method_1_code (4 : Nat) (Option.none : Option Jvm.ClassFile.FieldType)) ∈ lw_all := lw_g (lw_at lw_m3 38 rfl) rfl
theorem q609 : (Jvm.Cond.methodLink "NineDemands$Turns" (3 : Nat) ({ cls := "NineDemands$Moved", name := "<init>", desc := "(LNineDemands$Trace;II)V" } : Jvm.MethodName)) ∈ lw_all := lw_g (lw_at lw_m3 39 rfl) rfl
theorem q610 : (Jvm.Cond.laysFinal "NineDemands$Turns" "NineDemands$Demand" "trace" "LNineDemands$Trace;") ∈ lw_all := lw_g (lw_at lw_m3 40 rfl) rfl
theorem q611 : (Jvm.Cond.laysFinal "NineDemands$Turns" "NineDemands$Demand" "number" "I") ∈ lw_all := lw_g (lw_at lw_m3 41 rfl) rfl
theorem q612 : (Jvm.Cond.lays "NineDemands$Turns" "NineDemands$Demand" "price" "I") ∈ lw_all := lw_g (lw_at lw_m3 42 rfl) rfl
theorem q613 : (Jvm.Cond.lays "NineDemands$Turns" "NineDemands$Demand" "text" "LNineDemands$Term;") ∈ lw_all := lw_g (lw_at lw_m3 43 rfl) rfl
theorem q614 : (Jvm.Cond.lays "NineDemands$Turns" "NineDemands$Demand" "cases" "LNineDemands$Cases;") ∈ lw_all := lw_g (lw_at lw_m3 44 rfl) rfl
theorem q615 : (Jvm.Cond.superclass "NineDemands$Turns" "NineDemands$Moved") ∈ lw_all := lw_g (lw_at lw_m3 45 rfl) rfl
theorem q665 : (Jvm.Cond.selects "NineDemands$Turns" ({ cls := "NineDemands$Demand", name := "hasText", desc := "()Z" } : Jvm.MethodName) ({ cls := "NineDemands$Turns", name := "hasText", desc := "()Z" } : Jvm.MethodName)) ∈ lw_all := lw_g (lw_at lw_m3 95 rfl) rfl
theorem q666 : (Jvm.Cond.instanceMethod ({ cls := "NineDemands$Turns", name := "hasText", desc := "()Z" } : Jvm.MethodName)) ∈ lw_all := lw_g (lw_at lw_m3 96 rfl) rfl
theorem q667 : (Jvm.Cond.code ({ cls := "NineDemands$Turns", name := "hasText", desc := "()Z" } : Jvm.MethodName) prog_27_method_4_code (1 : Nat) (Option.some Jvm.ClassFile.FieldType.boolean)) ∈ lw_all := lw_g (lw_at lw_m3 97 rfl) rfl
theorem q668 : (Jvm.Cond.methodLink "NineDemands$Turns" (13 : Nat) ({ cls := "NineDemands$Moved", name := "hasText", desc := "()Z" } : Jvm.MethodName)) ∈ lw_all := lw_g (lw_at lw_m3 98 rfl) rfl
theorem q718 : (Jvm.Cond.selects "NineDemands$Turns" ({ cls := "NineDemands$Moved", name := "paired", desc := "()Ljava/lang/String;" } : Jvm.MethodName) ({ cls := "NineDemands$Moved", name := "paired", desc := "()Ljava/lang/String;" } : Jvm.MethodName)) ∈ lw_all := lw_g (lw_at lw_m3 148 rfl) rfl
theorem q910 : (Jvm.Cond.selects "NineDemands$Turns" ({ cls := "NineDemands$Demand", name := "names", desc := "()Ljava/lang/String;" } : Jvm.MethodName) ({ cls := "NineDemands$Moved", name := "names", desc := "()Ljava/lang/String;" } : Jvm.MethodName)) ∈ lw_all := lw_g (lw_at lw_m4 100 rfl) rfl
theorem q1111 : (Jvm.Cond.selects "NineDemands$Turns" ({ cls := "NineDemands$Demand", name := "lay", desc := "(LNineDemands$Facts;)V" } : Jvm.MethodName) ({ cls := "NineDemands$Demand", name := "lay", desc := "(LNineDemands$Facts;)V" } : Jvm.MethodName)) ∈ lw_all := lw_g (lw_at lw_m5 61 rfl) rfl
theorem q1183 : (Jvm.Cond.selects "NineDemands$Turns" ({ cls := "NineDemands$Demand", name := "casesOf", desc := "(I)V" } : Jvm.MethodName) ({ cls := "NineDemands$Turns", name := "casesOf", desc := "(I)V" } : Jvm.MethodName)) ∈ lw_all := lw_g (lw_at lw_m5 133 rfl) rfl
theorem q1184 : (Jvm.Cond.instanceMethod ({ cls := "NineDemands$Turns", name := "casesOf", desc := "(I)V" } : Jvm.MethodName)) ∈ lw_all := lw_g (lw_at lw_m5 134 rfl) rfl
theorem q1185 : (Jvm.Cond.code ({ cls := "NineDemands$Turns", name := "casesOf", desc := "(I)V" } : Jvm.MethodName) prog_27_method_6_code (2 : Nat) (Option.none : Option Jvm.ClassFile.FieldType)) ∈ lw_all := lw_g (lw_at lw_m5 135 rfl) rfl
theorem q1186 : (Jvm.Cond.methodLinkNest "NineDemands$Turns" (35 : Nat) ({ cls := "NineDemands", name := "peopleOf", desc := "(I)I" } : Jvm.MethodName) "NineDemands") ∈ lw_tbl := lw_at lw_m5 136 rfl
theorem q1187 : (Jvm.Cond.methodLinkNest "NineDemands$Turns" (39 : Nat) ({ cls := "NineDemands", name := "changed", desc := "(II)I" } : Jvm.MethodName) "NineDemands") ∈ lw_tbl := lw_at lw_m5 137 rfl
theorem q1188 : (Jvm.Cond.methodLink "NineDemands$Turns" (43 : Nat) ({ cls := "NineDemands$Cases", name := "add", desc := "(III)V" } : Jvm.MethodName)) ∈ lw_all := lw_g (lw_at lw_m5 138 rfl) rfl
theorem q1203 : (Jvm.Cond.selects "NineDemands$Turns" ({ cls := "NineDemands$Demand", name := "isSo", desc := "(LNineDemands$Facts;III)Z" } : Jvm.MethodName) ({ cls := "NineDemands$Turns", name := "isSo", desc := "(LNineDemands$Facts;III)Z" } : Jvm.MethodName)) ∈ lw_all := lw_g (lw_at lw_m5 153 rfl) rfl
theorem q1204 : (Jvm.Cond.instanceMethod ({ cls := "NineDemands$Turns", name := "isSo", desc := "(LNineDemands$Facts;III)Z" } : Jvm.MethodName)) ∈ lw_all := lw_g (lw_at lw_m5 154 rfl) rfl
theorem q1205 : (Jvm.Cond.code ({ cls := "NineDemands$Turns", name := "isSo", desc := "(LNineDemands$Facts;III)Z" } : Jvm.MethodName) prog_27_method_7_code (5 : Nat) (Option.some Jvm.ClassFile.FieldType.boolean)) ∈ lw_all := lw_g (lw_at lw_m5 155 rfl) rfl
theorem q1206 : (Jvm.Cond.methodLinkNest "NineDemands$Turns" (49 : Nat) ({ cls := "NineDemands", name := "turnedChoice", desc := "(I)I" } : Jvm.MethodName) "NineDemands") ∈ lw_tbl := lw_at lw_m5 156 rfl
theorem q1231 : (Jvm.Cond.selects "NineDemands$Turns" ({ cls := "NineDemands$Demand", name := "tell", desc := "(LNineDemands$Facts;III)V" } : Jvm.MethodName) ({ cls := "NineDemands$Moved", name := "tell", desc := "(LNineDemands$Facts;III)V" } : Jvm.MethodName)) ∈ lw_all := lw_g (lw_at lw_m5 181 rfl) rfl
theorem q1304 : (Jvm.Cond.selects "NineDemands$Turns" ({ cls := "java/lang/Object", name := "getClass", desc := "()Ljava/lang/Class;" } : Jvm.MethodName) ({ cls := "java/lang/Object", name := "getClass", desc := "()Ljava/lang/Class;" } : Jvm.MethodName)) ∈ lw_all := lw_g (lw_at lw_m6 14 rfl) rfl
theorem q1367 : (Jvm.Cond.selects "NineDemands$Turns" ({ cls := "NineDemands$Demand", name := "isOf", desc := "(I)Z" } : Jvm.MethodName) ({ cls := "NineDemands$Turns", name := "isOf", desc := "(I)Z" } : Jvm.MethodName)) ∈ lw_all := lw_g (lw_at lw_m6 77 rfl) rfl
theorem q1368 : (Jvm.Cond.instanceMethod ({ cls := "NineDemands$Turns", name := "isOf", desc := "(I)Z" } : Jvm.MethodName)) ∈ lw_all := lw_g (lw_at lw_m6 78 rfl) rfl
theorem q1369 : (Jvm.Cond.code ({ cls := "NineDemands$Turns", name := "isOf", desc := "(I)Z" } : Jvm.MethodName) prog_27_method_3_code (2 : Nat) (Option.some Jvm.ClassFile.FieldType.boolean)) ∈ lw_all := lw_g (lw_at lw_m6 79 rfl) rfl
theorem q1370 : (Jvm.Cond.methodLink "NineDemands$Turns" (9 : Nat) ({ cls := "NineDemands$Moved", name := "isOf", desc := "(I)Z" } : Jvm.MethodName)) ∈ lw_all := lw_g (lw_at lw_m6 80 rfl) rfl
theorem q1396 : (Jvm.Cond.selects "NineDemands$Turns" ({ cls := "NineDemands$Demand", name := "goes", desc := "(III)Z" } : Jvm.MethodName) ({ cls := "NineDemands$Demand", name := "goes", desc := "(III)Z" } : Jvm.MethodName)) ∈ lw_all := lw_g (lw_at lw_m6 106 rfl) rfl
theorem q1696 : (Jvm.Cond.castable "NineDemands$Turns" "NineDemands$Bids") ∈ lw_tbl := lw_at lw_m7 166 rfl
theorem q1697 : (Jvm.Cond.selects "NineDemands$Turns" ({ cls := "NineDemands$Bids", name := "bids", desc := "(I)I" } : Jvm.MethodName) ({ cls := "NineDemands$Demand", name := "bids", desc := "(I)I" } : Jvm.MethodName)) ∈ lw_all := lw_g (lw_at lw_m7 167 rfl) rfl
theorem q1698 : (Jvm.Cond.unhidden "NineDemands$Turns" "bids" "(I)I") ∈ lw_tbl := lw_at lw_m7 168 rfl
theorem q1720 : (Jvm.Cond.selects "NineDemands$Turns" ({ cls := "NineDemands$Moved", name := "yields", desc := "(I)I" } : Jvm.MethodName) ({ cls := "NineDemands$Turns", name := "yields", desc := "(I)I" } : Jvm.MethodName)) ∈ lw_all := lw_g (lw_at lw_m7 190 rfl) rfl
theorem q1721 : (Jvm.Cond.instanceMethod ({ cls := "NineDemands$Turns", name := "yields", desc := "(I)I" } : Jvm.MethodName)) ∈ lw_all := lw_g (lw_at lw_m7 191 rfl) rfl
theorem q1722 : (Jvm.Cond.code ({ cls := "NineDemands$Turns", name := "yields", desc := "(I)I" } : Jvm.MethodName) prog_27_method_8_code (2 : Nat) (Option.some Jvm.ClassFile.FieldType.int)) ∈ lw_all := lw_g (lw_at lw_m7 192 rfl) rfl
theorem q1723 : (Jvm.Cond.methodLink "NineDemands$Turns" (52 : Nat) ({ cls := "NineDemands$Trace", name := "begins", desc := "(I)V" } : Jvm.MethodName)) ∈ lw_all := lw_g (lw_at lw_m7 193 rfl) rfl
theorem q1724 : (Jvm.Cond.methodLink "NineDemands$Turns" (58 : Nat) ({ cls := "NineDemands$Moved", name := "yields", desc := "(I)I" } : Jvm.MethodName)) ∈ lw_all := lw_g (lw_at lw_m7 194 rfl) rfl
theorem q1745 : (Jvm.Cond.castable "NineDemands$Turns" "NineDemands$Bars") ∈ lw_tbl := lw_at lw_m7 215 rfl
theorem q1746 : (Jvm.Cond.selects "NineDemands$Turns" ({ cls := "NineDemands$Bars", name := "bars", desc := "(I)I" } : Jvm.MethodName) ({ cls := "NineDemands$Moved", name := "bars", desc := "(I)I" } : Jvm.MethodName)) ∈ lw_all := lw_g (lw_at lw_m7 216 rfl) rfl
theorem q1747 : (Jvm.Cond.unhidden "NineDemands$Turns" "bars" "(I)I") ∈ lw_tbl := lw_at lw_m7 217 rfl
theorem q1773 : (Jvm.Cond.castable "NineDemands$Turns" "NineDemands$Yields") ∈ lw_tbl := lw_at lw_m8 3 rfl
theorem q1774 : (Jvm.Cond.selects "NineDemands$Turns" ({ cls := "NineDemands$Yields", name := "yields", desc := "(I)I" } : Jvm.MethodName) ({ cls := "NineDemands$Turns", name := "yields", desc := "(I)I" } : Jvm.MethodName)) ∈ lw_all := lw_g (lw_at lw_m8 4 rfl) rfl
theorem q1775 : (Jvm.Cond.unhidden "NineDemands$Turns" "yields" "(I)I") ∈ lw_tbl := lw_at lw_m8 5 rfl
theorem q1776 : (Jvm.Cond.publicMethod ({ cls := "NineDemands$Turns", name := "yields", desc := "(I)I" } : Jvm.MethodName)) ∈ lw_tbl := lw_at lw_m8 6 rfl
theorem q1814 : (Jvm.Cond.castable "NineDemands$Turns" "NineDemands$Stands") ∈ lw_tbl := lw_at lw_m8 44 rfl
theorem q1815 : (Jvm.Cond.selects "NineDemands$Turns" ({ cls := "NineDemands$Stands", name := "stands", desc := "(I)I" } : Jvm.MethodName) ({ cls := "NineDemands$Demand", name := "stands", desc := "(I)I" } : Jvm.MethodName)) ∈ lw_all := lw_g (lw_at lw_m8 45 rfl) rfl
theorem q1816 : (Jvm.Cond.unhidden "NineDemands$Turns" "stands" "(I)I") ∈ lw_tbl := lw_at lw_m8 46 rfl
theorem q1922 : (Jvm.Cond.selects "NineDemands$Turns" ({ cls := "NineDemands$Demand", name := "again", desc := "()LNineDemands$Demand;" } : Jvm.MethodName) ({ cls := "NineDemands$Demand", name := "again", desc := "()LNineDemands$Demand;" } : Jvm.MethodName)) ∈ lw_all := lw_g (lw_at lw_m8 152 rfl) rfl
theorem q1948 : (Jvm.Cond.selects "NineDemands$Turns" ({ cls := "NineDemands$Demand", name := "another", desc := "()LNineDemands$Demand;" } : Jvm.MethodName) ({ cls := "NineDemands$Turns", name := "another", desc := "()LNineDemands$Demand;" } : Jvm.MethodName)) ∈ lw_all := lw_g (lw_at lw_m8 178 rfl) rfl
theorem q1949 : (Jvm.Cond.instanceMethod ({ cls := "NineDemands$Turns", name := "another", desc := "()LNineDemands$Demand;" } : Jvm.MethodName)) ∈ lw_all := lw_g (lw_at lw_m8 179 rfl) rfl
theorem q1950 : (Jvm.Cond.code ({ cls := "NineDemands$Turns", name := "another", desc := "()LNineDemands$Demand;" } : Jvm.MethodName) prog_27_method_5_code (1 : Nat) (Option.some (Jvm.ClassFile.FieldType.object "NineDemands$Demand"))) ∈ lw_all := lw_g (lw_at lw_m8 180 rfl) rfl
theorem q1951 : (Jvm.Cond.classLink "NineDemands$Turns" (17 : Nat) "NineDemands$Turns") ∈ lw_all := lw_g (lw_at lw_m8 181 rfl) rfl
theorem q1952 : (Jvm.Cond.methodLink "NineDemands$Turns" (30 : Nat) ({ cls := "NineDemands$Turns", name := "<init>", desc := "(LNineDemands$Trace;II)V" } : Jvm.MethodName)) ∈ lw_all := lw_g (lw_at lw_m8 182 rfl) rfl
theorem q2498 : (Jvm.Cond.selects "NineDemands$Turns" ({ cls := "NineDemands$Demand", name := "bids", desc := "(I)I" } : Jvm.MethodName) ({ cls := "NineDemands$Demand", name := "bids", desc := "(I)I" } : Jvm.MethodName)) ∈ lw_all := lw_g (lw_at lw_m11 8 rfl) rfl
theorem q2507 : (Jvm.Cond.selects "NineDemands$Turns" ({ cls := "NineDemands$Demand", name := "bars", desc := "(I)I" } : Jvm.MethodName) ({ cls := "NineDemands$Moved", name := "bars", desc := "(I)I" } : Jvm.MethodName)) ∈ lw_all := lw_g (lw_at lw_m11 17 rfl) rfl
theorem q2513 : (Jvm.Cond.selects "NineDemands$Turns" ({ cls := "NineDemands$Demand", name := "yields", desc := "(I)I" } : Jvm.MethodName) ({ cls := "NineDemands$Turns", name := "yields", desc := "(I)I" } : Jvm.MethodName)) ∈ lw_all := lw_g (lw_at lw_m11 23 rfl) rfl
theorem q2521 : (Jvm.Cond.castable "NineDemands$Turns" "NineDemands$Demand") ∈ lw_tbl := lw_at lw_m11 31 rfl
theorem q2535 : (Jvm.Cond.castable "NineDemands$Turns" "java/lang/Object") ∈ lw_tbl := lw_at lw_m11 45 rfl
theorem in_X13 : ∀ w ∈ wsX130, w ∈ lw_all := lw_in wsX130 [610, 611, 612, 613, 614] (by decide +kernel) (by decide +kernel)
/-! NineDemands$Comes -/
set_option maxRecDepth 100000
def RX14 : String := "NineDemands$Comes"
def TX14 : u_T := fun k => match k with
  | 0 => ("NineDemands$Demand", "trace", "LNineDemands$Trace;", true)
  | 1 => ("NineDemands$Demand", "number", "I", true)
  | 2 => ("NineDemands$Demand", "price", "I", false)
  | 3 => ("NineDemands$Demand", "text", "LNineDemands$Term;", false)
  | _ => ("NineDemands$Demand", "cases", "LNineDemands$Cases;", false)
def tyX14 : Nat → FieldType := fun k => match k with
  | 0 => .object "NineDemands$Trace"
  | 1 => .int
  | 2 => .int
  | 3 => .object "NineDemands$Term"
  | _ => .object "NineDemands$Cases"
abbrev wsX140 : List Cond := u_ws RX14 TX14 5
theorem nmX14 : ∀ a, a < 5 → ∀ b, b < 5 → a ≠ b → (TX14 a).2.1 ≠ (TX14 b).2.1 := by decide +kernel
theorem tyX14_ok : ∀ k, k < 5 → parseFieldDescriptor (TX14 k).2.2.1 = some (tyX14 k) := by decide +kernel
abbrev cX14_init : ByteArray := prog_7_method_1_code
def yX14_init : MethodName := ⟨RX14, "<init>", "(LNineDemands$Trace;II)V"⟩
def dkwX14_init_0 : List UInt8 := [42, 43, 28, 29, 183, 0, 3, 177]
abbrev dktX14_init_0 : List UInt8 := dkwX14_init_0 ++ []
theorem dksX14_init_0 : cX14_init.data.toList.drop 0 = dktX14_init_0 := by decide +kernel
theorem dX14_init_0 : decode cX14_init 0 = .ok (.aload_n 0, 1) := dk_42 (dk_at dksX14_init_0 0 rfl rfl)
theorem dX14_init_1 : decode cX14_init 1 = .ok (.aload_n 1, 1) := dk_43 (dk_at dksX14_init_0 1 rfl rfl)
theorem dX14_init_2 : decode cX14_init 2 = .ok (.iload_n 2, 1) := dk_28 (dk_at dksX14_init_0 2 rfl rfl)
theorem dX14_init_3 : decode cX14_init 3 = .ok (.iload_n 3, 1) := dk_29 (dk_at dksX14_init_0 3 rfl rfl)
theorem dX14_init_4 : decode cX14_init 4 = .ok (.invokespecial 3, 3) := dk_183 0 3 (dk_at dksX14_init_0 4 rfl rfl)
theorem dX14_init_7 : decode cX14_init 7 = .ok (.return_, 1) := dk_177 (dk_at dksX14_init_0 7 rfl rfl)
abbrev cX14_names : ByteArray := prog_7_method_4_code
def yX14_names : MethodName := ⟨RX14, "names", "()Ljava/lang/String;"⟩
theorem dX14_names_0 : decode cX14_names 0 = .ok (.aload_n 0, 1) := by decide +kernel
theorem dX14_names_1 : decode cX14_names 1 = .ok (.invokevirtual 13, 3) := by decide +kernel
theorem dX14_names_4 : decode cX14_names 4 = .ok (.areturn, 1) := by decide +kernel
abbrev cX14_casesOf : ByteArray := prog_7_method_6_code
def yX14_casesOf : MethodName := ⟨RX14, "casesOf", "(I)V"⟩
def dkwX14_casesOf_1 : List UInt8 := [5, 182, 0, 35, 132, 2, 1, 167, 255, 227, 177]
abbrev dktX14_casesOf_1 : List UInt8 := dkwX14_casesOf_1 ++ []
def dkwX14_casesOf_0 : List UInt8 := [3, 61, 28, 5, 162, 0, 30, 27, 7, 162, 0, 25, 42, 180, 0, 31, 27, 7, 27, 96, 7, 28, 104, 96]
abbrev dktX14_casesOf_0 : List UInt8 := dkwX14_casesOf_0 ++ dktX14_casesOf_1
theorem dksX14_casesOf_0 : cX14_casesOf.data.toList.drop 0 = dktX14_casesOf_0 := by decide +kernel
theorem dksX14_casesOf_1 : cX14_casesOf.data.toList.drop 24 = dktX14_casesOf_1 := dk_seg dksX14_casesOf_0 24 rfl rfl
theorem dX14_casesOf_0 : decode cX14_casesOf 0 = .ok (.iconst 0, 1) := dk_3 (dk_at dksX14_casesOf_0 0 rfl rfl)
theorem dX14_casesOf_1 : decode cX14_casesOf 1 = .ok (.istore_n 2, 1) := dk_61 (dk_at dksX14_casesOf_0 1 rfl rfl)
theorem dX14_casesOf_2 : decode cX14_casesOf 2 = .ok (.iload_n 2, 1) := dk_28 (dk_at dksX14_casesOf_0 2 rfl rfl)
theorem dX14_casesOf_3 : decode cX14_casesOf 3 = .ok (.iconst 2, 1) := dk_5 (dk_at dksX14_casesOf_0 3 rfl rfl)
theorem dX14_casesOf_4 : decode cX14_casesOf 4 = .ok (.if_icmp .ge 30, 3) := dk_162 0 30 (dk_at dksX14_casesOf_0 4 rfl rfl)
theorem dX14_casesOf_7 : decode cX14_casesOf 7 = .ok (.iload_n 1, 1) := dk_27 (dk_at dksX14_casesOf_0 7 rfl rfl)
theorem dX14_casesOf_8 : decode cX14_casesOf 8 = .ok (.iconst 4, 1) := dk_7 (dk_at dksX14_casesOf_0 8 rfl rfl)
theorem dX14_casesOf_9 : decode cX14_casesOf 9 = .ok (.if_icmp .ge 25, 3) := dk_162 0 25 (dk_at dksX14_casesOf_0 9 rfl rfl)
theorem dX14_casesOf_12 : decode cX14_casesOf 12 = .ok (.aload_n 0, 1) := dk_42 (dk_at dksX14_casesOf_0 12 rfl rfl)
theorem dX14_casesOf_13 : decode cX14_casesOf 13 = .ok (.getfield 31, 3) := dk_180 0 31 (dk_at dksX14_casesOf_0 13 rfl rfl)
theorem dX14_casesOf_16 : decode cX14_casesOf 16 = .ok (.iload_n 1, 1) := dk_27 (dk_at dksX14_casesOf_0 16 rfl rfl)
theorem dX14_casesOf_17 : decode cX14_casesOf 17 = .ok (.iconst 4, 1) := dk_7 (dk_at dksX14_casesOf_0 17 rfl rfl)
theorem dX14_casesOf_18 : decode cX14_casesOf 18 = .ok (.iload_n 1, 1) := dk_27 (dk_at dksX14_casesOf_0 18 rfl rfl)
theorem dX14_casesOf_19 : decode cX14_casesOf 19 = .ok (.iadd, 1) := dk_96 (dk_at dksX14_casesOf_0 19 rfl rfl)
theorem dX14_casesOf_20 : decode cX14_casesOf 20 = .ok (.iconst 4, 1) := dk_7 (dk_at dksX14_casesOf_0 20 rfl rfl)
theorem dX14_casesOf_21 : decode cX14_casesOf 21 = .ok (.iload_n 2, 1) := dk_28 (dk_at dksX14_casesOf_0 21 rfl rfl)
theorem dX14_casesOf_22 : decode cX14_casesOf 22 = .ok (.imul, 1) := dk_104 (dk_at dksX14_casesOf_0 22 rfl rfl)
theorem dX14_casesOf_23 : decode cX14_casesOf 23 = .ok (.iadd, 1) := dk_96 (dk_at dksX14_casesOf_0 23 rfl rfl)
theorem dX14_casesOf_24 : decode cX14_casesOf 24 = .ok (.iconst 2, 1) := dk_5 (dk_at dksX14_casesOf_1 0 rfl rfl)
theorem dX14_casesOf_25 : decode cX14_casesOf 25 = .ok (.invokevirtual 35, 3) := dk_182 0 35 (dk_at dksX14_casesOf_1 1 rfl rfl)
theorem dX14_casesOf_28 : decode cX14_casesOf 28 = .ok (.iinc 2 1, 3) := dk_132 2 1 (dk_at dksX14_casesOf_1 4 rfl rfl)
theorem dX14_casesOf_31 : decode cX14_casesOf 31 = .ok (.goto (-29), 3) := dk_167 255 227 (dk_at dksX14_casesOf_1 7 rfl rfl)
theorem dX14_casesOf_34 : decode cX14_casesOf 34 = .ok (.return_, 1) := dk_177 (dk_at dksX14_casesOf_1 10 rfl rfl)
abbrev cX14_tell : ByteArray := prog_7_method_7_code
def yX14_tell : MethodName := ⟨RX14, "tell", "(LNineDemands$Facts;III)V"⟩
def dkwX14_tell_1 : List UInt8 := [184, 0, 49, 182, 0, 53, 87, 177]
abbrev dktX14_tell_1 : List UInt8 := dkwX14_tell_1 ++ []
def dkwX14_tell_0 : List UInt8 := [42, 43, 28, 29, 21, 4, 183, 0, 41, 43, 16, 119, 42, 180, 0, 31, 180, 0, 45, 28, 46, 5]
abbrev dktX14_tell_0 : List UInt8 := dkwX14_tell_0 ++ dktX14_tell_1
theorem dksX14_tell_0 : cX14_tell.data.toList.drop 0 = dktX14_tell_0 := by decide +kernel
theorem dksX14_tell_1 : cX14_tell.data.toList.drop 22 = dktX14_tell_1 := dk_seg dksX14_tell_0 22 rfl rfl
theorem dX14_tell_0 : decode cX14_tell 0 = .ok (.aload_n 0, 1) := dk_42 (dk_at dksX14_tell_0 0 rfl rfl)
theorem dX14_tell_1 : decode cX14_tell 1 = .ok (.aload_n 1, 1) := dk_43 (dk_at dksX14_tell_0 1 rfl rfl)
theorem dX14_tell_2 : decode cX14_tell 2 = .ok (.iload_n 2, 1) := dk_28 (dk_at dksX14_tell_0 2 rfl rfl)
theorem dX14_tell_3 : decode cX14_tell 3 = .ok (.iload_n 3, 1) := dk_29 (dk_at dksX14_tell_0 3 rfl rfl)
theorem dX14_tell_4 : decode cX14_tell 4 = .ok (.iload 4, 2) := dk_21 4 (dk_at dksX14_tell_0 4 rfl rfl)
theorem dX14_tell_6 : decode cX14_tell 6 = .ok (.invokespecial 41, 3) := dk_183 0 41 (dk_at dksX14_tell_0 6 rfl rfl)
theorem dX14_tell_9 : decode cX14_tell 9 = .ok (.aload_n 1, 1) := dk_43 (dk_at dksX14_tell_0 9 rfl rfl)
theorem dX14_tell_10 : decode cX14_tell 10 = .ok (.bipush 119, 2) := dk_16 119 (dk_at dksX14_tell_0 10 rfl rfl)
theorem dX14_tell_12 : decode cX14_tell 12 = .ok (.aload_n 0, 1) := dk_42 (dk_at dksX14_tell_0 12 rfl rfl)
theorem dX14_tell_13 : decode cX14_tell 13 = .ok (.getfield 31, 3) := dk_180 0 31 (dk_at dksX14_tell_0 13 rfl rfl)
theorem dX14_tell_16 : decode cX14_tell 16 = .ok (.getfield 45, 3) := dk_180 0 45 (dk_at dksX14_tell_0 16 rfl rfl)
theorem dX14_tell_19 : decode cX14_tell 19 = .ok (.iload_n 2, 1) := dk_28 (dk_at dksX14_tell_0 19 rfl rfl)
theorem dX14_tell_20 : decode cX14_tell 20 = .ok (.iaload, 1) := dk_46 (dk_at dksX14_tell_0 20 rfl rfl)
theorem dX14_tell_21 : decode cX14_tell 21 = .ok (.iconst 2, 1) := dk_5 (dk_at dksX14_tell_0 21 rfl rfl)
theorem dX14_tell_22 : decode cX14_tell 22 = .ok (.invokestatic 49, 3) := dk_184 0 49 (dk_at dksX14_tell_1 0 rfl rfl)
theorem dX14_tell_25 : decode cX14_tell 25 = .ok (.invokevirtual 53, 3) := dk_182 0 53 (dk_at dksX14_tell_1 3 rfl rfl)
theorem dX14_tell_28 : decode cX14_tell 28 = .ok (.pop, 1) := dk_87 (dk_at dksX14_tell_1 6 rfl rfl)
theorem dX14_tell_29 : decode cX14_tell 29 = .ok (.return_, 1) := dk_177 (dk_at dksX14_tell_1 7 rfl rfl)
abbrev cX14_isOf : ByteArray := prog_7_method_3_code
def yX14_isOf : MethodName := ⟨RX14, "isOf", "(I)Z"⟩
def dkwX14_isOf_0 : List UInt8 := [27, 7, 159, 0, 11, 42, 27, 183, 0, 9, 153, 0, 7, 4, 167, 0, 4, 3, 172]
abbrev dktX14_isOf_0 : List UInt8 := dkwX14_isOf_0 ++ []
theorem dksX14_isOf_0 : cX14_isOf.data.toList.drop 0 = dktX14_isOf_0 := by decide +kernel
theorem dX14_isOf_0 : decode cX14_isOf 0 = .ok (.iload_n 1, 1) := dk_27 (dk_at dksX14_isOf_0 0 rfl rfl)
theorem dX14_isOf_1 : decode cX14_isOf 1 = .ok (.iconst 4, 1) := dk_7 (dk_at dksX14_isOf_0 1 rfl rfl)
theorem dX14_isOf_2 : decode cX14_isOf 2 = .ok (.if_icmp .eq 11, 3) := dk_159 0 11 (dk_at dksX14_isOf_0 2 rfl rfl)
theorem dX14_isOf_5 : decode cX14_isOf 5 = .ok (.aload_n 0, 1) := dk_42 (dk_at dksX14_isOf_0 5 rfl rfl)
theorem dX14_isOf_6 : decode cX14_isOf 6 = .ok (.iload_n 1, 1) := dk_27 (dk_at dksX14_isOf_0 6 rfl rfl)
theorem dX14_isOf_7 : decode cX14_isOf 7 = .ok (.invokespecial 9, 3) := dk_183 0 9 (dk_at dksX14_isOf_0 7 rfl rfl)
theorem dX14_isOf_10 : decode cX14_isOf 10 = .ok (.ifCond .eq 7, 3) := dk_153 0 7 (dk_at dksX14_isOf_0 10 rfl rfl)
theorem dX14_isOf_13 : decode cX14_isOf 13 = .ok (.iconst 1, 1) := dk_4 (dk_at dksX14_isOf_0 13 rfl rfl)
theorem dX14_isOf_14 : decode cX14_isOf 14 = .ok (.goto 4, 3) := dk_167 0 4 (dk_at dksX14_isOf_0 14 rfl rfl)
theorem dX14_isOf_17 : decode cX14_isOf 17 = .ok (.iconst 0, 1) := dk_3 (dk_at dksX14_isOf_0 17 rfl rfl)
theorem dX14_isOf_18 : decode cX14_isOf 18 = .ok (.ireturn, 1) := dk_172 (dk_at dksX14_isOf_0 18 rfl rfl)
abbrev cX14_bars : ByteArray := prog_7_method_9_code
def yX14_bars : MethodName := ⟨RX14, "bars", "(I)I"⟩
def dkwX14_bars_0 : List UInt8 := [42, 180, 0, 19, 16, 51, 182, 0, 59, 42, 27, 42, 180, 0, 27, 100, 183, 0, 72, 172]
abbrev dktX14_bars_0 : List UInt8 := dkwX14_bars_0 ++ []
theorem dksX14_bars_0 : cX14_bars.data.toList.drop 0 = dktX14_bars_0 := by decide +kernel
theorem dX14_bars_0 : decode cX14_bars 0 = .ok (.aload_n 0, 1) := dk_42 (dk_at dksX14_bars_0 0 rfl rfl)
theorem dX14_bars_1 : decode cX14_bars 1 = .ok (.getfield 19, 3) := dk_180 0 19 (dk_at dksX14_bars_0 1 rfl rfl)
theorem dX14_bars_4 : decode cX14_bars 4 = .ok (.bipush 51, 2) := dk_16 51 (dk_at dksX14_bars_0 4 rfl rfl)
theorem dX14_bars_6 : decode cX14_bars 6 = .ok (.invokevirtual 59, 3) := dk_182 0 59 (dk_at dksX14_bars_0 6 rfl rfl)
theorem dX14_bars_9 : decode cX14_bars 9 = .ok (.aload_n 0, 1) := dk_42 (dk_at dksX14_bars_0 9 rfl rfl)
theorem dX14_bars_10 : decode cX14_bars 10 = .ok (.iload_n 1, 1) := dk_27 (dk_at dksX14_bars_0 10 rfl rfl)
theorem dX14_bars_11 : decode cX14_bars 11 = .ok (.aload_n 0, 1) := dk_42 (dk_at dksX14_bars_0 11 rfl rfl)
theorem dX14_bars_12 : decode cX14_bars 12 = .ok (.getfield 27, 3) := dk_180 0 27 (dk_at dksX14_bars_0 12 rfl rfl)
theorem dX14_bars_15 : decode cX14_bars 15 = .ok (.isub, 1) := dk_100 (dk_at dksX14_bars_0 15 rfl rfl)
theorem dX14_bars_16 : decode cX14_bars 16 = .ok (.invokespecial 72, 3) := dk_183 0 72 (dk_at dksX14_bars_0 16 rfl rfl)
theorem dX14_bars_19 : decode cX14_bars 19 = .ok (.ireturn, 1) := dk_172 (dk_at dksX14_bars_0 19 rfl rfl)
abbrev cX14_stands : ByteArray := prog_7_method_8_code
def yX14_stands : MethodName := ⟨RX14, "stands", "(I)I"⟩
def dkwX14_stands_0 : List UInt8 := [42, 180, 0, 19, 16, 50, 182, 0, 59, 42, 27, 182, 0, 65, 61, 28, 42, 27, 183, 0, 69, 100, 172]
abbrev dktX14_stands_0 : List UInt8 := dkwX14_stands_0 ++ []
theorem dksX14_stands_0 : cX14_stands.data.toList.drop 0 = dktX14_stands_0 := by decide +kernel
theorem dX14_stands_0 : decode cX14_stands 0 = .ok (.aload_n 0, 1) := dk_42 (dk_at dksX14_stands_0 0 rfl rfl)
theorem dX14_stands_1 : decode cX14_stands 1 = .ok (.getfield 19, 3) := dk_180 0 19 (dk_at dksX14_stands_0 1 rfl rfl)
theorem dX14_stands_4 : decode cX14_stands 4 = .ok (.bipush 50, 2) := dk_16 50 (dk_at dksX14_stands_0 4 rfl rfl)
theorem dX14_stands_6 : decode cX14_stands 6 = .ok (.invokevirtual 59, 3) := dk_182 0 59 (dk_at dksX14_stands_0 6 rfl rfl)
theorem dX14_stands_9 : decode cX14_stands 9 = .ok (.aload_n 0, 1) := dk_42 (dk_at dksX14_stands_0 9 rfl rfl)
theorem dX14_stands_10 : decode cX14_stands 10 = .ok (.iload_n 1, 1) := dk_27 (dk_at dksX14_stands_0 10 rfl rfl)
theorem dX14_stands_11 : decode cX14_stands 11 = .ok (.invokevirtual 65, 3) := dk_182 0 65 (dk_at dksX14_stands_0 11 rfl rfl)
theorem dX14_stands_14 : decode cX14_stands 14 = .ok (.istore_n 2, 1) := dk_61 (dk_at dksX14_stands_0 14 rfl rfl)
theorem dX14_stands_15 : decode cX14_stands 15 = .ok (.iload_n 2, 1) := dk_28 (dk_at dksX14_stands_0 15 rfl rfl)
theorem dX14_stands_16 : decode cX14_stands 16 = .ok (.aload_n 0, 1) := dk_42 (dk_at dksX14_stands_0 16 rfl rfl)
theorem dX14_stands_17 : decode cX14_stands 17 = .ok (.iload_n 1, 1) := dk_27 (dk_at dksX14_stands_0 17 rfl rfl)
theorem dX14_stands_18 : decode cX14_stands 18 = .ok (.invokespecial 69, 3) := dk_183 0 69 (dk_at dksX14_stands_0 18 rfl rfl)
theorem dX14_stands_21 : decode cX14_stands 21 = .ok (.isub, 1) := dk_100 (dk_at dksX14_stands_0 21 rfl rfl)
theorem dX14_stands_22 : decode cX14_stands 22 = .ok (.ireturn, 1) := dk_172 (dk_at dksX14_stands_0 22 rfl rfl)
abbrev cX14_another : ByteArray := prog_7_method_5_code
def yX14_another : MethodName := ⟨RX14, "another", "()LNineDemands$Demand;"⟩
def dkwX14_another_0 : List UInt8 := [187, 0, 14, 89, 42, 180, 0, 19, 42, 180, 0, 23, 42, 180, 0, 27, 183, 0, 30, 176]
abbrev dktX14_another_0 : List UInt8 := dkwX14_another_0 ++ []
theorem dksX14_another_0 : cX14_another.data.toList.drop 0 = dktX14_another_0 := by decide +kernel
theorem dX14_another_0 : decode cX14_another 0 = .ok (.new 14, 3) := dk_187 0 14 (dk_at dksX14_another_0 0 rfl rfl)
theorem dX14_another_3 : decode cX14_another 3 = .ok (.dup, 1) := dk_89 (dk_at dksX14_another_0 3 rfl rfl)
theorem dX14_another_4 : decode cX14_another 4 = .ok (.aload_n 0, 1) := dk_42 (dk_at dksX14_another_0 4 rfl rfl)
theorem dX14_another_5 : decode cX14_another 5 = .ok (.getfield 19, 3) := dk_180 0 19 (dk_at dksX14_another_0 5 rfl rfl)
theorem dX14_another_8 : decode cX14_another 8 = .ok (.aload_n 0, 1) := dk_42 (dk_at dksX14_another_0 8 rfl rfl)
theorem dX14_another_9 : decode cX14_another 9 = .ok (.getfield 23, 3) := dk_180 0 23 (dk_at dksX14_another_0 9 rfl rfl)
theorem dX14_another_12 : decode cX14_another 12 = .ok (.aload_n 0, 1) := dk_42 (dk_at dksX14_another_0 12 rfl rfl)
theorem dX14_another_13 : decode cX14_another 13 = .ok (.getfield 27, 3) := dk_180 0 27 (dk_at dksX14_another_0 13 rfl rfl)
theorem dX14_another_16 : decode cX14_another 16 = .ok (.invokespecial 30, 3) := dk_183 0 30 (dk_at dksX14_another_0 16 rfl rfl)
theorem dX14_another_19 : decode cX14_another 19 = .ok (.areturn, 1) := dk_176 (dk_at dksX14_another_0 19 rfl rfl)
theorem q112 : (Jvm.Cond.initialized "NineDemands$Comes") ∈ lw_all := lw_g (lw_at lw_m1 22 rfl) rfl
theorem q533 : (Jvm.Cond.fieldLink "NineDemands$Comes" (19 : Nat) "NineDemands$Comes" "trace" "LNineDemands$Trace;") ∈ lw_all := lw_g (lw_at lw_m2 203 rfl) rfl
theorem q534 : (Jvm.Cond.sameField "NineDemands$Comes" "NineDemands$Demand" "trace" "LNineDemands$Trace;") ∈ lw_all := lw_g (lw_at lw_m2 204 rfl) rfl
theorem q544 : (Jvm.Cond.fieldLink "NineDemands$Comes" (23 : Nat) "NineDemands$Comes" "number" "I") ∈ lw_all := lw_g (lw_at lw_m2 214 rfl) rfl
theorem q545 : (Jvm.Cond.sameField "NineDemands$Comes" "NineDemands$Demand" "number" "I") ∈ lw_all := lw_g (lw_at lw_m2 215 rfl) rfl
theorem q556 : (Jvm.Cond.fieldLink "NineDemands$Comes" (27 : Nat) "NineDemands$Comes" "price" "I") ∈ lw_all := lw_g (lw_at lw_m2 226 rfl) rfl
theorem q557 : (Jvm.Cond.sameField "NineDemands$Comes" "NineDemands$Demand" "price" "I") ∈ lw_all := lw_g (lw_at lw_m2 227 rfl) rfl
theorem q573 : (Jvm.Cond.fieldLink "NineDemands$Comes" (31 : Nat) "NineDemands$Comes" "cases" "LNineDemands$Cases;") ∈ lw_all := lw_g (lw_at lw_m3 3 rfl) rfl
theorem q574 : (Jvm.Cond.sameField "NineDemands$Comes" "NineDemands$Demand" "cases" "LNineDemands$Cases;") ∈ lw_all := lw_g (lw_at lw_m3 4 rfl) rfl
theorem q617 : (Jvm.Cond.instantiable "NineDemands$Comes" (5 : Nat)) ∈ lw_all := lw_g (lw_at lw_m3 47 rfl) rfl
theorem q619 : (Jvm.Cond.instanceMethod ({ cls := "NineDemands$Comes", name := "<init>", desc := "(LNineDemands$Trace;II)V" } : Jvm.MethodName)) ∈ lw_all := lw_g (lw_at lw_m3 49 rfl) rfl
theorem q620 : (Jvm.Cond.code ({ cls := "NineDemands$Comes", name := "<init>", desc := "(LNineDemands$Trace;II)V" } : Jvm.MethodName) prog_7_method_1_code (4 : Nat) (Option.none : Option Jvm.ClassFile.FieldType)) ∈ lw_all := lw_g (lw_at lw_m3 50 rfl) rfl
theorem q621 : (Jvm.Cond.methodLink "NineDemands$Comes" (3 : Nat) ({ cls := "NineDemands$Moved", name := "<init>", desc := "(LNineDemands$Trace;II)V" } : Jvm.MethodName)) ∈ lw_all := lw_g (lw_at lw_m3 51 rfl) rfl
theorem q622 : (Jvm.Cond.laysFinal "NineDemands$Comes" "NineDemands$Demand" "trace" "LNineDemands$Trace;") ∈ lw_all := lw_g (lw_at lw_m3 52 rfl) rfl
theorem q623 : (Jvm.Cond.laysFinal "NineDemands$Comes" "NineDemands$Demand" "number" "I") ∈ lw_all := lw_g (lw_at lw_m3 53 rfl) rfl
theorem q624 : (Jvm.Cond.lays "NineDemands$Comes" "NineDemands$Demand" "price" "I") ∈ lw_all := lw_g (lw_at lw_m3 54 rfl) rfl
theorem q625 : (Jvm.Cond.lays "NineDemands$Comes" "NineDemands$Demand" "text" "LNineDemands$Term;") ∈ lw_all := lw_g (lw_at lw_m3 55 rfl) rfl
theorem q626 : (Jvm.Cond.lays "NineDemands$Comes" "NineDemands$Demand" "cases" "LNineDemands$Cases;") ∈ lw_all := lw_g (lw_at lw_m3 56 rfl) rfl
theorem q627 : (Jvm.Cond.superclass "NineDemands$Comes" "NineDemands$Moved") ∈ lw_all := lw_g (lw_at lw_m3 57 rfl) rfl
theorem q660 : (Jvm.Cond.selects "NineDemands$Comes" ({ cls := "NineDemands$Demand", name := "hasText", desc := "()Z" } : Jvm.MethodName) ({ cls := "NineDemands$Demand", name := "hasText", desc := "()Z" } : Jvm.MethodName)) ∈ lw_all := lw_g (lw_at lw_m3 90 rfl) rfl
theorem q717 : (Jvm.Cond.selects "NineDemands$Comes" ({ cls := "NineDemands$Moved", name := "paired", desc := "()Ljava/lang/String;" } : Jvm.MethodName) ({ cls := "NineDemands$Moved", name := "paired", desc := "()Ljava/lang/String;" } : Jvm.MethodName)) ∈ lw_all := lw_g (lw_at lw_m3 147 rfl) rfl
theorem q901 : (Jvm.Cond.selects "NineDemands$Comes" ({ cls := "NineDemands$Demand", name := "names", desc := "()Ljava/lang/String;" } : Jvm.MethodName) ({ cls := "NineDemands$Comes", name := "names", desc := "()Ljava/lang/String;" } : Jvm.MethodName)) ∈ lw_all := lw_g (lw_at lw_m4 91 rfl) rfl
theorem q902 : (Jvm.Cond.instanceMethod ({ cls := "NineDemands$Comes", name := "names", desc := "()Ljava/lang/String;" } : Jvm.MethodName)) ∈ lw_all := lw_g (lw_at lw_m4 92 rfl) rfl
theorem q903 : (Jvm.Cond.code ({ cls := "NineDemands$Comes", name := "names", desc := "()Ljava/lang/String;" } : Jvm.MethodName) prog_7_method_4_code (1 : Nat) (Option.some (Jvm.ClassFile.FieldType.object "java/lang/String"))) ∈ lw_all := lw_g (lw_at lw_m4 93 rfl) rfl
theorem q904 : (Jvm.Cond.methodLink "NineDemands$Comes" (13 : Nat) ({ cls := "NineDemands$Comes", name := "paired", desc := "()Ljava/lang/String;" } : Jvm.MethodName)) ∈ lw_all := lw_g (lw_at lw_m4 94 rfl) rfl
theorem q905 : (Jvm.Cond.sameMethod "NineDemands$Comes" "NineDemands$Moved" "paired" "()Ljava/lang/String;") ∈ lw_all := lw_g (lw_at lw_m4 95 rfl) rfl
theorem q907 : (Jvm.Cond.selects "NineDemands$Comes" ({ cls := "NineDemands$Comes", name := "paired", desc := "()Ljava/lang/String;" } : Jvm.MethodName) ({ cls := "NineDemands$Moved", name := "paired", desc := "()Ljava/lang/String;" } : Jvm.MethodName)) ∈ lw_all := lw_g (lw_at lw_m4 97 rfl) rfl
theorem q1108 : (Jvm.Cond.selects "NineDemands$Comes" ({ cls := "NineDemands$Demand", name := "lay", desc := "(LNineDemands$Facts;)V" } : Jvm.MethodName) ({ cls := "NineDemands$Demand", name := "lay", desc := "(LNineDemands$Facts;)V" } : Jvm.MethodName)) ∈ lw_all := lw_g (lw_at lw_m5 58 rfl) rfl
theorem q1130 : (Jvm.Cond.fieldLinkNest "NineDemands$Comes" (45 : Nat) "NineDemands$Cases" "second" "[I" "NineDemands") ∈ lw_tbl := lw_at lw_m5 80 rfl
theorem q1172 : (Jvm.Cond.selects "NineDemands$Comes" ({ cls := "NineDemands$Demand", name := "casesOf", desc := "(I)V" } : Jvm.MethodName) ({ cls := "NineDemands$Comes", name := "casesOf", desc := "(I)V" } : Jvm.MethodName)) ∈ lw_all := lw_g (lw_at lw_m5 122 rfl) rfl
theorem q1173 : (Jvm.Cond.instanceMethod ({ cls := "NineDemands$Comes", name := "casesOf", desc := "(I)V" } : Jvm.MethodName)) ∈ lw_all := lw_g (lw_at lw_m5 123 rfl) rfl
theorem q1174 : (Jvm.Cond.code ({ cls := "NineDemands$Comes", name := "casesOf", desc := "(I)V" } : Jvm.MethodName) prog_7_method_6_code (3 : Nat) (Option.none : Option Jvm.ClassFile.FieldType)) ∈ lw_all := lw_g (lw_at lw_m5 124 rfl) rfl
theorem q1175 : (Jvm.Cond.methodLink "NineDemands$Comes" (35 : Nat) ({ cls := "NineDemands$Cases", name := "add", desc := "(III)V" } : Jvm.MethodName)) ∈ lw_all := lw_g (lw_at lw_m5 125 rfl) rfl
theorem q1198 : (Jvm.Cond.selects "NineDemands$Comes" ({ cls := "NineDemands$Demand", name := "isSo", desc := "(LNineDemands$Facts;III)Z" } : Jvm.MethodName) ({ cls := "NineDemands$Demand", name := "isSo", desc := "(LNineDemands$Facts;III)Z" } : Jvm.MethodName)) ∈ lw_all := lw_g (lw_at lw_m5 148 rfl) rfl
theorem q1223 : (Jvm.Cond.selects "NineDemands$Comes" ({ cls := "NineDemands$Demand", name := "tell", desc := "(LNineDemands$Facts;III)V" } : Jvm.MethodName) ({ cls := "NineDemands$Comes", name := "tell", desc := "(LNineDemands$Facts;III)V" } : Jvm.MethodName)) ∈ lw_all := lw_g (lw_at lw_m5 173 rfl) rfl
theorem q1224 : (Jvm.Cond.instanceMethod ({ cls := "NineDemands$Comes", name := "tell", desc := "(LNineDemands$Facts;III)V" } : Jvm.MethodName)) ∈ lw_all := lw_g (lw_at lw_m5 174 rfl) rfl
theorem q1225 : (Jvm.Cond.code ({ cls := "NineDemands$Comes", name := "tell", desc := "(LNineDemands$Facts;III)V" } : Jvm.MethodName) prog_7_method_7_code (5 : Nat) (Option.none : Option Jvm.ClassFile.FieldType)) ∈ lw_all := lw_g (lw_at lw_m5 175 rfl) rfl
theorem q1226 : (Jvm.Cond.methodLink "NineDemands$Comes" (41 : Nat) ({ cls := "NineDemands$Moved", name := "tell", desc := "(LNineDemands$Facts;III)V" } : Jvm.MethodName)) ∈ lw_all := lw_g (lw_at lw_m5 176 rfl) rfl
theorem q1227 : (Jvm.Cond.methodLinkNest "NineDemands$Comes" (49 : Nat) ({ cls := "NineDemands", name := "wants", desc := "(II)I" } : Jvm.MethodName) "NineDemands") ∈ lw_tbl := lw_at lw_m5 177 rfl
theorem q1228 : (Jvm.Cond.methodLink "NineDemands$Comes" (53 : Nat) ({ cls := "NineDemands$Facts", name := "with", desc := "(CI)LNineDemands$Facts;" } : Jvm.MethodName)) ∈ lw_all := lw_g (lw_at lw_m5 178 rfl) rfl
theorem q1287 : (Jvm.Cond.selects "NineDemands$Comes" ({ cls := "java/lang/Object", name := "getClass", desc := "()Ljava/lang/Class;" } : Jvm.MethodName) ({ cls := "java/lang/Object", name := "getClass", desc := "()Ljava/lang/Class;" } : Jvm.MethodName)) ∈ lw_all := lw_g (lw_at lw_m5 237 rfl) rfl
theorem q1358 : (Jvm.Cond.selects "NineDemands$Comes" ({ cls := "NineDemands$Demand", name := "isOf", desc := "(I)Z" } : Jvm.MethodName) ({ cls := "NineDemands$Comes", name := "isOf", desc := "(I)Z" } : Jvm.MethodName)) ∈ lw_all := lw_g (lw_at lw_m6 68 rfl) rfl
theorem q1359 : (Jvm.Cond.instanceMethod ({ cls := "NineDemands$Comes", name := "isOf", desc := "(I)Z" } : Jvm.MethodName)) ∈ lw_all := lw_g (lw_at lw_m6 69 rfl) rfl
theorem q1360 : (Jvm.Cond.code ({ cls := "NineDemands$Comes", name := "isOf", desc := "(I)Z" } : Jvm.MethodName) prog_7_method_3_code (2 : Nat) (Option.some Jvm.ClassFile.FieldType.boolean)) ∈ lw_all := lw_g (lw_at lw_m6 70 rfl) rfl
theorem q1361 : (Jvm.Cond.methodLink "NineDemands$Comes" (9 : Nat) ({ cls := "NineDemands$Moved", name := "isOf", desc := "(I)Z" } : Jvm.MethodName)) ∈ lw_all := lw_g (lw_at lw_m6 71 rfl) rfl
theorem q1393 : (Jvm.Cond.selects "NineDemands$Comes" ({ cls := "NineDemands$Demand", name := "goes", desc := "(III)Z" } : Jvm.MethodName) ({ cls := "NineDemands$Demand", name := "goes", desc := "(III)Z" } : Jvm.MethodName)) ∈ lw_all := lw_g (lw_at lw_m6 103 rfl) rfl
theorem q1678 : (Jvm.Cond.castable "NineDemands$Comes" "NineDemands$Bids") ∈ lw_tbl := lw_at lw_m7 148 rfl
theorem q1679 : (Jvm.Cond.selects "NineDemands$Comes" ({ cls := "NineDemands$Bids", name := "bids", desc := "(I)I" } : Jvm.MethodName) ({ cls := "NineDemands$Demand", name := "bids", desc := "(I)I" } : Jvm.MethodName)) ∈ lw_all := lw_g (lw_at lw_m7 149 rfl) rfl
theorem q1680 : (Jvm.Cond.unhidden "NineDemands$Comes" "bids" "(I)I") ∈ lw_tbl := lw_at lw_m7 150 rfl
theorem q1718 : (Jvm.Cond.selects "NineDemands$Comes" ({ cls := "NineDemands$Moved", name := "yields", desc := "(I)I" } : Jvm.MethodName) ({ cls := "NineDemands$Demand", name := "yields", desc := "(I)I" } : Jvm.MethodName)) ∈ lw_all := lw_g (lw_at lw_m7 188 rfl) rfl
theorem q1727 : (Jvm.Cond.castable "NineDemands$Comes" "NineDemands$Bars") ∈ lw_tbl := lw_at lw_m7 197 rfl
theorem q1728 : (Jvm.Cond.selects "NineDemands$Comes" ({ cls := "NineDemands$Bars", name := "bars", desc := "(I)I" } : Jvm.MethodName) ({ cls := "NineDemands$Comes", name := "bars", desc := "(I)I" } : Jvm.MethodName)) ∈ lw_all := lw_g (lw_at lw_m7 198 rfl) rfl
theorem q1729 : (Jvm.Cond.unhidden "NineDemands$Comes" "bars" "(I)I") ∈ lw_tbl := lw_at lw_m7 199 rfl
theorem q1730 : (Jvm.Cond.instanceMethod ({ cls := "NineDemands$Comes", name := "bars", desc := "(I)I" } : Jvm.MethodName)) ∈ lw_all := lw_g (lw_at lw_m7 200 rfl) rfl
theorem q1731 : (Jvm.Cond.publicMethod ({ cls := "NineDemands$Comes", name := "bars", desc := "(I)I" } : Jvm.MethodName)) ∈ lw_tbl := lw_at lw_m7 201 rfl
theorem q1732 : (Jvm.Cond.code ({ cls := "NineDemands$Comes", name := "bars", desc := "(I)I" } : Jvm.MethodName) prog_7_method_9_code (2 : Nat) (Option.some Jvm.ClassFile.FieldType.int)) ∈ lw_all := lw_g (lw_at lw_m7 202 rfl) rfl
theorem q1733 : (Jvm.Cond.methodLink "NineDemands$Comes" (59 : Nat) ({ cls := "NineDemands$Trace", name := "begins", desc := "(I)V" } : Jvm.MethodName)) ∈ lw_all := lw_g (lw_at lw_m7 203 rfl) rfl
theorem q1734 : (Jvm.Cond.methodLink "NineDemands$Comes" (72 : Nat) ({ cls := "NineDemands$Moved", name := "bars", desc := "(I)I" } : Jvm.MethodName)) ∈ lw_all := lw_g (lw_at lw_m7 204 rfl) rfl
theorem q1756 : (Jvm.Cond.castable "NineDemands$Comes" "NineDemands$Yields") ∈ lw_tbl := lw_at lw_m7 226 rfl
theorem q1757 : (Jvm.Cond.selects "NineDemands$Comes" ({ cls := "NineDemands$Yields", name := "yields", desc := "(I)I" } : Jvm.MethodName) ({ cls := "NineDemands$Demand", name := "yields", desc := "(I)I" } : Jvm.MethodName)) ∈ lw_all := lw_g (lw_at lw_m7 227 rfl) rfl
theorem q1758 : (Jvm.Cond.unhidden "NineDemands$Comes" "yields" "(I)I") ∈ lw_tbl := lw_at lw_m7 228 rfl
theorem q1794 : (Jvm.Cond.castable "NineDemands$Comes" "NineDemands$Stands") ∈ lw_tbl := lw_at lw_m8 24 rfl
theorem q1795 : (Jvm.Cond.selects "NineDemands$Comes" ({ cls := "NineDemands$Stands", name := "stands", desc := "(I)I" } : Jvm.MethodName) ({ cls := "NineDemands$Comes", name := "stands", desc := "(I)I" } : Jvm.MethodName)) ∈ lw_all := lw_g (lw_at lw_m8 25 rfl) rfl
theorem q1796 : (Jvm.Cond.unhidden "NineDemands$Comes" "stands" "(I)I") ∈ lw_tbl := lw_at lw_m8 26 rfl
theorem q1797 : (Jvm.Cond.instanceMethod ({ cls := "NineDemands$Comes", name := "stands", desc := "(I)I" } : Jvm.MethodName)) ∈ lw_all := lw_g (lw_at lw_m8 27 rfl) rfl
theorem q1798 : (Jvm.Cond.publicMethod ({ cls := "NineDemands$Comes", name := "stands", desc := "(I)I" } : Jvm.MethodName)) ∈ lw_tbl := lw_at lw_m8 28 rfl
theorem q1799 : (Jvm.Cond.code ({ cls := "NineDemands$Comes", name := "stands", desc := "(I)I" } : Jvm.MethodName) prog_7_method_8_code (3 : Nat) (Option.some Jvm.ClassFile.FieldType.int)) ∈ lw_all := lw_g (lw_at lw_m8 29 rfl) rfl
theorem q1800 : (Jvm.Cond.methodLink "NineDemands$Comes" (65 : Nat) ({ cls := "NineDemands$Comes", name := "yields", desc := "(I)I" } : Jvm.MethodName)) ∈ lw_all := lw_g (lw_at lw_m8 30 rfl) rfl
theorem q1801 : (Jvm.Cond.sameMethod "NineDemands$Comes" "NineDemands$Demand" "yields" "(I)I") ∈ lw_all := lw_g (lw_at lw_m8 31 rfl) rfl
theorem q1802 : (Jvm.Cond.selects "NineDemands$Comes" ({ cls := "NineDemands$Comes", name := "yields", desc := "(I)I" } : Jvm.MethodName) ({ cls := "NineDemands$Demand", name := "yields", desc := "(I)I" } : Jvm.MethodName)) ∈ lw_all := lw_g (lw_at lw_m8 32 rfl) rfl
theorem q1803 : (Jvm.Cond.methodLink "NineDemands$Comes" (69 : Nat) ({ cls := "NineDemands$Moved", name := "stands", desc := "(I)I" } : Jvm.MethodName)) ∈ lw_all := lw_g (lw_at lw_m8 33 rfl) rfl
theorem q1919 : (Jvm.Cond.selects "NineDemands$Comes" ({ cls := "NineDemands$Demand", name := "again", desc := "()LNineDemands$Demand;" } : Jvm.MethodName) ({ cls := "NineDemands$Demand", name := "again", desc := "()LNineDemands$Demand;" } : Jvm.MethodName)) ∈ lw_all := lw_g (lw_at lw_m8 149 rfl) rfl
theorem q1933 : (Jvm.Cond.selects "NineDemands$Comes" ({ cls := "NineDemands$Demand", name := "another", desc := "()LNineDemands$Demand;" } : Jvm.MethodName) ({ cls := "NineDemands$Comes", name := "another", desc := "()LNineDemands$Demand;" } : Jvm.MethodName)) ∈ lw_all := lw_g (lw_at lw_m8 163 rfl) rfl
theorem q1934 : (Jvm.Cond.instanceMethod ({ cls := "NineDemands$Comes", name := "another", desc := "()LNineDemands$Demand;" } : Jvm.MethodName)) ∈ lw_all := lw_g (lw_at lw_m8 164 rfl) rfl
theorem q1935 : (Jvm.Cond.code ({ cls := "NineDemands$Comes", name := "another", desc := "()LNineDemands$Demand;" } : Jvm.MethodName) prog_7_method_5_code (1 : Nat) (Option.some (Jvm.ClassFile.FieldType.object "NineDemands$Demand"))) ∈ lw_all := lw_g (lw_at lw_m8 165 rfl) rfl
theorem q1936 : (Jvm.Cond.classLink "NineDemands$Comes" (14 : Nat) "NineDemands$Comes") ∈ lw_all := lw_g (lw_at lw_m8 166 rfl) rfl
theorem q1937 : (Jvm.Cond.methodLink "NineDemands$Comes" (30 : Nat) ({ cls := "NineDemands$Comes", name := "<init>", desc := "(LNineDemands$Trace;II)V" } : Jvm.MethodName)) ∈ lw_all := lw_g (lw_at lw_m8 167 rfl) rfl
theorem q2494 : (Jvm.Cond.selects "NineDemands$Comes" ({ cls := "NineDemands$Demand", name := "bids", desc := "(I)I" } : Jvm.MethodName) ({ cls := "NineDemands$Demand", name := "bids", desc := "(I)I" } : Jvm.MethodName)) ∈ lw_all := lw_g (lw_at lw_m11 4 rfl) rfl
theorem q2503 : (Jvm.Cond.selects "NineDemands$Comes" ({ cls := "NineDemands$Demand", name := "bars", desc := "(I)I" } : Jvm.MethodName) ({ cls := "NineDemands$Comes", name := "bars", desc := "(I)I" } : Jvm.MethodName)) ∈ lw_all := lw_g (lw_at lw_m11 13 rfl) rfl
theorem q2509 : (Jvm.Cond.selects "NineDemands$Comes" ({ cls := "NineDemands$Demand", name := "yields", desc := "(I)I" } : Jvm.MethodName) ({ cls := "NineDemands$Demand", name := "yields", desc := "(I)I" } : Jvm.MethodName)) ∈ lw_all := lw_g (lw_at lw_m11 19 rfl) rfl
theorem q2518 : (Jvm.Cond.castable "NineDemands$Comes" "NineDemands$Demand") ∈ lw_tbl := lw_at lw_m11 28 rfl
theorem q2536 : (Jvm.Cond.castable "NineDemands$Comes" "java/lang/Object") ∈ lw_tbl := lw_at lw_m11 46 rfl
theorem in_X14 : ∀ w ∈ wsX140, w ∈ lw_all := lw_in wsX140 [622, 623, 624, 625, 626] (by decide +kernel) (by decide +kernel)
/-! NineDemands$Single -/
set_option maxRecDepth 100000
def RX15 : String := "NineDemands$Single"
def TX15 : u_T := fun k => match k with
  | 0 => ("NineDemands$Demand", "trace", "LNineDemands$Trace;", true)
  | 1 => ("NineDemands$Demand", "number", "I", true)
  | 2 => ("NineDemands$Demand", "price", "I", false)
  | 3 => ("NineDemands$Demand", "text", "LNineDemands$Term;", false)
  | _ => ("NineDemands$Demand", "cases", "LNineDemands$Cases;", false)
def tyX15 : Nat → FieldType := fun k => match k with
  | 0 => .object "NineDemands$Trace"
  | 1 => .int
  | 2 => .int
  | 3 => .object "NineDemands$Term"
  | _ => .object "NineDemands$Cases"
abbrev wsX150 : List Cond := u_ws RX15 TX15 5
theorem nmX15 : ∀ a, a < 5 → ∀ b, b < 5 → a ≠ b → (TX15 a).2.1 ≠ (TX15 b).2.1 := by decide +kernel
theorem tyX15_ok : ∀ k, k < 5 → parseFieldDescriptor (TX15 k).2.2.1 = some (tyX15 k) := by decide +kernel
abbrev cX15_init : ByteArray := prog_22_method_1_code
def yX15_init : MethodName := ⟨RX15, "<init>", "(LNineDemands$Trace;II)V"⟩
def dkwX15_init_0 : List UInt8 := [42, 43, 28, 29, 183, 0, 3, 177]
abbrev dktX15_init_0 : List UInt8 := dkwX15_init_0 ++ []
theorem dksX15_init_0 : cX15_init.data.toList.drop 0 = dktX15_init_0 := by decide +kernel
theorem dX15_init_0 : decode cX15_init 0 = .ok (.aload_n 0, 1) := dk_42 (dk_at dksX15_init_0 0 rfl rfl)
theorem dX15_init_1 : decode cX15_init 1 = .ok (.aload_n 1, 1) := dk_43 (dk_at dksX15_init_0 1 rfl rfl)
theorem dX15_init_2 : decode cX15_init 2 = .ok (.iload_n 2, 1) := dk_28 (dk_at dksX15_init_0 2 rfl rfl)
theorem dX15_init_3 : decode cX15_init 3 = .ok (.iload_n 3, 1) := dk_29 (dk_at dksX15_init_0 3 rfl rfl)
theorem dX15_init_4 : decode cX15_init 4 = .ok (.invokespecial 3, 3) := dk_183 0 3 (dk_at dksX15_init_0 4 rfl rfl)
theorem dX15_init_7 : decode cX15_init 7 = .ok (.return_, 1) := dk_177 (dk_at dksX15_init_0 7 rfl rfl)
abbrev cX15_hasText : ByteArray := prog_22_method_4_code
def yX15_hasText : MethodName := ⟨RX15, "hasText", "()Z"⟩
theorem dX15_hasText_0 : decode cX15_hasText 0 = .ok (.iconst 0, 1) := by decide +kernel
theorem dX15_hasText_1 : decode cX15_hasText 1 = .ok (.ireturn, 1) := by decide +kernel
abbrev cX15_isSo : ByteArray := prog_22_method_6_code
def yX15_isSo : MethodName := ⟨RX15, "isSo", "(LNineDemands$Facts;III)Z"⟩
def dkwX15_isSo_0 : List UInt8 := [29, 6, 159, 0, 7, 4, 167, 0, 4, 3, 172]
abbrev dktX15_isSo_0 : List UInt8 := dkwX15_isSo_0 ++ []
theorem dksX15_isSo_0 : cX15_isSo.data.toList.drop 0 = dktX15_isSo_0 := by decide +kernel
theorem dX15_isSo_0 : decode cX15_isSo 0 = .ok (.iload_n 3, 1) := dk_29 (dk_at dksX15_isSo_0 0 rfl rfl)
theorem dX15_isSo_1 : decode cX15_isSo 1 = .ok (.iconst 3, 1) := dk_6 (dk_at dksX15_isSo_0 1 rfl rfl)
theorem dX15_isSo_2 : decode cX15_isSo 2 = .ok (.if_icmp .eq 7, 3) := dk_159 0 7 (dk_at dksX15_isSo_0 2 rfl rfl)
theorem dX15_isSo_5 : decode cX15_isSo 5 = .ok (.iconst 1, 1) := dk_4 (dk_at dksX15_isSo_0 5 rfl rfl)
theorem dX15_isSo_6 : decode cX15_isSo 6 = .ok (.goto 4, 3) := dk_167 0 4 (dk_at dksX15_isSo_0 6 rfl rfl)
theorem dX15_isSo_9 : decode cX15_isSo 9 = .ok (.iconst 0, 1) := dk_3 (dk_at dksX15_isSo_0 9 rfl rfl)
theorem dX15_isSo_10 : decode cX15_isSo 10 = .ok (.ireturn, 1) := dk_172 (dk_at dksX15_isSo_0 10 rfl rfl)
abbrev cX15_isOf : ByteArray := prog_22_method_3_code
def yX15_isOf : MethodName := ⟨RX15, "isOf", "(I)Z"⟩
def dkwX15_isOf_0 : List UInt8 := [27, 8, 159, 0, 11, 42, 27, 183, 0, 9, 153, 0, 7, 4, 167, 0, 4, 3, 172]
abbrev dktX15_isOf_0 : List UInt8 := dkwX15_isOf_0 ++ []
theorem dksX15_isOf_0 : cX15_isOf.data.toList.drop 0 = dktX15_isOf_0 := by decide +kernel
theorem dX15_isOf_0 : decode cX15_isOf 0 = .ok (.iload_n 1, 1) := dk_27 (dk_at dksX15_isOf_0 0 rfl rfl)
theorem dX15_isOf_1 : decode cX15_isOf 1 = .ok (.iconst 5, 1) := dk_8 (dk_at dksX15_isOf_0 1 rfl rfl)
theorem dX15_isOf_2 : decode cX15_isOf 2 = .ok (.if_icmp .eq 11, 3) := dk_159 0 11 (dk_at dksX15_isOf_0 2 rfl rfl)
theorem dX15_isOf_5 : decode cX15_isOf 5 = .ok (.aload_n 0, 1) := dk_42 (dk_at dksX15_isOf_0 5 rfl rfl)
theorem dX15_isOf_6 : decode cX15_isOf 6 = .ok (.iload_n 1, 1) := dk_27 (dk_at dksX15_isOf_0 6 rfl rfl)
theorem dX15_isOf_7 : decode cX15_isOf 7 = .ok (.invokespecial 9, 3) := dk_183 0 9 (dk_at dksX15_isOf_0 7 rfl rfl)
theorem dX15_isOf_10 : decode cX15_isOf 10 = .ok (.ifCond .eq 7, 3) := dk_153 0 7 (dk_at dksX15_isOf_0 10 rfl rfl)
theorem dX15_isOf_13 : decode cX15_isOf 13 = .ok (.iconst 1, 1) := dk_4 (dk_at dksX15_isOf_0 13 rfl rfl)
theorem dX15_isOf_14 : decode cX15_isOf 14 = .ok (.goto 4, 3) := dk_167 0 4 (dk_at dksX15_isOf_0 14 rfl rfl)
theorem dX15_isOf_17 : decode cX15_isOf 17 = .ok (.iconst 0, 1) := dk_3 (dk_at dksX15_isOf_0 17 rfl rfl)
theorem dX15_isOf_18 : decode cX15_isOf 18 = .ok (.ireturn, 1) := dk_172 (dk_at dksX15_isOf_0 18 rfl rfl)
abbrev cX15_bids : ByteArray := prog_22_method_7_code
def yX15_bids : MethodName := ⟨RX15, "bids", "(I)I"⟩
def dkwX15_bids_0 : List UInt8 := [42, 180, 0, 15, 16, 60, 182, 0, 27, 42, 27, 183, 0, 33, 8, 130, 172]
abbrev dktX15_bids_0 : List UInt8 := dkwX15_bids_0 ++ []
theorem dksX15_bids_0 : cX15_bids.data.toList.drop 0 = dktX15_bids_0 := by decide +kernel
theorem dX15_bids_0 : decode cX15_bids 0 = .ok (.aload_n 0, 1) := dk_42 (dk_at dksX15_bids_0 0 rfl rfl)
theorem dX15_bids_1 : decode cX15_bids 1 = .ok (.getfield 15, 3) := dk_180 0 15 (dk_at dksX15_bids_0 1 rfl rfl)
theorem dX15_bids_4 : decode cX15_bids 4 = .ok (.bipush 60, 2) := dk_16 60 (dk_at dksX15_bids_0 4 rfl rfl)
theorem dX15_bids_6 : decode cX15_bids 6 = .ok (.invokevirtual 27, 3) := dk_182 0 27 (dk_at dksX15_bids_0 6 rfl rfl)
theorem dX15_bids_9 : decode cX15_bids 9 = .ok (.aload_n 0, 1) := dk_42 (dk_at dksX15_bids_0 9 rfl rfl)
theorem dX15_bids_10 : decode cX15_bids 10 = .ok (.iload_n 1, 1) := dk_27 (dk_at dksX15_bids_0 10 rfl rfl)
theorem dX15_bids_11 : decode cX15_bids 11 = .ok (.invokespecial 33, 3) := dk_183 0 33 (dk_at dksX15_bids_0 11 rfl rfl)
theorem dX15_bids_14 : decode cX15_bids 14 = .ok (.iconst 5, 1) := dk_8 (dk_at dksX15_bids_0 14 rfl rfl)
theorem dX15_bids_15 : decode cX15_bids 15 = .ok (.ixor, 1) := dk_130 (dk_at dksX15_bids_0 15 rfl rfl)
theorem dX15_bids_16 : decode cX15_bids 16 = .ok (.ireturn, 1) := dk_172 (dk_at dksX15_bids_0 16 rfl rfl)
abbrev cX15_yields : ByteArray := prog_22_method_8_code
def yX15_yields : MethodName := ⟨RX15, "yields", "(I)I"⟩
def dkwX15_yields_0 : List UInt8 := [42, 180, 0, 15, 16, 61, 182, 0, 27, 42, 27, 183, 0, 37, 61, 28, 42, 4, 182, 0, 40, 104, 172]
abbrev dktX15_yields_0 : List UInt8 := dkwX15_yields_0 ++ []
theorem dksX15_yields_0 : cX15_yields.data.toList.drop 0 = dktX15_yields_0 := by decide +kernel
theorem dX15_yields_0 : decode cX15_yields 0 = .ok (.aload_n 0, 1) := dk_42 (dk_at dksX15_yields_0 0 rfl rfl)
theorem dX15_yields_1 : decode cX15_yields 1 = .ok (.getfield 15, 3) := dk_180 0 15 (dk_at dksX15_yields_0 1 rfl rfl)
theorem dX15_yields_4 : decode cX15_yields 4 = .ok (.bipush 61, 2) := dk_16 61 (dk_at dksX15_yields_0 4 rfl rfl)
theorem dX15_yields_6 : decode cX15_yields 6 = .ok (.invokevirtual 27, 3) := dk_182 0 27 (dk_at dksX15_yields_0 6 rfl rfl)
theorem dX15_yields_9 : decode cX15_yields 9 = .ok (.aload_n 0, 1) := dk_42 (dk_at dksX15_yields_0 9 rfl rfl)
theorem dX15_yields_10 : decode cX15_yields 10 = .ok (.iload_n 1, 1) := dk_27 (dk_at dksX15_yields_0 10 rfl rfl)
theorem dX15_yields_11 : decode cX15_yields 11 = .ok (.invokespecial 37, 3) := dk_183 0 37 (dk_at dksX15_yields_0 11 rfl rfl)
theorem dX15_yields_14 : decode cX15_yields 14 = .ok (.istore_n 2, 1) := dk_61 (dk_at dksX15_yields_0 14 rfl rfl)
theorem dX15_yields_15 : decode cX15_yields 15 = .ok (.iload_n 2, 1) := dk_28 (dk_at dksX15_yields_0 15 rfl rfl)
theorem dX15_yields_16 : decode cX15_yields 16 = .ok (.aload_n 0, 1) := dk_42 (dk_at dksX15_yields_0 16 rfl rfl)
theorem dX15_yields_17 : decode cX15_yields 17 = .ok (.iconst 1, 1) := dk_4 (dk_at dksX15_yields_0 17 rfl rfl)
theorem dX15_yields_18 : decode cX15_yields 18 = .ok (.invokevirtual 40, 3) := dk_182 0 40 (dk_at dksX15_yields_0 18 rfl rfl)
theorem dX15_yields_21 : decode cX15_yields 21 = .ok (.imul, 1) := dk_104 (dk_at dksX15_yields_0 21 rfl rfl)
theorem dX15_yields_22 : decode cX15_yields 22 = .ok (.ireturn, 1) := dk_172 (dk_at dksX15_yields_0 22 rfl rfl)
abbrev cX15_another : ByteArray := prog_22_method_5_code
def yX15_another : MethodName := ⟨RX15, "another", "()LNineDemands$Demand;"⟩
def dkwX15_another_0 : List UInt8 := [187, 0, 13, 89, 42, 180, 0, 15, 42, 180, 0, 19, 42, 180, 0, 23, 183, 0, 26, 176]
abbrev dktX15_another_0 : List UInt8 := dkwX15_another_0 ++ []
theorem dksX15_another_0 : cX15_another.data.toList.drop 0 = dktX15_another_0 := by decide +kernel
theorem dX15_another_0 : decode cX15_another 0 = .ok (.new 13, 3) := dk_187 0 13 (dk_at dksX15_another_0 0 rfl rfl)
theorem dX15_another_3 : decode cX15_another 3 = .ok (.dup, 1) := dk_89 (dk_at dksX15_another_0 3 rfl rfl)
theorem dX15_another_4 : decode cX15_another 4 = .ok (.aload_n 0, 1) := dk_42 (dk_at dksX15_another_0 4 rfl rfl)
theorem dX15_another_5 : decode cX15_another 5 = .ok (.getfield 15, 3) := dk_180 0 15 (dk_at dksX15_another_0 5 rfl rfl)
theorem dX15_another_8 : decode cX15_another 8 = .ok (.aload_n 0, 1) := dk_42 (dk_at dksX15_another_0 8 rfl rfl)
theorem dX15_another_9 : decode cX15_another 9 = .ok (.getfield 19, 3) := dk_180 0 19 (dk_at dksX15_another_0 9 rfl rfl)
theorem dX15_another_12 : decode cX15_another 12 = .ok (.aload_n 0, 1) := dk_42 (dk_at dksX15_another_0 12 rfl rfl)
theorem dX15_another_13 : decode cX15_another 13 = .ok (.getfield 23, 3) := dk_180 0 23 (dk_at dksX15_another_0 13 rfl rfl)
theorem dX15_another_16 : decode cX15_another 16 = .ok (.invokespecial 26, 3) := dk_183 0 26 (dk_at dksX15_another_0 16 rfl rfl)
theorem dX15_another_19 : decode cX15_another 19 = .ok (.areturn, 1) := dk_176 (dk_at dksX15_another_0 19 rfl rfl)
theorem q113 : (Jvm.Cond.initialized "NineDemands$Single") ∈ lw_all := lw_g (lw_at lw_m1 23 rfl) rfl
theorem q535 : (Jvm.Cond.fieldLink "NineDemands$Single" (15 : Nat) "NineDemands$Single" "trace" "LNineDemands$Trace;") ∈ lw_all := lw_g (lw_at lw_m2 205 rfl) rfl
theorem q536 : (Jvm.Cond.sameField "NineDemands$Single" "NineDemands$Demand" "trace" "LNineDemands$Trace;") ∈ lw_all := lw_g (lw_at lw_m2 206 rfl) rfl
theorem q546 : (Jvm.Cond.fieldLink "NineDemands$Single" (19 : Nat) "NineDemands$Single" "number" "I") ∈ lw_all := lw_g (lw_at lw_m2 216 rfl) rfl
theorem q547 : (Jvm.Cond.sameField "NineDemands$Single" "NineDemands$Demand" "number" "I") ∈ lw_all := lw_g (lw_at lw_m2 217 rfl) rfl
theorem q558 : (Jvm.Cond.fieldLink "NineDemands$Single" (23 : Nat) "NineDemands$Single" "price" "I") ∈ lw_all := lw_g (lw_at lw_m2 228 rfl) rfl
theorem q559 : (Jvm.Cond.sameField "NineDemands$Single" "NineDemands$Demand" "price" "I") ∈ lw_all := lw_g (lw_at lw_m2 229 rfl) rfl
theorem q629 : (Jvm.Cond.instantiable "NineDemands$Single" (5 : Nat)) ∈ lw_all := lw_g (lw_at lw_m3 59 rfl) rfl
theorem q631 : (Jvm.Cond.instanceMethod ({ cls := "NineDemands$Single", name := "<init>", desc := "(LNineDemands$Trace;II)V" } : Jvm.MethodName)) ∈ lw_all := lw_g (lw_at lw_m3 61 rfl) rfl
theorem q632 : (Jvm.Cond.code ({ cls := "NineDemands$Single", name := "<init>", desc := "(LNineDemands$Trace;II)V" } : Jvm.MethodName) prog_22_method_1_code (4 : Nat) (Option.none : Option Jvm.ClassFile.FieldType)) ∈ lw_all := lw_g (lw_at lw_m3 62 rfl) rfl
theorem q633 : (Jvm.Cond.methodLink "NineDemands$Single" (3 : Nat) ({ cls := "NineDemands$Demand", name := "<init>", desc := "(LNineDemands$Trace;II)V" } : Jvm.MethodName)) ∈ lw_all := lw_g (lw_at lw_m3 63 rfl) rfl
theorem q634 : (Jvm.Cond.laysFinal "NineDemands$Single" "NineDemands$Demand" "trace" "LNineDemands$Trace;") ∈ lw_all := lw_g (lw_at lw_m3 64 rfl) rfl
theorem q635 : (Jvm.Cond.laysFinal "NineDemands$Single" "NineDemands$Demand" "number" "I") ∈ lw_all := lw_g (lw_at lw_m3 65 rfl) rfl
theorem q636 : (Jvm.Cond.lays "NineDemands$Single" "NineDemands$Demand" "price" "I") ∈ lw_all := lw_g (lw_at lw_m3 66 rfl) rfl
theorem q637 : (Jvm.Cond.lays "NineDemands$Single" "NineDemands$Demand" "text" "LNineDemands$Term;") ∈ lw_all := lw_g (lw_at lw_m3 67 rfl) rfl
theorem q638 : (Jvm.Cond.lays "NineDemands$Single" "NineDemands$Demand" "cases" "LNineDemands$Cases;") ∈ lw_all := lw_g (lw_at lw_m3 68 rfl) rfl
theorem q639 : (Jvm.Cond.superclass "NineDemands$Single" "NineDemands$Demand") ∈ lw_all := lw_g (lw_at lw_m3 69 rfl) rfl
theorem q662 : (Jvm.Cond.selects "NineDemands$Single" ({ cls := "NineDemands$Demand", name := "hasText", desc := "()Z" } : Jvm.MethodName) ({ cls := "NineDemands$Single", name := "hasText", desc := "()Z" } : Jvm.MethodName)) ∈ lw_all := lw_g (lw_at lw_m3 92 rfl) rfl
theorem q663 : (Jvm.Cond.instanceMethod ({ cls := "NineDemands$Single", name := "hasText", desc := "()Z" } : Jvm.MethodName)) ∈ lw_all := lw_g (lw_at lw_m3 93 rfl) rfl
theorem q664 : (Jvm.Cond.code ({ cls := "NineDemands$Single", name := "hasText", desc := "()Z" } : Jvm.MethodName) prog_22_method_4_code (1 : Nat) (Option.some Jvm.ClassFile.FieldType.boolean)) ∈ lw_all := lw_g (lw_at lw_m3 94 rfl) rfl
theorem q909 : (Jvm.Cond.selects "NineDemands$Single" ({ cls := "NineDemands$Demand", name := "names", desc := "()Ljava/lang/String;" } : Jvm.MethodName) ({ cls := "NineDemands$Demand", name := "names", desc := "()Ljava/lang/String;" } : Jvm.MethodName)) ∈ lw_all := lw_g (lw_at lw_m4 99 rfl) rfl
theorem q1110 : (Jvm.Cond.selects "NineDemands$Single" ({ cls := "NineDemands$Demand", name := "lay", desc := "(LNineDemands$Facts;)V" } : Jvm.MethodName) ({ cls := "NineDemands$Demand", name := "lay", desc := "(LNineDemands$Facts;)V" } : Jvm.MethodName)) ∈ lw_all := lw_g (lw_at lw_m5 60 rfl) rfl
theorem q1182 : (Jvm.Cond.selects "NineDemands$Single" ({ cls := "NineDemands$Demand", name := "casesOf", desc := "(I)V" } : Jvm.MethodName) ({ cls := "NineDemands$Demand", name := "casesOf", desc := "(I)V" } : Jvm.MethodName)) ∈ lw_all := lw_g (lw_at lw_m5 132 rfl) rfl
theorem q1200 : (Jvm.Cond.selects "NineDemands$Single" ({ cls := "NineDemands$Demand", name := "isSo", desc := "(LNineDemands$Facts;III)Z" } : Jvm.MethodName) ({ cls := "NineDemands$Single", name := "isSo", desc := "(LNineDemands$Facts;III)Z" } : Jvm.MethodName)) ∈ lw_all := lw_g (lw_at lw_m5 150 rfl) rfl
theorem q1201 : (Jvm.Cond.instanceMethod ({ cls := "NineDemands$Single", name := "isSo", desc := "(LNineDemands$Facts;III)Z" } : Jvm.MethodName)) ∈ lw_all := lw_g (lw_at lw_m5 151 rfl) rfl
theorem q1202 : (Jvm.Cond.code ({ cls := "NineDemands$Single", name := "isSo", desc := "(LNineDemands$Facts;III)Z" } : Jvm.MethodName) prog_22_method_6_code (5 : Nat) (Option.some Jvm.ClassFile.FieldType.boolean)) ∈ lw_all := lw_g (lw_at lw_m5 152 rfl) rfl
theorem q1230 : (Jvm.Cond.selects "NineDemands$Single" ({ cls := "NineDemands$Demand", name := "tell", desc := "(LNineDemands$Facts;III)V" } : Jvm.MethodName) ({ cls := "NineDemands$Demand", name := "tell", desc := "(LNineDemands$Facts;III)V" } : Jvm.MethodName)) ∈ lw_all := lw_g (lw_at lw_m5 180 rfl) rfl
theorem q1301 : (Jvm.Cond.selects "NineDemands$Single" ({ cls := "java/lang/Object", name := "getClass", desc := "()Ljava/lang/Class;" } : Jvm.MethodName) ({ cls := "java/lang/Object", name := "getClass", desc := "()Ljava/lang/Class;" } : Jvm.MethodName)) ∈ lw_all := lw_g (lw_at lw_m6 11 rfl) rfl
theorem q1363 : (Jvm.Cond.selects "NineDemands$Single" ({ cls := "NineDemands$Demand", name := "isOf", desc := "(I)Z" } : Jvm.MethodName) ({ cls := "NineDemands$Single", name := "isOf", desc := "(I)Z" } : Jvm.MethodName)) ∈ lw_all := lw_g (lw_at lw_m6 73 rfl) rfl
theorem q1364 : (Jvm.Cond.instanceMethod ({ cls := "NineDemands$Single", name := "isOf", desc := "(I)Z" } : Jvm.MethodName)) ∈ lw_all := lw_g (lw_at lw_m6 74 rfl) rfl
theorem q1365 : (Jvm.Cond.code ({ cls := "NineDemands$Single", name := "isOf", desc := "(I)Z" } : Jvm.MethodName) prog_22_method_3_code (2 : Nat) (Option.some Jvm.ClassFile.FieldType.boolean)) ∈ lw_all := lw_g (lw_at lw_m6 75 rfl) rfl
theorem q1366 : (Jvm.Cond.methodLink "NineDemands$Single" (9 : Nat) ({ cls := "NineDemands$Demand", name := "isOf", desc := "(I)Z" } : Jvm.MethodName)) ∈ lw_all := lw_g (lw_at lw_m6 76 rfl) rfl
theorem q1395 : (Jvm.Cond.selects "NineDemands$Single" ({ cls := "NineDemands$Demand", name := "goes", desc := "(III)Z" } : Jvm.MethodName) ({ cls := "NineDemands$Demand", name := "goes", desc := "(III)Z" } : Jvm.MethodName)) ∈ lw_all := lw_g (lw_at lw_m6 105 rfl) rfl
theorem q1688 : (Jvm.Cond.castable "NineDemands$Single" "NineDemands$Bids") ∈ lw_tbl := lw_at lw_m7 158 rfl
theorem q1689 : (Jvm.Cond.selects "NineDemands$Single" ({ cls := "NineDemands$Bids", name := "bids", desc := "(I)I" } : Jvm.MethodName) ({ cls := "NineDemands$Single", name := "bids", desc := "(I)I" } : Jvm.MethodName)) ∈ lw_all := lw_g (lw_at lw_m7 159 rfl) rfl
theorem q1690 : (Jvm.Cond.unhidden "NineDemands$Single" "bids" "(I)I") ∈ lw_tbl := lw_at lw_m7 160 rfl
theorem q1691 : (Jvm.Cond.instanceMethod ({ cls := "NineDemands$Single", name := "bids", desc := "(I)I" } : Jvm.MethodName)) ∈ lw_all := lw_g (lw_at lw_m7 161 rfl) rfl
theorem q1692 : (Jvm.Cond.publicMethod ({ cls := "NineDemands$Single", name := "bids", desc := "(I)I" } : Jvm.MethodName)) ∈ lw_tbl := lw_at lw_m7 162 rfl
theorem q1693 : (Jvm.Cond.code ({ cls := "NineDemands$Single", name := "bids", desc := "(I)I" } : Jvm.MethodName) prog_22_method_7_code (2 : Nat) (Option.some Jvm.ClassFile.FieldType.int)) ∈ lw_all := lw_g (lw_at lw_m7 163 rfl) rfl
theorem q1694 : (Jvm.Cond.methodLink "NineDemands$Single" (27 : Nat) ({ cls := "NineDemands$Trace", name := "begins", desc := "(I)V" } : Jvm.MethodName)) ∈ lw_all := lw_g (lw_at lw_m7 164 rfl) rfl
theorem q1695 : (Jvm.Cond.methodLink "NineDemands$Single" (33 : Nat) ({ cls := "NineDemands$Demand", name := "bids", desc := "(I)I" } : Jvm.MethodName)) ∈ lw_all := lw_g (lw_at lw_m7 165 rfl) rfl
theorem q1742 : (Jvm.Cond.castable "NineDemands$Single" "NineDemands$Bars") ∈ lw_tbl := lw_at lw_m7 212 rfl
theorem q1743 : (Jvm.Cond.selects "NineDemands$Single" ({ cls := "NineDemands$Bars", name := "bars", desc := "(I)I" } : Jvm.MethodName) ({ cls := "NineDemands$Demand", name := "bars", desc := "(I)I" } : Jvm.MethodName)) ∈ lw_all := lw_g (lw_at lw_m7 213 rfl) rfl
theorem q1744 : (Jvm.Cond.unhidden "NineDemands$Single" "bars" "(I)I") ∈ lw_tbl := lw_at lw_m7 214 rfl
theorem q1765 : (Jvm.Cond.castable "NineDemands$Single" "NineDemands$Yields") ∈ lw_tbl := lw_at lw_m7 235 rfl
theorem q1766 : (Jvm.Cond.selects "NineDemands$Single" ({ cls := "NineDemands$Yields", name := "yields", desc := "(I)I" } : Jvm.MethodName) ({ cls := "NineDemands$Single", name := "yields", desc := "(I)I" } : Jvm.MethodName)) ∈ lw_all := lw_g (lw_at lw_m7 236 rfl) rfl
theorem q1767 : (Jvm.Cond.unhidden "NineDemands$Single" "yields" "(I)I") ∈ lw_tbl := lw_at lw_m7 237 rfl
theorem q1768 : (Jvm.Cond.instanceMethod ({ cls := "NineDemands$Single", name := "yields", desc := "(I)I" } : Jvm.MethodName)) ∈ lw_all := lw_g (lw_at lw_m7 238 rfl) rfl
theorem q1769 : (Jvm.Cond.publicMethod ({ cls := "NineDemands$Single", name := "yields", desc := "(I)I" } : Jvm.MethodName)) ∈ lw_tbl := lw_at lw_m7 239 rfl
theorem q1770 : (Jvm.Cond.code ({ cls := "NineDemands$Single", name := "yields", desc := "(I)I" } : Jvm.MethodName) prog_22_method_8_code (3 : Nat) (Option.some Jvm.ClassFile.FieldType.int)) ∈ lw_all := lw_g (lw_at lw_m8 0 rfl) rfl
theorem q1771 : (Jvm.Cond.methodLink "NineDemands$Single" (37 : Nat) ({ cls := "NineDemands$Demand", name := "yields", desc := "(I)I" } : Jvm.MethodName)) ∈ lw_all := lw_g (lw_at lw_m8 1 rfl) rfl
theorem q1772 : (Jvm.Cond.methodLink "NineDemands$Single" (40 : Nat) ({ cls := "NineDemands$Single", name := "bids", desc := "(I)I" } : Jvm.MethodName)) ∈ lw_all := lw_g (lw_at lw_m8 2 rfl) rfl
theorem q1811 : (Jvm.Cond.castable "NineDemands$Single" "NineDemands$Stands") ∈ lw_tbl := lw_at lw_m8 41 rfl
theorem q1812 : (Jvm.Cond.selects "NineDemands$Single" ({ cls := "NineDemands$Stands", name := "stands", desc := "(I)I" } : Jvm.MethodName) ({ cls := "NineDemands$Demand", name := "stands", desc := "(I)I" } : Jvm.MethodName)) ∈ lw_all := lw_g (lw_at lw_m8 42 rfl) rfl
theorem q1813 : (Jvm.Cond.unhidden "NineDemands$Single" "stands" "(I)I") ∈ lw_tbl := lw_at lw_m8 43 rfl
theorem q1921 : (Jvm.Cond.selects "NineDemands$Single" ({ cls := "NineDemands$Demand", name := "again", desc := "()LNineDemands$Demand;" } : Jvm.MethodName) ({ cls := "NineDemands$Demand", name := "again", desc := "()LNineDemands$Demand;" } : Jvm.MethodName)) ∈ lw_all := lw_g (lw_at lw_m8 151 rfl) rfl
theorem q1943 : (Jvm.Cond.selects "NineDemands$Single" ({ cls := "NineDemands$Demand", name := "another", desc := "()LNineDemands$Demand;" } : Jvm.MethodName) ({ cls := "NineDemands$Single", name := "another", desc := "()LNineDemands$Demand;" } : Jvm.MethodName)) ∈ lw_all := lw_g (lw_at lw_m8 173 rfl) rfl
theorem q1944 : (Jvm.Cond.instanceMethod ({ cls := "NineDemands$Single", name := "another", desc := "()LNineDemands$Demand;" } : Jvm.MethodName)) ∈ lw_all := lw_g (lw_at lw_m8 174 rfl) rfl
theorem q1945 : (Jvm.Cond.code ({ cls := "NineDemands$Single", name := "another", desc := "()LNineDemands$Demand;" } : Jvm.MethodName) prog_22_method_5_code (1 : Nat) (Option.some (Jvm.ClassFile.FieldType.object "NineDemands$Demand"))) ∈ lw_all := lw_g (lw_at lw_m8 175 rfl) rfl
theorem q1946 : (Jvm.Cond.classLink "NineDemands$Single" (13 : Nat) "NineDemands$Single") ∈ lw_all := lw_g (lw_at lw_m8 176 rfl) rfl
theorem q1947 : (Jvm.Cond.methodLink "NineDemands$Single" (26 : Nat) ({ cls := "NineDemands$Single", name := "<init>", desc := "(LNineDemands$Trace;II)V" } : Jvm.MethodName)) ∈ lw_all := lw_g (lw_at lw_m8 177 rfl) rfl
theorem q2497 : (Jvm.Cond.selects "NineDemands$Single" ({ cls := "NineDemands$Demand", name := "bids", desc := "(I)I" } : Jvm.MethodName) ({ cls := "NineDemands$Single", name := "bids", desc := "(I)I" } : Jvm.MethodName)) ∈ lw_all := lw_g (lw_at lw_m11 7 rfl) rfl
theorem q2501 : (Jvm.Cond.selects "NineDemands$Single" ({ cls := "NineDemands$Single", name := "bids", desc := "(I)I" } : Jvm.MethodName) ({ cls := "NineDemands$Single", name := "bids", desc := "(I)I" } : Jvm.MethodName)) ∈ lw_all := lw_g (lw_at lw_m11 11 rfl) rfl
theorem q2506 : (Jvm.Cond.selects "NineDemands$Single" ({ cls := "NineDemands$Demand", name := "bars", desc := "(I)I" } : Jvm.MethodName) ({ cls := "NineDemands$Demand", name := "bars", desc := "(I)I" } : Jvm.MethodName)) ∈ lw_all := lw_g (lw_at lw_m11 16 rfl) rfl
theorem q2512 : (Jvm.Cond.selects "NineDemands$Single" ({ cls := "NineDemands$Demand", name := "yields", desc := "(I)I" } : Jvm.MethodName) ({ cls := "NineDemands$Single", name := "yields", desc := "(I)I" } : Jvm.MethodName)) ∈ lw_all := lw_g (lw_at lw_m11 22 rfl) rfl
theorem q2520 : (Jvm.Cond.castable "NineDemands$Single" "NineDemands$Demand") ∈ lw_tbl := lw_at lw_m11 30 rfl
theorem q2537 : (Jvm.Cond.castable "NineDemands$Single" "java/lang/Object") ∈ lw_tbl := lw_at lw_m11 47 rfl
theorem in_X15 : ∀ w ∈ wsX150, w ∈ lw_all := lw_in wsX150 [634, 635, 636, 637, 638] (by decide +kernel) (by decide +kernel)
/-! NineDemands$Reader -/
set_option maxRecDepth 100000
def RX16 : String := "NineDemands$Reader"
def TX16 : u_T := fun k => match k with
  | 0 => ("NineDemands$Reader", "names", "Ljava/lang/String;", true)
  | 1 => ("NineDemands$Reader", "bytes", "[B", true)
  | 2 => ("NineDemands$Reader", "size", "I", true)
  | 3 => ("NineDemands$Reader", "at", "I", false)
  | _ => ("NineDemands$Reader", "open", "I", false)
def tyX16 : Nat → FieldType := fun k => match k with
  | 0 => .object "java/lang/String"
  | 1 => .array .byte
  | 2 => .int
  | 3 => .int
  | _ => .int
abbrev wsX160 : List Cond := u_ws RX16 TX16 5
theorem nmX16 : ∀ a, a < 5 → ∀ b, b < 5 → a ≠ b → (TX16 a).2.1 ≠ (TX16 b).2.1 := by decide +kernel
theorem tyX16_ok : ∀ k, k < 5 → parseFieldDescriptor (TX16 k).2.2.1 = some (tyX16 k) := by decide +kernel
abbrev cX16_init : ByteArray := prog_16_method_1_code
def yX16_init : MethodName := ⟨RX16, "<init>", "(Ljava/lang/String;[BI)V"⟩
def dkwX16_init_0 : List UInt8 := [42, 183, 0, 3, 42, 43, 181, 0, 9, 42, 44, 181, 0, 15, 42, 29, 181, 0, 19, 177]
abbrev dktX16_init_0 : List UInt8 := dkwX16_init_0 ++ []
theorem dksX16_init_0 : cX16_init.data.toList.drop 0 = dktX16_init_0 := by decide +kernel
theorem dX16_init_0 : decode cX16_init 0 = .ok (.aload_n 0, 1) := dk_42 (dk_at dksX16_init_0 0 rfl rfl)
theorem dX16_init_1 : decode cX16_init 1 = .ok (.invokespecial 3, 3) := dk_183 0 3 (dk_at dksX16_init_0 1 rfl rfl)
theorem dX16_init_4 : decode cX16_init 4 = .ok (.aload_n 0, 1) := dk_42 (dk_at dksX16_init_0 4 rfl rfl)
theorem dX16_init_5 : decode cX16_init 5 = .ok (.aload_n 1, 1) := dk_43 (dk_at dksX16_init_0 5 rfl rfl)
theorem dX16_init_6 : decode cX16_init 6 = .ok (.putfield 9, 3) := dk_181 0 9 (dk_at dksX16_init_0 6 rfl rfl)
theorem dX16_init_9 : decode cX16_init 9 = .ok (.aload_n 0, 1) := dk_42 (dk_at dksX16_init_0 9 rfl rfl)
theorem dX16_init_10 : decode cX16_init 10 = .ok (.aload_n 2, 1) := dk_44 (dk_at dksX16_init_0 10 rfl rfl)
theorem dX16_init_11 : decode cX16_init 11 = .ok (.putfield 15, 3) := dk_181 0 15 (dk_at dksX16_init_0 11 rfl rfl)
theorem dX16_init_14 : decode cX16_init 14 = .ok (.aload_n 0, 1) := dk_42 (dk_at dksX16_init_0 14 rfl rfl)
theorem dX16_init_15 : decode cX16_init 15 = .ok (.iload_n 3, 1) := dk_29 (dk_at dksX16_init_0 15 rfl rfl)
theorem dX16_init_16 : decode cX16_init 16 = .ok (.putfield 19, 3) := dk_181 0 19 (dk_at dksX16_init_0 16 rfl rfl)
theorem dX16_init_19 : decode cX16_init 19 = .ok (.return_, 1) := dk_177 (dk_at dksX16_init_0 19 rfl rfl)
abbrev cX16_read : ByteArray := prog_16_method_2_code
def yX16_read : MethodName := ⟨RX16, "read", "()LNineDemands$Term;"⟩
def dkwX16_read_1 : List UInt8 := [182, 0, 30, 43, 176]
abbrev dktX16_read_1 : List UInt8 := dkwX16_read_1 ++ []
def dkwX16_read_0 : List UInt8 := [42, 182, 0, 23, 76, 42, 42, 180, 0, 27, 42, 180, 0, 19, 160, 0, 7, 4, 167, 0, 4, 3]
abbrev dktX16_read_0 : List UInt8 := dkwX16_read_0 ++ dktX16_read_1
theorem dksX16_read_0 : cX16_read.data.toList.drop 0 = dktX16_read_0 := by decide +kernel
theorem dksX16_read_1 : cX16_read.data.toList.drop 22 = dktX16_read_1 := dk_seg dksX16_read_0 22 rfl rfl
theorem dX16_read_0 : decode cX16_read 0 = .ok (.aload_n 0, 1) := dk_42 (dk_at dksX16_read_0 0 rfl rfl)
theorem dX16_read_1 : decode cX16_read 1 = .ok (.invokevirtual 23, 3) := dk_182 0 23 (dk_at dksX16_read_0 1 rfl rfl)
theorem dX16_read_4 : decode cX16_read 4 = .ok (.astore_n 1, 1) := dk_76 (dk_at dksX16_read_0 4 rfl rfl)
theorem dX16_read_5 : decode cX16_read 5 = .ok (.aload_n 0, 1) := dk_42 (dk_at dksX16_read_0 5 rfl rfl)
theorem dX16_read_6 : decode cX16_read 6 = .ok (.aload_n 0, 1) := dk_42 (dk_at dksX16_read_0 6 rfl rfl)
theorem dX16_read_7 : decode cX16_read 7 = .ok (.getfield 27, 3) := dk_180 0 27 (dk_at dksX16_read_0 7 rfl rfl)
theorem dX16_read_10 : decode cX16_read 10 = .ok (.aload_n 0, 1) := dk_42 (dk_at dksX16_read_0 10 rfl rfl)
theorem dX16_read_11 : decode cX16_read 11 = .ok (.getfield 19, 3) := dk_180 0 19 (dk_at dksX16_read_0 11 rfl rfl)
theorem dX16_read_14 : decode cX16_read 14 = .ok (.if_icmp .ne 7, 3) := dk_160 0 7 (dk_at dksX16_read_0 14 rfl rfl)
theorem dX16_read_17 : decode cX16_read 17 = .ok (.iconst 1, 1) := dk_4 (dk_at dksX16_read_0 17 rfl rfl)
theorem dX16_read_18 : decode cX16_read 18 = .ok (.goto 4, 3) := dk_167 0 4 (dk_at dksX16_read_0 18 rfl rfl)
theorem dX16_read_21 : decode cX16_read 21 = .ok (.iconst 0, 1) := dk_3 (dk_at dksX16_read_0 21 rfl rfl)
theorem dX16_read_22 : decode cX16_read 22 = .ok (.invokevirtual 30, 3) := dk_182 0 30 (dk_at dksX16_read_1 0 rfl rfl)
theorem dX16_read_25 : decode cX16_read 25 = .ok (.aload_n 1, 1) := dk_43 (dk_at dksX16_read_1 3 rfl rfl)
theorem dX16_read_26 : decode cX16_read 26 = .ok (.areturn, 1) := dk_176 (dk_at dksX16_read_1 4 rfl rfl)
abbrev cX16_either : ByteArray := prog_16_method_6_code
def yX16_either : MethodName := ⟨RX16, "either", "()LNineDemands$Term;"⟩
def dkwX16_either_1 : List UInt8 := [187, 0, 58, 89, 16, 124, 43, 42, 182, 0, 49, 183, 0, 60, 76, 167, 255, 222, 43, 176]
abbrev dktX16_either_1 : List UInt8 := dkwX16_either_1 ++ []
def dkwX16_either_0 : List UInt8 := [42, 182, 0, 49, 76, 42, 18, 52, 182, 0, 54, 153, 0, 31, 42, 89, 180, 0, 27, 4, 96, 181, 0, 27]
abbrev dktX16_either_0 : List UInt8 := dkwX16_either_0 ++ dktX16_either_1
theorem dksX16_either_0 : cX16_either.data.toList.drop 0 = dktX16_either_0 := by decide +kernel
theorem dksX16_either_1 : cX16_either.data.toList.drop 24 = dktX16_either_1 := dk_seg dksX16_either_0 24 rfl rfl
theorem dX16_either_0 : decode cX16_either 0 = .ok (.aload_n 0, 1) := dk_42 (dk_at dksX16_either_0 0 rfl rfl)
theorem dX16_either_1 : decode cX16_either 1 = .ok (.invokevirtual 49, 3) := dk_182 0 49 (dk_at dksX16_either_0 1 rfl rfl)
theorem dX16_either_4 : decode cX16_either 4 = .ok (.astore_n 1, 1) := dk_76 (dk_at dksX16_either_0 4 rfl rfl)
theorem dX16_either_5 : decode cX16_either 5 = .ok (.aload_n 0, 1) := dk_42 (dk_at dksX16_either_0 5 rfl rfl)
theorem dX16_either_6 : decode cX16_either 6 = .ok (.ldc 52, 2) := dk_18 52 (dk_at dksX16_either_0 6 rfl rfl)
theorem dX16_either_8 : decode cX16_either 8 = .ok (.invokevirtual 54, 3) := dk_182 0 54 (dk_at dksX16_either_0 8 rfl rfl)
theorem dX16_either_11 : decode cX16_either 11 = .ok (.ifCond .eq 31, 3) := dk_153 0 31 (dk_at dksX16_either_0 11 rfl rfl)
theorem dX16_either_14 : decode cX16_either 14 = .ok (.aload_n 0, 1) := dk_42 (dk_at dksX16_either_0 14 rfl rfl)
theorem dX16_either_15 : decode cX16_either 15 = .ok (.dup, 1) := dk_89 (dk_at dksX16_either_0 15 rfl rfl)
theorem dX16_either_16 : decode cX16_either 16 = .ok (.getfield 27, 3) := dk_180 0 27 (dk_at dksX16_either_0 16 rfl rfl)
theorem dX16_either_19 : decode cX16_either 19 = .ok (.iconst 1, 1) := dk_4 (dk_at dksX16_either_0 19 rfl rfl)
theorem dX16_either_20 : decode cX16_either 20 = .ok (.iadd, 1) := dk_96 (dk_at dksX16_either_0 20 rfl rfl)
theorem dX16_either_21 : decode cX16_either 21 = .ok (.putfield 27, 3) := dk_181 0 27 (dk_at dksX16_either_0 21 rfl rfl)
theorem dX16_either_24 : decode cX16_either 24 = .ok (.new 58, 3) := dk_187 0 58 (dk_at dksX16_either_1 0 rfl rfl)
theorem dX16_either_27 : decode cX16_either 27 = .ok (.dup, 1) := dk_89 (dk_at dksX16_either_1 3 rfl rfl)
theorem dX16_either_28 : decode cX16_either 28 = .ok (.bipush 124, 2) := dk_16 124 (dk_at dksX16_either_1 4 rfl rfl)
theorem dX16_either_30 : decode cX16_either 30 = .ok (.aload_n 1, 1) := dk_43 (dk_at dksX16_either_1 6 rfl rfl)
theorem dX16_either_31 : decode cX16_either 31 = .ok (.aload_n 0, 1) := dk_42 (dk_at dksX16_either_1 7 rfl rfl)
theorem dX16_either_32 : decode cX16_either 32 = .ok (.invokevirtual 49, 3) := dk_182 0 49 (dk_at dksX16_either_1 8 rfl rfl)
theorem dX16_either_35 : decode cX16_either 35 = .ok (.invokespecial 60, 3) := dk_183 0 60 (dk_at dksX16_either_1 11 rfl rfl)
theorem dX16_either_38 : decode cX16_either 38 = .ok (.astore_n 1, 1) := dk_76 (dk_at dksX16_either_1 14 rfl rfl)
theorem dX16_either_39 : decode cX16_either 39 = .ok (.goto (-34), 3) := dk_167 255 222 (dk_at dksX16_either_1 15 rfl rfl)
theorem dX16_either_42 : decode cX16_either 42 = .ok (.aload_n 1, 1) := dk_43 (dk_at dksX16_either_1 18 rfl rfl)
theorem dX16_either_43 : decode cX16_either 43 = .ok (.areturn, 1) := dk_176 (dk_at dksX16_either_1 19 rfl rfl)
abbrev cX16_both : ByteArray := prog_16_method_7_code
def yX16_both : MethodName := ⟨RX16, "both", "()LNineDemands$Term;"⟩
def dkwX16_both_1 : List UInt8 := [187, 0, 58, 89, 16, 38, 43, 42, 182, 0, 63, 183, 0, 60, 76, 167, 255, 222, 43, 176]
abbrev dktX16_both_1 : List UInt8 := dkwX16_both_1 ++ []
def dkwX16_both_0 : List UInt8 := [42, 182, 0, 63, 76, 42, 18, 66, 182, 0, 54, 153, 0, 31, 42, 89, 180, 0, 27, 4, 96, 181, 0, 27]
abbrev dktX16_both_0 : List UInt8 := dkwX16_both_0 ++ dktX16_both_1
theorem dksX16_both_0 : cX16_both.data.toList.drop 0 = dktX16_both_0 := by decide +kernel
theorem dksX16_both_1 : cX16_both.data.toList.drop 24 = dktX16_both_1 := dk_seg dksX16_both_0 24 rfl rfl
theorem dX16_both_0 : decode cX16_both 0 = .ok (.aload_n 0, 1) := dk_42 (dk_at dksX16_both_0 0 rfl rfl)
theorem dX16_both_1 : decode cX16_both 1 = .ok (.invokevirtual 63, 3) := dk_182 0 63 (dk_at dksX16_both_0 1 rfl rfl)
theorem dX16_both_4 : decode cX16_both 4 = .ok (.astore_n 1, 1) := dk_76 (dk_at dksX16_both_0 4 rfl rfl)
theorem dX16_both_5 : decode cX16_both 5 = .ok (.aload_n 0, 1) := dk_42 (dk_at dksX16_both_0 5 rfl rfl)
theorem dX16_both_6 : decode cX16_both 6 = .ok (.ldc 66, 2) := dk_18 66 (dk_at dksX16_both_0 6 rfl rfl)
theorem dX16_both_8 : decode cX16_both 8 = .ok (.invokevirtual 54, 3) := dk_182 0 54 (dk_at dksX16_both_0 8 rfl rfl)
theorem dX16_both_11 : decode cX16_both 11 = .ok (.ifCond .eq 31, 3) := dk_153 0 31 (dk_at dksX16_both_0 11 rfl rfl)
theorem dX16_both_14 : decode cX16_both 14 = .ok (.aload_n 0, 1) := dk_42 (dk_at dksX16_both_0 14 rfl rfl)
theorem dX16_both_15 : decode cX16_both 15 = .ok (.dup, 1) := dk_89 (dk_at dksX16_both_0 15 rfl rfl)
theorem dX16_both_16 : decode cX16_both 16 = .ok (.getfield 27, 3) := dk_180 0 27 (dk_at dksX16_both_0 16 rfl rfl)
theorem dX16_both_19 : decode cX16_both 19 = .ok (.iconst 1, 1) := dk_4 (dk_at dksX16_both_0 19 rfl rfl)
theorem dX16_both_20 : decode cX16_both 20 = .ok (.iadd, 1) := dk_96 (dk_at dksX16_both_0 20 rfl rfl)
theorem dX16_both_21 : decode cX16_both 21 = .ok (.putfield 27, 3) := dk_181 0 27 (dk_at dksX16_both_0 21 rfl rfl)
theorem dX16_both_24 : decode cX16_both 24 = .ok (.new 58, 3) := dk_187 0 58 (dk_at dksX16_both_1 0 rfl rfl)
theorem dX16_both_27 : decode cX16_both 27 = .ok (.dup, 1) := dk_89 (dk_at dksX16_both_1 3 rfl rfl)
theorem dX16_both_28 : decode cX16_both 28 = .ok (.bipush 38, 2) := dk_16 38 (dk_at dksX16_both_1 4 rfl rfl)
theorem dX16_both_30 : decode cX16_both 30 = .ok (.aload_n 1, 1) := dk_43 (dk_at dksX16_both_1 6 rfl rfl)
theorem dX16_both_31 : decode cX16_both 31 = .ok (.aload_n 0, 1) := dk_42 (dk_at dksX16_both_1 7 rfl rfl)
theorem dX16_both_32 : decode cX16_both 32 = .ok (.invokevirtual 63, 3) := dk_182 0 63 (dk_at dksX16_both_1 8 rfl rfl)
theorem dX16_both_35 : decode cX16_both 35 = .ok (.invokespecial 60, 3) := dk_183 0 60 (dk_at dksX16_both_1 11 rfl rfl)
theorem dX16_both_38 : decode cX16_both 38 = .ok (.astore_n 1, 1) := dk_76 (dk_at dksX16_both_1 14 rfl rfl)
theorem dX16_both_39 : decode cX16_both 39 = .ok (.goto (-34), 3) := dk_167 255 222 (dk_at dksX16_both_1 15 rfl rfl)
theorem dX16_both_42 : decode cX16_both 42 = .ok (.aload_n 1, 1) := dk_43 (dk_at dksX16_both_1 18 rfl rfl)
theorem dX16_both_43 : decode cX16_both 43 = .ok (.areturn, 1) := dk_176 (dk_at dksX16_both_1 19 rfl rfl)
abbrev cX16_relation : ByteArray := prog_16_method_8_code
def yX16_relation : MethodName := ⟨RX16, "relation", "()LNineDemands$Term;"⟩
def dkwX16_relation_1 : List UInt8 := [180, 0, 27, 4, 96, 181, 0, 27, 187, 0, 58, 89, 28, 43, 42, 182, 0, 68, 183, 0, 60, 176]
abbrev dktX16_relation_1 : List UInt8 := dkwX16_relation_1 ++ []
def dkwX16_relation_0 : List UInt8 := [42, 182, 0, 68, 76, 42, 18, 71, 182, 0, 54, 154, 0, 5, 43, 176, 42, 182, 0, 39, 61, 42, 89]
abbrev dktX16_relation_0 : List UInt8 := dkwX16_relation_0 ++ dktX16_relation_1
theorem dksX16_relation_0 : cX16_relation.data.toList.drop 0 = dktX16_relation_0 := by decide +kernel
theorem dksX16_relation_1 : cX16_relation.data.toList.drop 23 = dktX16_relation_1 := dk_seg dksX16_relation_0 23 rfl rfl
theorem dX16_relation_0 : decode cX16_relation 0 = .ok (.aload_n 0, 1) := dk_42 (dk_at dksX16_relation_0 0 rfl rfl)
theorem dX16_relation_1 : decode cX16_relation 1 = .ok (.invokevirtual 68, 3) := dk_182 0 68 (dk_at dksX16_relation_0 1 rfl rfl)
theorem dX16_relation_4 : decode cX16_relation 4 = .ok (.astore_n 1, 1) := dk_76 (dk_at dksX16_relation_0 4 rfl rfl)
theorem dX16_relation_5 : decode cX16_relation 5 = .ok (.aload_n 0, 1) := dk_42 (dk_at dksX16_relation_0 5 rfl rfl)
theorem dX16_relation_6 : decode cX16_relation 6 = .ok (.ldc 71, 2) := dk_18 71 (dk_at dksX16_relation_0 6 rfl rfl)
theorem dX16_relation_8 : decode cX16_relation 8 = .ok (.invokevirtual 54, 3) := dk_182 0 54 (dk_at dksX16_relation_0 8 rfl rfl)
theorem dX16_relation_11 : decode cX16_relation 11 = .ok (.ifCond .ne 5, 3) := dk_154 0 5 (dk_at dksX16_relation_0 11 rfl rfl)
theorem dX16_relation_14 : decode cX16_relation 14 = .ok (.aload_n 1, 1) := dk_43 (dk_at dksX16_relation_0 14 rfl rfl)
theorem dX16_relation_15 : decode cX16_relation 15 = .ok (.areturn, 1) := dk_176 (dk_at dksX16_relation_0 15 rfl rfl)
theorem dX16_relation_16 : decode cX16_relation 16 = .ok (.aload_n 0, 1) := dk_42 (dk_at dksX16_relation_0 16 rfl rfl)
theorem dX16_relation_17 : decode cX16_relation 17 = .ok (.invokevirtual 39, 3) := dk_182 0 39 (dk_at dksX16_relation_0 17 rfl rfl)
theorem dX16_relation_20 : decode cX16_relation 20 = .ok (.istore_n 2, 1) := dk_61 (dk_at dksX16_relation_0 20 rfl rfl)
theorem dX16_relation_21 : decode cX16_relation 21 = .ok (.aload_n 0, 1) := dk_42 (dk_at dksX16_relation_0 21 rfl rfl)
theorem dX16_relation_22 : decode cX16_relation 22 = .ok (.dup, 1) := dk_89 (dk_at dksX16_relation_0 22 rfl rfl)
theorem dX16_relation_23 : decode cX16_relation 23 = .ok (.getfield 27, 3) := dk_180 0 27 (dk_at dksX16_relation_1 0 rfl rfl)
theorem dX16_relation_26 : decode cX16_relation 26 = .ok (.iconst 1, 1) := dk_4 (dk_at dksX16_relation_1 3 rfl rfl)
theorem dX16_relation_27 : decode cX16_relation 27 = .ok (.iadd, 1) := dk_96 (dk_at dksX16_relation_1 4 rfl rfl)
theorem dX16_relation_28 : decode cX16_relation 28 = .ok (.putfield 27, 3) := dk_181 0 27 (dk_at dksX16_relation_1 5 rfl rfl)
theorem dX16_relation_31 : decode cX16_relation 31 = .ok (.new 58, 3) := dk_187 0 58 (dk_at dksX16_relation_1 8 rfl rfl)
theorem dX16_relation_34 : decode cX16_relation 34 = .ok (.dup, 1) := dk_89 (dk_at dksX16_relation_1 11 rfl rfl)
theorem dX16_relation_35 : decode cX16_relation 35 = .ok (.iload_n 2, 1) := dk_28 (dk_at dksX16_relation_1 12 rfl rfl)
theorem dX16_relation_36 : decode cX16_relation 36 = .ok (.aload_n 1, 1) := dk_43 (dk_at dksX16_relation_1 13 rfl rfl)
theorem dX16_relation_37 : decode cX16_relation 37 = .ok (.aload_n 0, 1) := dk_42 (dk_at dksX16_relation_1 14 rfl rfl)
theorem dX16_relation_38 : decode cX16_relation 38 = .ok (.invokevirtual 68, 3) := dk_182 0 68 (dk_at dksX16_relation_1 15 rfl rfl)
theorem dX16_relation_41 : decode cX16_relation 41 = .ok (.invokespecial 60, 3) := dk_183 0 60 (dk_at dksX16_relation_1 18 rfl rfl)
theorem dX16_relation_44 : decode cX16_relation 44 = .ok (.areturn, 1) := dk_176 (dk_at dksX16_relation_1 21 rfl rfl)
abbrev cX16_sum : ByteArray := prog_16_method_9_code
def yX16_sum : MethodName := ⟨RX16, "sum", "()LNineDemands$Term;"⟩
def dkwX16_sum_1 : List UInt8 := [4, 96, 181, 0, 27, 187, 0, 58, 89, 28, 43, 42, 182, 0, 73, 183, 0, 60, 76, 167, 255, 218, 43, 176]
abbrev dktX16_sum_1 : List UInt8 := dkwX16_sum_1 ++ []
def dkwX16_sum_0 : List UInt8 := [42, 182, 0, 73, 76, 42, 18, 76, 182, 0, 54, 153, 0, 35, 42, 182, 0, 39, 61, 42, 89, 180, 0, 27]
abbrev dktX16_sum_0 : List UInt8 := dkwX16_sum_0 ++ dktX16_sum_1
theorem dksX16_sum_0 : cX16_sum.data.toList.drop 0 = dktX16_sum_0 := by decide +kernel
theorem dksX16_sum_1 : cX16_sum.data.toList.drop 24 = dktX16_sum_1 := dk_seg dksX16_sum_0 24 rfl rfl
theorem dX16_sum_0 : decode cX16_sum 0 = .ok (.aload_n 0, 1) := dk_42 (dk_at dksX16_sum_0 0 rfl rfl)
theorem dX16_sum_1 : decode cX16_sum 1 = .ok (.invokevirtual 73, 3) := dk_182 0 73 (dk_at dksX16_sum_0 1 rfl rfl)
theorem dX16_sum_4 : decode cX16_sum 4 = .ok (.astore_n 1, 1) := dk_76 (dk_at dksX16_sum_0 4 rfl rfl)
theorem dX16_sum_5 : decode cX16_sum 5 = .ok (.aload_n 0, 1) := dk_42 (dk_at dksX16_sum_0 5 rfl rfl)
theorem dX16_sum_6 : decode cX16_sum 6 = .ok (.ldc 76, 2) := dk_18 76 (dk_at dksX16_sum_0 6 rfl rfl)
theorem dX16_sum_8 : decode cX16_sum 8 = .ok (.invokevirtual 54, 3) := dk_182 0 54 (dk_at dksX16_sum_0 8 rfl rfl)
theorem dX16_sum_11 : decode cX16_sum 11 = .ok (.ifCond .eq 35, 3) := dk_153 0 35 (dk_at dksX16_sum_0 11 rfl rfl)
theorem dX16_sum_14 : decode cX16_sum 14 = .ok (.aload_n 0, 1) := dk_42 (dk_at dksX16_sum_0 14 rfl rfl)
theorem dX16_sum_15 : decode cX16_sum 15 = .ok (.invokevirtual 39, 3) := dk_182 0 39 (dk_at dksX16_sum_0 15 rfl rfl)
theorem dX16_sum_18 : decode cX16_sum 18 = .ok (.istore_n 2, 1) := dk_61 (dk_at dksX16_sum_0 18 rfl rfl)
theorem dX16_sum_19 : decode cX16_sum 19 = .ok (.aload_n 0, 1) := dk_42 (dk_at dksX16_sum_0 19 rfl rfl)
theorem dX16_sum_20 : decode cX16_sum 20 = .ok (.dup, 1) := dk_89 (dk_at dksX16_sum_0 20 rfl rfl)
theorem dX16_sum_21 : decode cX16_sum 21 = .ok (.getfield 27, 3) := dk_180 0 27 (dk_at dksX16_sum_0 21 rfl rfl)
theorem dX16_sum_24 : decode cX16_sum 24 = .ok (.iconst 1, 1) := dk_4 (dk_at dksX16_sum_1 0 rfl rfl)
theorem dX16_sum_25 : decode cX16_sum 25 = .ok (.iadd, 1) := dk_96 (dk_at dksX16_sum_1 1 rfl rfl)
theorem dX16_sum_26 : decode cX16_sum 26 = .ok (.putfield 27, 3) := dk_181 0 27 (dk_at dksX16_sum_1 2 rfl rfl)
theorem dX16_sum_29 : decode cX16_sum 29 = .ok (.new 58, 3) := dk_187 0 58 (dk_at dksX16_sum_1 5 rfl rfl)
theorem dX16_sum_32 : decode cX16_sum 32 = .ok (.dup, 1) := dk_89 (dk_at dksX16_sum_1 8 rfl rfl)
theorem dX16_sum_33 : decode cX16_sum 33 = .ok (.iload_n 2, 1) := dk_28 (dk_at dksX16_sum_1 9 rfl rfl)
theorem dX16_sum_34 : decode cX16_sum 34 = .ok (.aload_n 1, 1) := dk_43 (dk_at dksX16_sum_1 10 rfl rfl)
theorem dX16_sum_35 : decode cX16_sum 35 = .ok (.aload_n 0, 1) := dk_42 (dk_at dksX16_sum_1 11 rfl rfl)
theorem dX16_sum_36 : decode cX16_sum 36 = .ok (.invokevirtual 73, 3) := dk_182 0 73 (dk_at dksX16_sum_1 12 rfl rfl)
theorem dX16_sum_39 : decode cX16_sum 39 = .ok (.invokespecial 60, 3) := dk_183 0 60 (dk_at dksX16_sum_1 15 rfl rfl)
theorem dX16_sum_42 : decode cX16_sum 42 = .ok (.astore_n 1, 1) := dk_76 (dk_at dksX16_sum_1 18 rfl rfl)
theorem dX16_sum_43 : decode cX16_sum 43 = .ok (.goto (-38), 3) := dk_167 255 218 (dk_at dksX16_sum_1 19 rfl rfl)
theorem dX16_sum_46 : decode cX16_sum 46 = .ok (.aload_n 1, 1) := dk_43 (dk_at dksX16_sum_1 22 rfl rfl)
theorem dX16_sum_47 : decode cX16_sum 47 = .ok (.areturn, 1) := dk_176 (dk_at dksX16_sum_1 23 rfl rfl)
abbrev cX16_product : ByteArray := prog_16_method_10_code
def yX16_product : MethodName := ⟨RX16, "product", "()LNineDemands$Term;"⟩
def dkwX16_product_1 : List UInt8 := [4, 96, 181, 0, 27, 187, 0, 58, 89, 28, 43, 42, 182, 0, 78, 183, 0, 60, 76, 167, 255, 218, 43, 176]
abbrev dktX16_product_1 : List UInt8 := dkwX16_product_1 ++ []
def dkwX16_product_0 : List UInt8 := [42, 182, 0, 78, 76, 42, 18, 81, 182, 0, 54, 153, 0, 35, 42, 182, 0, 39, 61, 42, 89, 180, 0, 27]
abbrev dktX16_product_0 : List UInt8 := dkwX16_product_0 ++ dktX16_product_1
theorem dksX16_product_0 : cX16_product.data.toList.drop 0 = dktX16_product_0 := by decide +kernel
theorem dksX16_product_1 : cX16_product.data.toList.drop 24 = dktX16_product_1 := dk_seg dksX16_product_0 24 rfl rfl
theorem dX16_product_0 : decode cX16_product 0 = .ok (.aload_n 0, 1) := dk_42 (dk_at dksX16_product_0 0 rfl rfl)
theorem dX16_product_1 : decode cX16_product 1 = .ok (.invokevirtual 78, 3) := dk_182 0 78 (dk_at dksX16_product_0 1 rfl rfl)
theorem dX16_product_4 : decode cX16_product 4 = .ok (.astore_n 1, 1) := dk_76 (dk_at dksX16_product_0 4 rfl rfl)
theorem dX16_product_5 : decode cX16_product 5 = .ok (.aload_n 0, 1) := dk_42 (dk_at dksX16_product_0 5 rfl rfl)
theorem dX16_product_6 : decode cX16_product 6 = .ok (.ldc 81, 2) := dk_18 81 (dk_at dksX16_product_0 6 rfl rfl)
theorem dX16_product_8 : decode cX16_product 8 = .ok (.invokevirtual 54, 3) := dk_182 0 54 (dk_at dksX16_product_0 8 rfl rfl)
theorem dX16_product_11 : decode cX16_product 11 = .ok (.ifCond .eq 35, 3) := dk_153 0 35 (dk_at dksX16_product_0 11 rfl rfl)
theorem dX16_product_14 : decode cX16_product 14 = .ok (.aload_n 0, 1) := dk_42 (dk_at dksX16_product_0 14 rfl rfl)
theorem dX16_product_15 : decode cX16_product 15 = .ok (.invokevirtual 39, 3) := dk_182 0 39 (dk_at dksX16_product_0 15 rfl rfl)
theorem dX16_product_18 : decode cX16_product 18 = .ok (.istore_n 2, 1) := dk_61 (dk_at dksX16_product_0 18 rfl rfl)
theorem dX16_product_19 : decode cX16_product 19 = .ok (.aload_n 0, 1) := dk_42 (dk_at dksX16_product_0 19 rfl rfl)
theorem dX16_product_20 : decode cX16_product 20 = .ok (.dup, 1) := dk_89 (dk_at dksX16_product_0 20 rfl rfl)
theorem dX16_product_21 : decode cX16_product 21 = .ok (.getfield 27, 3) := dk_180 0 27 (dk_at dksX16_product_0 21 rfl rfl)
theorem dX16_product_24 : decode cX16_product 24 = .ok (.iconst 1, 1) := dk_4 (dk_at dksX16_product_1 0 rfl rfl)
theorem dX16_product_25 : decode cX16_product 25 = .ok (.iadd, 1) := dk_96 (dk_at dksX16_product_1 1 rfl rfl)
theorem dX16_product_26 : decode cX16_product 26 = .ok (.putfield 27, 3) := dk_181 0 27 (dk_at dksX16_product_1 2 rfl rfl)
theorem dX16_product_29 : decode cX16_product 29 = .ok (.new 58, 3) := dk_187 0 58 (dk_at dksX16_product_1 5 rfl rfl)
theorem dX16_product_32 : decode cX16_product 32 = .ok (.dup, 1) := dk_89 (dk_at dksX16_product_1 8 rfl rfl)
theorem dX16_product_33 : decode cX16_product 33 = .ok (.iload_n 2, 1) := dk_28 (dk_at dksX16_product_1 9 rfl rfl)
theorem dX16_product_34 : decode cX16_product 34 = .ok (.aload_n 1, 1) := dk_43 (dk_at dksX16_product_1 10 rfl rfl)
theorem dX16_product_35 : decode cX16_product 35 = .ok (.aload_n 0, 1) := dk_42 (dk_at dksX16_product_1 11 rfl rfl)
theorem dX16_product_36 : decode cX16_product 36 = .ok (.invokevirtual 78, 3) := dk_182 0 78 (dk_at dksX16_product_1 12 rfl rfl)
theorem dX16_product_39 : decode cX16_product 39 = .ok (.invokespecial 60, 3) := dk_183 0 60 (dk_at dksX16_product_1 15 rfl rfl)
theorem dX16_product_42 : decode cX16_product 42 = .ok (.astore_n 1, 1) := dk_76 (dk_at dksX16_product_1 18 rfl rfl)
theorem dX16_product_43 : decode cX16_product 43 = .ok (.goto (-38), 3) := dk_167 255 218 (dk_at dksX16_product_1 19 rfl rfl)
theorem dX16_product_46 : decode cX16_product 46 = .ok (.aload_n 1, 1) := dk_43 (dk_at dksX16_product_1 22 rfl rfl)
theorem dX16_product_47 : decode cX16_product 47 = .ok (.areturn, 1) := dk_176 (dk_at dksX16_product_1 23 rfl rfl)
abbrev cX16_single : ByteArray := prog_16_method_12_code
def yX16_single : MethodName := ⟨RX16, "single", "()LNineDemands$Term;"⟩
def dkwX16_single_9 : List UInt8 := [183, 0, 107, 176]
abbrev dktX16_single_9 : List UInt8 := dkwX16_single_9 ++ []
def dkwX16_single_8 : List UInt8 := [100, 60, 42, 89, 180, 0, 27, 4, 96, 181, 0, 27, 132, 2, 1, 167, 255, 211, 187, 0, 105, 89, 27]
abbrev dktX16_single_8 : List UInt8 := dkwX16_single_8 ++ dktX16_single_9
def dkwX16_single_7 : List UInt8 := [182, 0, 39, 16, 48, 16, 57, 184, 0, 101, 153, 0, 32, 16, 10, 27, 104, 42, 182, 0, 39, 96, 16, 48]
abbrev dktX16_single_7 : List UInt8 := dkwX16_single_7 ++ dktX16_single_8
def dkwX16_single_6 : List UInt8 := [182, 0, 39, 16, 48, 16, 57, 184, 0, 101, 182, 0, 30, 3, 60, 3, 61, 28, 7, 162, 0, 46, 42]
abbrev dktX16_single_6 : List UInt8 := dkwX16_single_6 ++ dktX16_single_7
def dkwX16_single_5 : List UInt8 := [180, 0, 27, 4, 96, 181, 0, 27, 42, 89, 180, 0, 83, 4, 100, 181, 0, 83, 43, 176, 42, 42]
abbrev dktX16_single_5 : List UInt8 := dkwX16_single_5 ++ dktX16_single_6
def dkwX16_single_4 : List UInt8 := [182, 0, 23, 76, 42, 42, 182, 0, 39, 16, 41, 160, 0, 7, 4, 167, 0, 4, 3, 182, 0, 30, 42, 89]
abbrev dktX16_single_4 : List UInt8 := dkwX16_single_4 ++ dktX16_single_5
def dkwX16_single_3 : List UInt8 := [187, 0, 94, 89, 43, 183, 0, 96, 176, 42, 18, 99, 182, 0, 54, 153, 0, 52, 42, 182, 0, 91, 42]
abbrev dktX16_single_3 : List UInt8 := dkwX16_single_3 ++ dktX16_single_4
def dkwX16_single_2 : List UInt8 := [153, 0, 31, 42, 182, 0, 91, 42, 182, 0, 78, 76, 42, 89, 180, 0, 83, 4, 100, 181, 0, 83]
abbrev dktX16_single_2 : List UInt8 := dkwX16_single_2 ++ dktX16_single_3
def dkwX16_single_1 : List UInt8 := [89, 42, 180, 0, 15, 42, 180, 0, 27, 4, 100, 51, 183, 0, 88, 176, 42, 18, 89, 182, 0, 54]
abbrev dktX16_single_1 : List UInt8 := dkwX16_single_1 ++ dktX16_single_2
def dkwX16_single_0 : List UInt8 := [42, 42, 180, 0, 9, 182, 0, 54, 153, 0, 32, 42, 89, 180, 0, 27, 4, 96, 181, 0, 27, 187, 0, 86]
abbrev dktX16_single_0 : List UInt8 := dkwX16_single_0 ++ dktX16_single_1
theorem dksX16_single_0 : cX16_single.data.toList.drop 0 = dktX16_single_0 := by decide +kernel
theorem dksX16_single_1 : cX16_single.data.toList.drop 24 = dktX16_single_1 := dk_seg dksX16_single_0 24 rfl rfl
theorem dksX16_single_2 : cX16_single.data.toList.drop 46 = dktX16_single_2 := dk_seg dksX16_single_1 22 rfl rfl
theorem dksX16_single_3 : cX16_single.data.toList.drop 68 = dktX16_single_3 := dk_seg dksX16_single_2 22 rfl rfl
theorem dksX16_single_4 : cX16_single.data.toList.drop 91 = dktX16_single_4 := dk_seg dksX16_single_3 23 rfl rfl
theorem dksX16_single_5 : cX16_single.data.toList.drop 115 = dktX16_single_5 := dk_seg dksX16_single_4 24 rfl rfl
theorem dksX16_single_6 : cX16_single.data.toList.drop 137 = dktX16_single_6 := dk_seg dksX16_single_5 22 rfl rfl
theorem dksX16_single_7 : cX16_single.data.toList.drop 160 = dktX16_single_7 := dk_seg dksX16_single_6 23 rfl rfl
theorem dksX16_single_8 : cX16_single.data.toList.drop 184 = dktX16_single_8 := dk_seg dksX16_single_7 24 rfl rfl
theorem dksX16_single_9 : cX16_single.data.toList.drop 207 = dktX16_single_9 := dk_seg dksX16_single_8 23 rfl rfl
theorem dX16_single_0 : decode cX16_single 0 = .ok (.aload_n 0, 1) := dk_42 (dk_at dksX16_single_0 0 rfl rfl)
theorem dX16_single_1 : decode cX16_single 1 = .ok (.aload_n 0, 1) := dk_42 (dk_at dksX16_single_0 1 rfl rfl)
theorem dX16_single_2 : decode cX16_single 2 = .ok (.getfield 9, 3) := dk_180 0 9 (dk_at dksX16_single_0 2 rfl rfl)
theorem dX16_single_5 : decode cX16_single 5 = .ok (.invokevirtual 54, 3) := dk_182 0 54 (dk_at dksX16_single_0 5 rfl rfl)
theorem dX16_single_8 : decode cX16_single 8 = .ok (.ifCond .eq 32, 3) := dk_153 0 32 (dk_at dksX16_single_0 8 rfl rfl)
theorem dX16_single_11 : decode cX16_single 11 = .ok (.aload_n 0, 1) := dk_42 (dk_at dksX16_single_0 11 rfl rfl)
theorem dX16_single_12 : decode cX16_single 12 = .ok (.dup, 1) := dk_89 (dk_at dksX16_single_0 12 rfl rfl)
theorem dX16_single_13 : decode cX16_single 13 = .ok (.getfield 27, 3) := dk_180 0 27 (dk_at dksX16_single_0 13 rfl rfl)
theorem dX16_single_16 : decode cX16_single 16 = .ok (.iconst 1, 1) := dk_4 (dk_at dksX16_single_0 16 rfl rfl)
theorem dX16_single_17 : decode cX16_single 17 = .ok (.iadd, 1) := dk_96 (dk_at dksX16_single_0 17 rfl rfl)
theorem dX16_single_18 : decode cX16_single 18 = .ok (.putfield 27, 3) := dk_181 0 27 (dk_at dksX16_single_0 18 rfl rfl)
theorem dX16_single_21 : decode cX16_single 21 = .ok (.new 86, 3) := dk_187 0 86 (dk_at dksX16_single_0 21 rfl rfl)
theorem dX16_single_24 : decode cX16_single 24 = .ok (.dup, 1) := dk_89 (dk_at dksX16_single_1 0 rfl rfl)
theorem dX16_single_25 : decode cX16_single 25 = .ok (.aload_n 0, 1) := dk_42 (dk_at dksX16_single_1 1 rfl rfl)
theorem dX16_single_26 : decode cX16_single 26 = .ok (.getfield 15, 3) := dk_180 0 15 (dk_at dksX16_single_1 2 rfl rfl)
theorem dX16_single_29 : decode cX16_single 29 = .ok (.aload_n 0, 1) := dk_42 (dk_at dksX16_single_1 5 rfl rfl)
theorem dX16_single_30 : decode cX16_single 30 = .ok (.getfield 27, 3) := dk_180 0 27 (dk_at dksX16_single_1 6 rfl rfl)
theorem dX16_single_33 : decode cX16_single 33 = .ok (.iconst 1, 1) := dk_4 (dk_at dksX16_single_1 9 rfl rfl)
theorem dX16_single_34 : decode cX16_single 34 = .ok (.isub, 1) := dk_100 (dk_at dksX16_single_1 10 rfl rfl)
theorem dX16_single_35 : decode cX16_single 35 = .ok (.baload, 1) := dk_51 (dk_at dksX16_single_1 11 rfl rfl)
theorem dX16_single_36 : decode cX16_single 36 = .ok (.invokespecial 88, 3) := dk_183 0 88 (dk_at dksX16_single_1 12 rfl rfl)
theorem dX16_single_39 : decode cX16_single 39 = .ok (.areturn, 1) := dk_176 (dk_at dksX16_single_1 15 rfl rfl)
theorem dX16_single_40 : decode cX16_single 40 = .ok (.aload_n 0, 1) := dk_42 (dk_at dksX16_single_1 16 rfl rfl)
theorem dX16_single_41 : decode cX16_single 41 = .ok (.ldc 89, 2) := dk_18 89 (dk_at dksX16_single_1 17 rfl rfl)
theorem dX16_single_43 : decode cX16_single 43 = .ok (.invokevirtual 54, 3) := dk_182 0 54 (dk_at dksX16_single_1 19 rfl rfl)
theorem dX16_single_46 : decode cX16_single 46 = .ok (.ifCond .eq 31, 3) := dk_153 0 31 (dk_at dksX16_single_2 0 rfl rfl)
theorem dX16_single_49 : decode cX16_single 49 = .ok (.aload_n 0, 1) := dk_42 (dk_at dksX16_single_2 3 rfl rfl)
theorem dX16_single_50 : decode cX16_single 50 = .ok (.invokevirtual 91, 3) := dk_182 0 91 (dk_at dksX16_single_2 4 rfl rfl)
theorem dX16_single_53 : decode cX16_single 53 = .ok (.aload_n 0, 1) := dk_42 (dk_at dksX16_single_2 7 rfl rfl)
theorem dX16_single_54 : decode cX16_single 54 = .ok (.invokevirtual 78, 3) := dk_182 0 78 (dk_at dksX16_single_2 8 rfl rfl)
theorem dX16_single_57 : decode cX16_single 57 = .ok (.astore_n 1, 1) := dk_76 (dk_at dksX16_single_2 11 rfl rfl)
theorem dX16_single_58 : decode cX16_single 58 = .ok (.aload_n 0, 1) := dk_42 (dk_at dksX16_single_2 12 rfl rfl)
theorem dX16_single_59 : decode cX16_single 59 = .ok (.dup, 1) := dk_89 (dk_at dksX16_single_2 13 rfl rfl)
theorem dX16_single_60 : decode cX16_single 60 = .ok (.getfield 83, 3) := dk_180 0 83 (dk_at dksX16_single_2 14 rfl rfl)
theorem dX16_single_63 : decode cX16_single 63 = .ok (.iconst 1, 1) := dk_4 (dk_at dksX16_single_2 17 rfl rfl)
theorem dX16_single_64 : decode cX16_single 64 = .ok (.isub, 1) := dk_100 (dk_at dksX16_single_2 18 rfl rfl)
theorem dX16_single_65 : decode cX16_single 65 = .ok (.putfield 83, 3) := dk_181 0 83 (dk_at dksX16_single_2 19 rfl rfl)
theorem dX16_single_68 : decode cX16_single 68 = .ok (.new 94, 3) := dk_187 0 94 (dk_at dksX16_single_3 0 rfl rfl)
theorem dX16_single_71 : decode cX16_single 71 = .ok (.dup, 1) := dk_89 (dk_at dksX16_single_3 3 rfl rfl)
theorem dX16_single_72 : decode cX16_single 72 = .ok (.aload_n 1, 1) := dk_43 (dk_at dksX16_single_3 4 rfl rfl)
theorem dX16_single_73 : decode cX16_single 73 = .ok (.invokespecial 96, 3) := dk_183 0 96 (dk_at dksX16_single_3 5 rfl rfl)
theorem dX16_single_76 : decode cX16_single 76 = .ok (.areturn, 1) := dk_176 (dk_at dksX16_single_3 8 rfl rfl)
theorem dX16_single_77 : decode cX16_single 77 = .ok (.aload_n 0, 1) := dk_42 (dk_at dksX16_single_3 9 rfl rfl)
theorem dX16_single_78 : decode cX16_single 78 = .ok (.ldc 99, 2) := dk_18 99 (dk_at dksX16_single_3 10 rfl rfl)
theorem dX16_single_80 : decode cX16_single 80 = .ok (.invokevirtual 54, 3) := dk_182 0 54 (dk_at dksX16_single_3 12 rfl rfl)
theorem dX16_single_83 : decode cX16_single 83 = .ok (.ifCond .eq 52, 3) := dk_153 0 52 (dk_at dksX16_single_3 15 rfl rfl)
theorem dX16_single_86 : decode cX16_single 86 = .ok (.aload_n 0, 1) := dk_42 (dk_at dksX16_single_3 18 rfl rfl)
theorem dX16_single_87 : decode cX16_single 87 = .ok (.invokevirtual 91, 3) := dk_182 0 91 (dk_at dksX16_single_3 19 rfl rfl)
theorem dX16_single_90 : decode cX16_single 90 = .ok (.aload_n 0, 1) := dk_42 (dk_at dksX16_single_3 22 rfl rfl)
theorem dX16_single_91 : decode cX16_single 91 = .ok (.invokevirtual 23, 3) := dk_182 0 23 (dk_at dksX16_single_4 0 rfl rfl)
theorem dX16_single_94 : decode cX16_single 94 = .ok (.astore_n 1, 1) := dk_76 (dk_at dksX16_single_4 3 rfl rfl)
theorem dX16_single_95 : decode cX16_single 95 = .ok (.aload_n 0, 1) := dk_42 (dk_at dksX16_single_4 4 rfl rfl)
theorem dX16_single_96 : decode cX16_single 96 = .ok (.aload_n 0, 1) := dk_42 (dk_at dksX16_single_4 5 rfl rfl)
theorem dX16_single_97 : decode cX16_single 97 = .ok (.invokevirtual 39, 3) := dk_182 0 39 (dk_at dksX16_single_4 6 rfl rfl)
theorem dX16_single_100 : decode cX16_single 100 = .ok (.bipush 41, 2) := dk_16 41 (dk_at dksX16_single_4 9 rfl rfl)
theorem dX16_single_102 : decode cX16_single 102 = .ok (.if_icmp .ne 7, 3) := dk_160 0 7 (dk_at dksX16_single_4 11 rfl rfl)
theorem dX16_single_105 : decode cX16_single 105 = .ok (.iconst 1, 1) := dk_4 (dk_at dksX16_single_4 14 rfl rfl)
theorem dX16_single_106 : decode cX16_single 106 = .ok (.goto 4, 3) := dk_167 0 4 (dk_at dksX16_single_4 15 rfl rfl)
theorem dX16_single_109 : decode cX16_single 109 = .ok (.iconst 0, 1) := dk_3 (dk_at dksX16_single_4 18 rfl rfl)
theorem dX16_single_110 : decode cX16_single 110 = .ok (.invokevirtual 30, 3) := dk_182 0 30 (dk_at dksX16_single_4 19 rfl rfl)
theorem dX16_single_113 : decode cX16_single 113 = .ok (.aload_n 0, 1) := dk_42 (dk_at dksX16_single_4 22 rfl rfl)
theorem dX16_single_114 : decode cX16_single 114 = .ok (.dup, 1) := dk_89 (dk_at dksX16_single_4 23 rfl rfl)
theorem dX16_single_115 : decode cX16_single 115 = .ok (.getfield 27, 3) := dk_180 0 27 (dk_at dksX16_single_5 0 rfl rfl)
theorem dX16_single_118 : decode cX16_single 118 = .ok (.iconst 1, 1) := dk_4 (dk_at dksX16_single_5 3 rfl rfl)
theorem dX16_single_119 : decode cX16_single 119 = .ok (.iadd, 1) := dk_96 (dk_at dksX16_single_5 4 rfl rfl)
theorem dX16_single_120 : decode cX16_single 120 = .ok (.putfield 27, 3) := dk_181 0 27 (dk_at dksX16_single_5 5 rfl rfl)
theorem dX16_single_123 : decode cX16_single 123 = .ok (.aload_n 0, 1) := dk_42 (dk_at dksX16_single_5 8 rfl rfl)
theorem dX16_single_124 : decode cX16_single 124 = .ok (.dup, 1) := dk_89 (dk_at dksX16_single_5 9 rfl rfl)
theorem dX16_single_125 : decode cX16_single 125 = .ok (.getfield 83, 3) := dk_180 0 83 (dk_at dksX16_single_5 10 rfl rfl)
theorem dX16_single_128 : decode cX16_single 128 = .ok (.iconst 1, 1) := dk_4 (dk_at dksX16_single_5 13 rfl rfl)
theorem dX16_single_129 : decode cX16_single 129 = .ok (.isub, 1) := dk_100 (dk_at dksX16_single_5 14 rfl rfl)
theorem dX16_single_130 : decode cX16_single 130 = .ok (.putfield 83, 3) := dk_181 0 83 (dk_at dksX16_single_5 15 rfl rfl)
theorem dX16_single_133 : decode cX16_single 133 = .ok (.aload_n 1, 1) := dk_43 (dk_at dksX16_single_5 18 rfl rfl)
theorem dX16_single_134 : decode cX16_single 134 = .ok (.areturn, 1) := dk_176 (dk_at dksX16_single_5 19 rfl rfl)
theorem dX16_single_135 : decode cX16_single 135 = .ok (.aload_n 0, 1) := dk_42 (dk_at dksX16_single_5 20 rfl rfl)
theorem dX16_single_136 : decode cX16_single 136 = .ok (.aload_n 0, 1) := dk_42 (dk_at dksX16_single_5 21 rfl rfl)
theorem dX16_single_137 : decode cX16_single 137 = .ok (.invokevirtual 39, 3) := dk_182 0 39 (dk_at dksX16_single_6 0 rfl rfl)
theorem dX16_single_140 : decode cX16_single 140 = .ok (.bipush 48, 2) := dk_16 48 (dk_at dksX16_single_6 3 rfl rfl)
theorem dX16_single_142 : decode cX16_single 142 = .ok (.bipush 57, 2) := dk_16 57 (dk_at dksX16_single_6 5 rfl rfl)
theorem dX16_single_144 : decode cX16_single 144 = .ok (.invokestatic 101, 3) := dk_184 0 101 (dk_at dksX16_single_6 7 rfl rfl)
theorem dX16_single_147 : decode cX16_single 147 = .ok (.invokevirtual 30, 3) := dk_182 0 30 (dk_at dksX16_single_6 10 rfl rfl)
theorem dX16_single_150 : decode cX16_single 150 = .ok (.iconst 0, 1) := dk_3 (dk_at dksX16_single_6 13 rfl rfl)
theorem dX16_single_151 : decode cX16_single 151 = .ok (.istore_n 1, 1) := dk_60 (dk_at dksX16_single_6 14 rfl rfl)
theorem dX16_single_152 : decode cX16_single 152 = .ok (.iconst 0, 1) := dk_3 (dk_at dksX16_single_6 15 rfl rfl)
theorem dX16_single_153 : decode cX16_single 153 = .ok (.istore_n 2, 1) := dk_61 (dk_at dksX16_single_6 16 rfl rfl)
theorem dX16_single_154 : decode cX16_single 154 = .ok (.iload_n 2, 1) := dk_28 (dk_at dksX16_single_6 17 rfl rfl)
theorem dX16_single_155 : decode cX16_single 155 = .ok (.iconst 4, 1) := dk_7 (dk_at dksX16_single_6 18 rfl rfl)
theorem dX16_single_156 : decode cX16_single 156 = .ok (.if_icmp .ge 46, 3) := dk_162 0 46 (dk_at dksX16_single_6 19 rfl rfl)
theorem dX16_single_159 : decode cX16_single 159 = .ok (.aload_n 0, 1) := dk_42 (dk_at dksX16_single_6 22 rfl rfl)
theorem dX16_single_160 : decode cX16_single 160 = .ok (.invokevirtual 39, 3) := dk_182 0 39 (dk_at dksX16_single_7 0 rfl rfl)
theorem dX16_single_163 : decode cX16_single 163 = .ok (.bipush 48, 2) := dk_16 48 (dk_at dksX16_single_7 3 rfl rfl)
theorem dX16_single_165 : decode cX16_single 165 = .ok (.bipush 57, 2) := dk_16 57 (dk_at dksX16_single_7 5 rfl rfl)
theorem dX16_single_167 : decode cX16_single 167 = .ok (.invokestatic 101, 3) := dk_184 0 101 (dk_at dksX16_single_7 7 rfl rfl)
theorem dX16_single_170 : decode cX16_single 170 = .ok (.ifCond .eq 32, 3) := dk_153 0 32 (dk_at dksX16_single_7 10 rfl rfl)
theorem dX16_single_173 : decode cX16_single 173 = .ok (.bipush 10, 2) := dk_16 10 (dk_at dksX16_single_7 13 rfl rfl)
theorem dX16_single_175 : decode cX16_single 175 = .ok (.iload_n 1, 1) := dk_27 (dk_at dksX16_single_7 15 rfl rfl)
theorem dX16_single_176 : decode cX16_single 176 = .ok (.imul, 1) := dk_104 (dk_at dksX16_single_7 16 rfl rfl)
theorem dX16_single_177 : decode cX16_single 177 = .ok (.aload_n 0, 1) := dk_42 (dk_at dksX16_single_7 17 rfl rfl)
theorem dX16_single_178 : decode cX16_single 178 = .ok (.invokevirtual 39, 3) := dk_182 0 39 (dk_at dksX16_single_7 18 rfl rfl)
theorem dX16_single_181 : decode cX16_single 181 = .ok (.iadd, 1) := dk_96 (dk_at dksX16_single_7 21 rfl rfl)
theorem dX16_single_182 : decode cX16_single 182 = .ok (.bipush 48, 2) := dk_16 48 (dk_at dksX16_single_7 22 rfl rfl)
theorem dX16_single_184 : decode cX16_single 184 = .ok (.isub, 1) := dk_100 (dk_at dksX16_single_8 0 rfl rfl)
theorem dX16_single_185 : decode cX16_single 185 = .ok (.istore_n 1, 1) := dk_60 (dk_at dksX16_single_8 1 rfl rfl)
theorem dX16_single_186 : decode cX16_single 186 = .ok (.aload_n 0, 1) := dk_42 (dk_at dksX16_single_8 2 rfl rfl)
theorem dX16_single_187 : decode cX16_single 187 = .ok (.dup, 1) := dk_89 (dk_at dksX16_single_8 3 rfl rfl)
theorem dX16_single_188 : decode cX16_single 188 = .ok (.getfield 27, 3) := dk_180 0 27 (dk_at dksX16_single_8 4 rfl rfl)
theorem dX16_single_191 : decode cX16_single 191 = .ok (.iconst 1, 1) := dk_4 (dk_at dksX16_single_8 7 rfl rfl)
theorem dX16_single_192 : decode cX16_single 192 = .ok (.iadd, 1) := dk_96 (dk_at dksX16_single_8 8 rfl rfl)
theorem dX16_single_193 : decode cX16_single 193 = .ok (.putfield 27, 3) := dk_181 0 27 (dk_at dksX16_single_8 9 rfl rfl)
theorem dX16_single_196 : decode cX16_single 196 = .ok (.iinc 2 1, 3) := dk_132 2 1 (dk_at dksX16_single_8 12 rfl rfl)
theorem dX16_single_199 : decode cX16_single 199 = .ok (.goto (-45), 3) := dk_167 255 211 (dk_at dksX16_single_8 15 rfl rfl)
theorem dX16_single_202 : decode cX16_single 202 = .ok (.new 105, 3) := dk_187 0 105 (dk_at dksX16_single_8 18 rfl rfl)
theorem dX16_single_205 : decode cX16_single 205 = .ok (.dup, 1) := dk_89 (dk_at dksX16_single_8 21 rfl rfl)
theorem dX16_single_206 : decode cX16_single 206 = .ok (.iload_n 1, 1) := dk_27 (dk_at dksX16_single_8 22 rfl rfl)
theorem dX16_single_207 : decode cX16_single 207 = .ok (.invokespecial 107, 3) := dk_183 0 107 (dk_at dksX16_single_9 0 rfl rfl)
theorem dX16_single_210 : decode cX16_single 210 = .ok (.areturn, 1) := dk_176 (dk_at dksX16_single_9 3 rfl rfl)
abbrev cX16_isOne : ByteArray := prog_16_method_5_code
def yX16_isOne : MethodName := ⟨RX16, "isOne", "(Ljava/lang/String;)Z"⟩
def dkwX16_isOne_0 : List UInt8 := [42, 182, 0, 39, 155, 0, 18, 43, 42, 182, 0, 39, 182, 0, 43, 155, 0, 7, 4, 167, 0, 4, 3, 172]
abbrev dktX16_isOne_0 : List UInt8 := dkwX16_isOne_0 ++ []
theorem dksX16_isOne_0 : cX16_isOne.data.toList.drop 0 = dktX16_isOne_0 := by decide +kernel
theorem dX16_isOne_0 : decode cX16_isOne 0 = .ok (.aload_n 0, 1) := dk_42 (dk_at dksX16_isOne_0 0 rfl rfl)
theorem dX16_isOne_1 : decode cX16_isOne 1 = .ok (.invokevirtual 39, 3) := dk_182 0 39 (dk_at dksX16_isOne_0 1 rfl rfl)
theorem dX16_isOne_4 : decode cX16_isOne 4 = .ok (.ifCond .lt 18, 3) := dk_155 0 18 (dk_at dksX16_isOne_0 4 rfl rfl)
theorem dX16_isOne_7 : decode cX16_isOne 7 = .ok (.aload_n 1, 1) := dk_43 (dk_at dksX16_isOne_0 7 rfl rfl)
theorem dX16_isOne_8 : decode cX16_isOne 8 = .ok (.aload_n 0, 1) := dk_42 (dk_at dksX16_isOne_0 8 rfl rfl)
theorem dX16_isOne_9 : decode cX16_isOne 9 = .ok (.invokevirtual 39, 3) := dk_182 0 39 (dk_at dksX16_isOne_0 9 rfl rfl)
theorem dX16_isOne_12 : decode cX16_isOne 12 = .ok (.invokevirtual 43, 3) := dk_182 0 43 (dk_at dksX16_isOne_0 12 rfl rfl)
theorem dX16_isOne_15 : decode cX16_isOne 15 = .ok (.ifCond .lt 7, 3) := dk_155 0 7 (dk_at dksX16_isOne_0 15 rfl rfl)
theorem dX16_isOne_18 : decode cX16_isOne 18 = .ok (.iconst 1, 1) := dk_4 (dk_at dksX16_isOne_0 18 rfl rfl)
theorem dX16_isOne_19 : decode cX16_isOne 19 = .ok (.goto 4, 3) := dk_167 0 4 (dk_at dksX16_isOne_0 19 rfl rfl)
theorem dX16_isOne_22 : decode cX16_isOne 22 = .ok (.iconst 0, 1) := dk_3 (dk_at dksX16_isOne_0 22 rfl rfl)
theorem dX16_isOne_23 : decode cX16_isOne 23 = .ok (.ireturn, 1) := dk_172 (dk_at dksX16_isOne_0 23 rfl rfl)
abbrev cX16_look : ByteArray := prog_16_method_3_code
def yX16_look : MethodName := ⟨RX16, "look", "()I"⟩
def dkwX16_look_1 : List UInt8 := [167, 0, 4, 2, 172]
abbrev dktX16_look_1 : List UInt8 := dkwX16_look_1 ++ []
def dkwX16_look_0 : List UInt8 := [42, 180, 0, 27, 42, 180, 0, 19, 162, 0, 19, 42, 180, 0, 15, 42, 180, 0, 27, 51, 17, 0, 255, 126]
abbrev dktX16_look_0 : List UInt8 := dkwX16_look_0 ++ dktX16_look_1
theorem dksX16_look_0 : cX16_look.data.toList.drop 0 = dktX16_look_0 := by decide +kernel
theorem dksX16_look_1 : cX16_look.data.toList.drop 24 = dktX16_look_1 := dk_seg dksX16_look_0 24 rfl rfl
theorem dX16_look_0 : decode cX16_look 0 = .ok (.aload_n 0, 1) := dk_42 (dk_at dksX16_look_0 0 rfl rfl)
theorem dX16_look_1 : decode cX16_look 1 = .ok (.getfield 27, 3) := dk_180 0 27 (dk_at dksX16_look_0 1 rfl rfl)
theorem dX16_look_4 : decode cX16_look 4 = .ok (.aload_n 0, 1) := dk_42 (dk_at dksX16_look_0 4 rfl rfl)
theorem dX16_look_5 : decode cX16_look 5 = .ok (.getfield 19, 3) := dk_180 0 19 (dk_at dksX16_look_0 5 rfl rfl)
theorem dX16_look_8 : decode cX16_look 8 = .ok (.if_icmp .ge 19, 3) := dk_162 0 19 (dk_at dksX16_look_0 8 rfl rfl)
theorem dX16_look_11 : decode cX16_look 11 = .ok (.aload_n 0, 1) := dk_42 (dk_at dksX16_look_0 11 rfl rfl)
theorem dX16_look_12 : decode cX16_look 12 = .ok (.getfield 15, 3) := dk_180 0 15 (dk_at dksX16_look_0 12 rfl rfl)
theorem dX16_look_15 : decode cX16_look 15 = .ok (.aload_n 0, 1) := dk_42 (dk_at dksX16_look_0 15 rfl rfl)
theorem dX16_look_16 : decode cX16_look 16 = .ok (.getfield 27, 3) := dk_180 0 27 (dk_at dksX16_look_0 16 rfl rfl)
theorem dX16_look_19 : decode cX16_look 19 = .ok (.baload, 1) := dk_51 (dk_at dksX16_look_0 19 rfl rfl)
theorem dX16_look_20 : decode cX16_look 20 = .ok (.sipush 255, 3) := dk_17 0 255 (dk_at dksX16_look_0 20 rfl rfl)
theorem dX16_look_23 : decode cX16_look 23 = .ok (.iand, 1) := dk_126 (dk_at dksX16_look_0 23 rfl rfl)
theorem dX16_look_24 : decode cX16_look 24 = .ok (.goto 4, 3) := dk_167 0 4 (dk_at dksX16_look_1 0 rfl rfl)
theorem dX16_look_27 : decode cX16_look 27 = .ok (.iconst (-1), 1) := dk_2 (dk_at dksX16_look_1 3 rfl rfl)
theorem dX16_look_28 : decode cX16_look 28 = .ok (.ireturn, 1) := dk_172 (dk_at dksX16_look_1 4 rfl rfl)
abbrev cX16_opens : ByteArray := prog_16_method_11_code
def yX16_opens : MethodName := ⟨RX16, "opens", "()V"⟩
def dkwX16_opens_1 : List UInt8 := [181, 0, 83, 42, 89, 180, 0, 27, 4, 96, 181, 0, 27, 177]
abbrev dktX16_opens_1 : List UInt8 := dkwX16_opens_1 ++ []
def dkwX16_opens_0 : List UInt8 := [42, 42, 180, 0, 83, 8, 162, 0, 7, 4, 167, 0, 4, 3, 182, 0, 30, 42, 89, 180, 0, 83, 4, 96]
abbrev dktX16_opens_0 : List UInt8 := dkwX16_opens_0 ++ dktX16_opens_1
theorem dksX16_opens_0 : cX16_opens.data.toList.drop 0 = dktX16_opens_0 := by decide +kernel
theorem dksX16_opens_1 : cX16_opens.data.toList.drop 24 = dktX16_opens_1 := dk_seg dksX16_opens_0 24 rfl rfl
theorem dX16_opens_0 : decode cX16_opens 0 = .ok (.aload_n 0, 1) := dk_42 (dk_at dksX16_opens_0 0 rfl rfl)
theorem dX16_opens_1 : decode cX16_opens 1 = .ok (.aload_n 0, 1) := dk_42 (dk_at dksX16_opens_0 1 rfl rfl)
theorem dX16_opens_2 : decode cX16_opens 2 = .ok (.getfield 83, 3) := dk_180 0 83 (dk_at dksX16_opens_0 2 rfl rfl)
theorem dX16_opens_5 : decode cX16_opens 5 = .ok (.iconst 5, 1) := dk_8 (dk_at dksX16_opens_0 5 rfl rfl)
theorem dX16_opens_6 : decode cX16_opens 6 = .ok (.if_icmp .ge 7, 3) := dk_162 0 7 (dk_at dksX16_opens_0 6 rfl rfl)
theorem dX16_opens_9 : decode cX16_opens 9 = .ok (.iconst 1, 1) := dk_4 (dk_at dksX16_opens_0 9 rfl rfl)
theorem dX16_opens_10 : decode cX16_opens 10 = .ok (.goto 4, 3) := dk_167 0 4 (dk_at dksX16_opens_0 10 rfl rfl)
theorem dX16_opens_13 : decode cX16_opens 13 = .ok (.iconst 0, 1) := dk_3 (dk_at dksX16_opens_0 13 rfl rfl)
theorem dX16_opens_14 : decode cX16_opens 14 = .ok (.invokevirtual 30, 3) := dk_182 0 30 (dk_at dksX16_opens_0 14 rfl rfl)
theorem dX16_opens_17 : decode cX16_opens 17 = .ok (.aload_n 0, 1) := dk_42 (dk_at dksX16_opens_0 17 rfl rfl)
theorem dX16_opens_18 : decode cX16_opens 18 = .ok (.dup, 1) := dk_89 (dk_at dksX16_opens_0 18 rfl rfl)
theorem dX16_opens_19 : decode cX16_opens 19 = .ok (.getfield 83, 3) := dk_180 0 83 (dk_at dksX16_opens_0 19 rfl rfl)
theorem dX16_opens_22 : decode cX16_opens 22 = .ok (.iconst 1, 1) := dk_4 (dk_at dksX16_opens_0 22 rfl rfl)
theorem dX16_opens_23 : decode cX16_opens 23 = .ok (.iadd, 1) := dk_96 (dk_at dksX16_opens_0 23 rfl rfl)
theorem dX16_opens_24 : decode cX16_opens 24 = .ok (.putfield 83, 3) := dk_181 0 83 (dk_at dksX16_opens_1 0 rfl rfl)
theorem dX16_opens_27 : decode cX16_opens 27 = .ok (.aload_n 0, 1) := dk_42 (dk_at dksX16_opens_1 3 rfl rfl)
theorem dX16_opens_28 : decode cX16_opens 28 = .ok (.dup, 1) := dk_89 (dk_at dksX16_opens_1 4 rfl rfl)
theorem dX16_opens_29 : decode cX16_opens 29 = .ok (.getfield 27, 3) := dk_180 0 27 (dk_at dksX16_opens_1 5 rfl rfl)
theorem dX16_opens_32 : decode cX16_opens 32 = .ok (.iconst 1, 1) := dk_4 (dk_at dksX16_opens_1 8 rfl rfl)
theorem dX16_opens_33 : decode cX16_opens 33 = .ok (.iadd, 1) := dk_96 (dk_at dksX16_opens_1 9 rfl rfl)
theorem dX16_opens_34 : decode cX16_opens 34 = .ok (.putfield 27, 3) := dk_181 0 27 (dk_at dksX16_opens_1 10 rfl rfl)
theorem dX16_opens_37 : decode cX16_opens 37 = .ok (.return_, 1) := dk_177 (dk_at dksX16_opens_1 13 rfl rfl)
abbrev cX16_fault : ByteArray := prog_16_method_4_code
def yX16_fault : MethodName := ⟨RX16, "fault", "(Z)V"⟩
def dkwX16_fault_0 : List UInt8 := [27, 154, 0, 15, 187, 0, 34, 89, 42, 180, 0, 27, 183, 0, 36, 191, 177]
abbrev dktX16_fault_0 : List UInt8 := dkwX16_fault_0 ++ []
theorem dksX16_fault_0 : cX16_fault.data.toList.drop 0 = dktX16_fault_0 := by decide +kernel
theorem dX16_fault_0 : decode cX16_fault 0 = .ok (.iload_n 1, 1) := dk_27 (dk_at dksX16_fault_0 0 rfl rfl)
theorem dX16_fault_1 : decode cX16_fault 1 = .ok (.ifCond .ne 15, 3) := dk_154 0 15 (dk_at dksX16_fault_0 1 rfl rfl)
theorem dX16_fault_4 : decode cX16_fault 4 = .ok (.new 34, 3) := dk_187 0 34 (dk_at dksX16_fault_0 4 rfl rfl)
theorem dX16_fault_7 : decode cX16_fault 7 = .ok (.dup, 1) := dk_89 (dk_at dksX16_fault_0 7 rfl rfl)
theorem dX16_fault_8 : decode cX16_fault 8 = .ok (.aload_n 0, 1) := dk_42 (dk_at dksX16_fault_0 8 rfl rfl)
theorem dX16_fault_9 : decode cX16_fault 9 = .ok (.getfield 27, 3) := dk_180 0 27 (dk_at dksX16_fault_0 9 rfl rfl)
theorem dX16_fault_12 : decode cX16_fault 12 = .ok (.invokespecial 36, 3) := dk_183 0 36 (dk_at dksX16_fault_0 12 rfl rfl)
theorem dX16_fault_15 : decode cX16_fault 15 = .ok (.athrow, 1) := dk_191 (dk_at dksX16_fault_0 15 rfl rfl)
theorem dX16_fault_16 : decode cX16_fault 16 = .ok (.return_, 1) := dk_177 (dk_at dksX16_fault_0 16 rfl rfl)
theorem q114 : (Jvm.Cond.initialized "NineDemands$Reader") ∈ lw_all := lw_g (lw_at lw_m1 24 rfl) rfl
theorem q673 : (Jvm.Cond.instantiable "NineDemands$Reader" (5 : Nat)) ∈ lw_all := lw_g (lw_at lw_m3 103 rfl) rfl
theorem q914 : (Jvm.Cond.instanceMethod ({ cls := "NineDemands$Reader", name := "<init>", desc := "(Ljava/lang/String;[BI)V" } : Jvm.MethodName)) ∈ lw_all := lw_g (lw_at lw_m4 104 rfl) rfl
theorem q915 : (Jvm.Cond.code ({ cls := "NineDemands$Reader", name := "<init>", desc := "(Ljava/lang/String;[BI)V" } : Jvm.MethodName) prog_16_method_1_code (4 : Nat) (Option.none : Option Jvm.ClassFile.FieldType)) ∈ lw_all := lw_g (lw_at lw_m4 105 rfl) rfl
theorem q916 : (Jvm.Cond.methodLink "NineDemands$Reader" (3 : Nat) ({ cls := "java/lang/Object", name := "<init>", desc := "()V" } : Jvm.MethodName)) ∈ lw_all := lw_g (lw_at lw_m4 106 rfl) rfl
theorem q917 : (Jvm.Cond.fieldLink "NineDemands$Reader" (9 : Nat) "NineDemands$Reader" "names" "Ljava/lang/String;") ∈ lw_all := lw_g (lw_at lw_m4 107 rfl) rfl
theorem q918 : (Jvm.Cond.fieldLink "NineDemands$Reader" (15 : Nat) "NineDemands$Reader" "bytes" "[B") ∈ lw_all := lw_g (lw_at lw_m4 108 rfl) rfl
theorem q919 : (Jvm.Cond.fieldLink "NineDemands$Reader" (19 : Nat) "NineDemands$Reader" "size" "I") ∈ lw_all := lw_g (lw_at lw_m4 109 rfl) rfl
theorem q920 : (Jvm.Cond.fieldLink "NineDemands$Reader" (27 : Nat) "NineDemands$Reader" "at" "I") ∈ lw_all := lw_g (lw_at lw_m4 110 rfl) rfl
theorem q921 : (Jvm.Cond.fieldLink "NineDemands$Reader" (83 : Nat) "NineDemands$Reader" "open" "I") ∈ lw_all := lw_g (lw_at lw_m4 111 rfl) rfl
theorem q922 : (Jvm.Cond.laysFinal "NineDemands$Reader" "NineDemands$Reader" "names" "Ljava/lang/String;") ∈ lw_all := lw_g (lw_at lw_m4 112 rfl) rfl
theorem q923 : (Jvm.Cond.soleField "NineDemands$Reader" "names") ∈ lw_all := lw_g (lw_at lw_m4 113 rfl) rfl
theorem q924 : (Jvm.Cond.laysFinal "NineDemands$Reader" "NineDemands$Reader" "bytes" "[B") ∈ lw_all := lw_g (lw_at lw_m4 114 rfl) rfl
theorem q925 : (Jvm.Cond.soleField "NineDemands$Reader" "bytes") ∈ lw_all := lw_g (lw_at lw_m4 115 rfl) rfl
theorem q926 : (Jvm.Cond.laysFinal "NineDemands$Reader" "NineDemands$Reader" "size" "I") ∈ lw_all := lw_g (lw_at lw_m4 116 rfl) rfl
theorem q927 : (Jvm.Cond.soleField "NineDemands$Reader" "size") ∈ lw_all := lw_g (lw_at lw_m4 117 rfl) rfl
theorem q928 : (Jvm.Cond.lays "NineDemands$Reader" "NineDemands$Reader" "at" "I") ∈ lw_all := lw_g (lw_at lw_m4 118 rfl) rfl
theorem q929 : (Jvm.Cond.soleField "NineDemands$Reader" "at") ∈ lw_all := lw_g (lw_at lw_m4 119 rfl) rfl
theorem q930 : (Jvm.Cond.lays "NineDemands$Reader" "NineDemands$Reader" "open" "I") ∈ lw_all := lw_g (lw_at lw_m4 120 rfl) rfl
theorem q931 : (Jvm.Cond.soleField "NineDemands$Reader" "open") ∈ lw_all := lw_g (lw_at lw_m4 121 rfl) rfl
theorem q932 : (Jvm.Cond.superclass "NineDemands$Reader" "java/lang/Object") ∈ lw_all := lw_g (lw_at lw_m4 122 rfl) rfl
theorem q934 : (Jvm.Cond.instanceMethod ({ cls := "NineDemands$Reader", name := "read", desc := "()LNineDemands$Term;" } : Jvm.MethodName)) ∈ lw_all := lw_g (lw_at lw_m4 124 rfl) rfl
theorem q935 : (Jvm.Cond.selects "NineDemands$Reader" ({ cls := "NineDemands$Reader", name := "read", desc := "()LNineDemands$Term;" } : Jvm.MethodName) ({ cls := "NineDemands$Reader", name := "read", desc := "()LNineDemands$Term;" } : Jvm.MethodName)) ∈ lw_all := lw_g (lw_at lw_m4 125 rfl) rfl
theorem q936 : (Jvm.Cond.code ({ cls := "NineDemands$Reader", name := "read", desc := "()LNineDemands$Term;" } : Jvm.MethodName) prog_16_method_2_code (2 : Nat) (Option.some (Jvm.ClassFile.FieldType.object "NineDemands$Term"))) ∈ lw_all := lw_g (lw_at lw_m4 126 rfl) rfl
theorem q937 : (Jvm.Cond.methodLink "NineDemands$Reader" (23 : Nat) ({ cls := "NineDemands$Reader", name := "either", desc := "()LNineDemands$Term;" } : Jvm.MethodName)) ∈ lw_all := lw_g (lw_at lw_m4 127 rfl) rfl
theorem q938 : (Jvm.Cond.privateMethod ({ cls := "NineDemands$Reader", name := "either", desc := "()LNineDemands$Term;" } : Jvm.MethodName)) ∈ lw_tbl := lw_at lw_m4 128 rfl
theorem q939 : (Jvm.Cond.instanceMethod ({ cls := "NineDemands$Reader", name := "either", desc := "()LNineDemands$Term;" } : Jvm.MethodName)) ∈ lw_all := lw_g (lw_at lw_m4 129 rfl) rfl
theorem q940 : (Jvm.Cond.code ({ cls := "NineDemands$Reader", name := "either", desc := "()LNineDemands$Term;" } : Jvm.MethodName) prog_16_method_6_code (2 : Nat) (Option.some (Jvm.ClassFile.FieldType.object "NineDemands$Term"))) ∈ lw_all := lw_g (lw_at lw_m4 130 rfl) rfl
theorem q941 : (Jvm.Cond.methodLink "NineDemands$Reader" (49 : Nat) ({ cls := "NineDemands$Reader", name := "both", desc := "()LNineDemands$Term;" } : Jvm.MethodName)) ∈ lw_all := lw_g (lw_at lw_m4 131 rfl) rfl
theorem q942 : (Jvm.Cond.privateMethod ({ cls := "NineDemands$Reader", name := "both", desc := "()LNineDemands$Term;" } : Jvm.MethodName)) ∈ lw_tbl := lw_at lw_m4 132 rfl
theorem q943 : (Jvm.Cond.instanceMethod ({ cls := "NineDemands$Reader", name := "both", desc := "()LNineDemands$Term;" } : Jvm.MethodName)) ∈ lw_all := lw_g (lw_at lw_m4 133 rfl) rfl
theorem q944 : (Jvm.Cond.code ({ cls := "NineDemands$Reader", name := "both", desc := "()LNineDemands$Term;" } : Jvm.MethodName) prog_16_method_7_code (2 : Nat) (Option.some (Jvm.ClassFile.FieldType.object "NineDemands$Term"))) ∈ lw_all := lw_g (lw_at lw_m4 134 rfl) rfl
theorem q945 : (Jvm.Cond.methodLink "NineDemands$Reader" (63 : Nat) ({ cls := "NineDemands$Reader", name := "relation", desc := "()LNineDemands$Term;" } : Jvm.MethodName)) ∈ lw_all := lw_g (lw_at lw_m4 135 rfl) rfl
theorem q946 : (Jvm.Cond.privateMethod ({ cls := "NineDemands$Reader", name := "relation", desc := "()LNineDemands$Term;" } : Jvm.MethodName)) ∈ lw_tbl := lw_at lw_m4 136 rfl
theorem q947 : (Jvm.Cond.instanceMethod ({ cls := "NineDemands$Reader", name := "relation", desc := "()LNineDemands$Term;" } : Jvm.MethodName)) ∈ lw_all := lw_g (lw_at lw_m4 137 rfl) rfl
theorem q948 : (Jvm.Cond.code ({ cls := "NineDemands$Reader", name := "relation", desc := "()LNineDemands$Term;" } : Jvm.MethodName) prog_16_method_8_code (3 : Nat) (Option.some (Jvm.ClassFile.FieldType.object "NineDemands$Term"))) ∈ lw_all := lw_g (lw_at lw_m4 138 rfl) rfl
theorem q949 : (Jvm.Cond.methodLink "NineDemands$Reader" (68 : Nat) ({ cls := "NineDemands$Reader", name := "sum", desc := "()LNineDemands$Term;" } : Jvm.MethodName)) ∈ lw_all := lw_g (lw_at lw_m4 139 rfl) rfl
theorem q950 : (Jvm.Cond.privateMethod ({ cls := "NineDemands$Reader", name := "sum", desc := "()LNineDemands$Term;" } : Jvm.MethodName)) ∈ lw_tbl := lw_at lw_m4 140 rfl
theorem q951 : (Jvm.Cond.instanceMethod ({ cls := "NineDemands$Reader", name := "sum", desc := "()LNineDemands$Term;" } : Jvm.MethodName)) ∈ lw_all := lw_g (lw_at lw_m4 141 rfl) rfl
theorem q952 : (Jvm.Cond.code ({ cls := "NineDemands$Reader", name := "sum", desc := "()LNineDemands$Term;" } : Jvm.MethodName) prog_16_method_9_code (3 : Nat) (Option.some (Jvm.ClassFile.FieldType.object "NineDemands$Term"))) ∈ lw_all := lw_g (lw_at lw_m4 142 rfl) rfl
theorem q953 : (Jvm.Cond.methodLink "NineDemands$Reader" (73 : Nat) ({ cls := "NineDemands$Reader", name := "product", desc := "()LNineDemands$Term;" } : Jvm.MethodName)) ∈ lw_all := lw_g (lw_at lw_m4 143 rfl) rfl
theorem q954 : (Jvm.Cond.privateMethod ({ cls := "NineDemands$Reader", name := "product", desc := "()LNineDemands$Term;" } : Jvm.MethodName)) ∈ lw_tbl := lw_at lw_m4 144 rfl
theorem q955 : (Jvm.Cond.instanceMethod ({ cls := "NineDemands$Reader", name := "product", desc := "()LNineDemands$Term;" } : Jvm.MethodName)) ∈ lw_all := lw_g (lw_at lw_m4 145 rfl) rfl
theorem q956 : (Jvm.Cond.code ({ cls := "NineDemands$Reader", name := "product", desc := "()LNineDemands$Term;" } : Jvm.MethodName) prog_16_method_10_code (3 : Nat) (Option.some (Jvm.ClassFile.FieldType.object "NineDemands$Term"))) ∈ lw_all := lw_g (lw_at lw_m4 146 rfl) rfl
theorem q957 : (Jvm.Cond.methodLink "NineDemands$Reader" (78 : Nat) ({ cls := "NineDemands$Reader", name := "single", desc := "()LNineDemands$Term;" } : Jvm.MethodName)) ∈ lw_all := lw_g (lw_at lw_m4 147 rfl) rfl
theorem q958 : (Jvm.Cond.privateMethod ({ cls := "NineDemands$Reader", name := "single", desc := "()LNineDemands$Term;" } : Jvm.MethodName)) ∈ lw_tbl := lw_at lw_m4 148 rfl
theorem q959 : (Jvm.Cond.instanceMethod ({ cls := "NineDemands$Reader", name := "single", desc := "()LNineDemands$Term;" } : Jvm.MethodName)) ∈ lw_all := lw_g (lw_at lw_m4 149 rfl) rfl
theorem q960 : (Jvm.Cond.code ({ cls := "NineDemands$Reader", name := "single", desc := "()LNineDemands$Term;" } : Jvm.MethodName) prog_16_method_12_code (3 : Nat) (Option.some (Jvm.ClassFile.FieldType.object "NineDemands$Term"))) ∈ lw_all := lw_g (lw_at lw_m4 150 rfl) rfl
theorem q961 : (Jvm.Cond.methodLink "NineDemands$Reader" (54 : Nat) ({ cls := "NineDemands$Reader", name := "isOne", desc := "(Ljava/lang/String;)Z" } : Jvm.MethodName)) ∈ lw_all := lw_g (lw_at lw_m4 151 rfl) rfl
theorem q962 : (Jvm.Cond.privateMethod ({ cls := "NineDemands$Reader", name := "isOne", desc := "(Ljava/lang/String;)Z" } : Jvm.MethodName)) ∈ lw_tbl := lw_at lw_m4 152 rfl
theorem q963 : (Jvm.Cond.instanceMethod ({ cls := "NineDemands$Reader", name := "isOne", desc := "(Ljava/lang/String;)Z" } : Jvm.MethodName)) ∈ lw_all := lw_g (lw_at lw_m4 153 rfl) rfl
theorem q964 : (Jvm.Cond.code ({ cls := "NineDemands$Reader", name := "isOne", desc := "(Ljava/lang/String;)Z" } : Jvm.MethodName) prog_16_method_5_code (2 : Nat) (Option.some Jvm.ClassFile.FieldType.boolean)) ∈ lw_all := lw_g (lw_at lw_m4 154 rfl) rfl
theorem q965 : (Jvm.Cond.methodLink "NineDemands$Reader" (39 : Nat) ({ cls := "NineDemands$Reader", name := "look", desc := "()I" } : Jvm.MethodName)) ∈ lw_all := lw_g (lw_at lw_m4 155 rfl) rfl
theorem q966 : (Jvm.Cond.privateMethod ({ cls := "NineDemands$Reader", name := "look", desc := "()I" } : Jvm.MethodName)) ∈ lw_tbl := lw_at lw_m4 156 rfl
theorem q967 : (Jvm.Cond.instanceMethod ({ cls := "NineDemands$Reader", name := "look", desc := "()I" } : Jvm.MethodName)) ∈ lw_all := lw_g (lw_at lw_m4 157 rfl) rfl
theorem q968 : (Jvm.Cond.code ({ cls := "NineDemands$Reader", name := "look", desc := "()I" } : Jvm.MethodName) prog_16_method_3_code (1 : Nat) (Option.some Jvm.ClassFile.FieldType.int)) ∈ lw_all := lw_g (lw_at lw_m4 158 rfl) rfl
theorem q969 : (Jvm.Cond.methodLink "NineDemands$Reader" (43 : Nat) ({ cls := "java/lang/String", name := "indexOf", desc := "(I)I" } : Jvm.MethodName)) ∈ lw_all := lw_g (lw_at lw_m4 159 rfl) rfl
theorem q1019 : (Jvm.Cond.classLink "NineDemands$Reader" (86 : Nat) "NineDemands$Named") ∈ lw_all := lw_g (lw_at lw_m4 209 rfl) rfl
theorem q1021 : (Jvm.Cond.methodLink "NineDemands$Reader" (88 : Nat) ({ cls := "NineDemands$Named", name := "<init>", desc := "(I)V" } : Jvm.MethodName)) ∈ lw_all := lw_g (lw_at lw_m4 211 rfl) rfl
theorem q1032 : (Jvm.Cond.stringRef "NineDemands$Reader" (89 : Nat) "!") ∈ lw_tbl := lw_at lw_m4 222 rfl
theorem q1033 : (Jvm.Cond.methodLink "NineDemands$Reader" (91 : Nat) ({ cls := "NineDemands$Reader", name := "opens", desc := "()V" } : Jvm.MethodName)) ∈ lw_all := lw_g (lw_at lw_m4 223 rfl) rfl
theorem q1034 : (Jvm.Cond.privateMethod ({ cls := "NineDemands$Reader", name := "opens", desc := "()V" } : Jvm.MethodName)) ∈ lw_tbl := lw_at lw_m4 224 rfl
theorem q1035 : (Jvm.Cond.instanceMethod ({ cls := "NineDemands$Reader", name := "opens", desc := "()V" } : Jvm.MethodName)) ∈ lw_all := lw_g (lw_at lw_m4 225 rfl) rfl
theorem q1036 : (Jvm.Cond.code ({ cls := "NineDemands$Reader", name := "opens", desc := "()V" } : Jvm.MethodName) prog_16_method_11_code (1 : Nat) (Option.none : Option Jvm.ClassFile.FieldType)) ∈ lw_all := lw_g (lw_at lw_m4 226 rfl) rfl
theorem q1037 : (Jvm.Cond.methodLink "NineDemands$Reader" (30 : Nat) ({ cls := "NineDemands$Reader", name := "fault", desc := "(Z)V" } : Jvm.MethodName)) ∈ lw_all := lw_g (lw_at lw_m4 227 rfl) rfl
theorem q1038 : (Jvm.Cond.privateMethod ({ cls := "NineDemands$Reader", name := "fault", desc := "(Z)V" } : Jvm.MethodName)) ∈ lw_tbl := lw_at lw_m4 228 rfl
theorem q1039 : (Jvm.Cond.instanceMethod ({ cls := "NineDemands$Reader", name := "fault", desc := "(Z)V" } : Jvm.MethodName)) ∈ lw_all := lw_g (lw_at lw_m4 229 rfl) rfl
theorem q1040 : (Jvm.Cond.code ({ cls := "NineDemands$Reader", name := "fault", desc := "(Z)V" } : Jvm.MethodName) prog_16_method_4_code (2 : Nat) (Option.none : Option Jvm.ClassFile.FieldType)) ∈ lw_all := lw_g (lw_at lw_m4 230 rfl) rfl
theorem q1041 : (Jvm.Cond.classLink "NineDemands$Reader" (34 : Nat) "NineDemands$Fault") ∈ lw_all := lw_g (lw_at lw_m4 231 rfl) rfl
theorem q1050 : (Jvm.Cond.methodLink "NineDemands$Reader" (36 : Nat) ({ cls := "NineDemands$Fault", name := "<init>", desc := "(I)V" } : Jvm.MethodName)) ∈ lw_all := lw_g (lw_at lw_m5 0 rfl) rfl
theorem q1060 : (Jvm.Cond.classLink "NineDemands$Reader" (94 : Nat) "NineDemands$Turned") ∈ lw_all := lw_g (lw_at lw_m5 10 rfl) rfl
theorem q1062 : (Jvm.Cond.methodLink "NineDemands$Reader" (96 : Nat) ({ cls := "NineDemands$Turned", name := "<init>", desc := "(LNineDemands$Term;)V" } : Jvm.MethodName)) ∈ lw_all := lw_g (lw_at lw_m5 12 rfl) rfl
theorem q1070 : (Jvm.Cond.stringRef "NineDemands$Reader" (99 : Nat) "(") ∈ lw_tbl := lw_at lw_m5 20 rfl
theorem q1071 : (Jvm.Cond.methodLinkNest "NineDemands$Reader" (101 : Nat) ({ cls := "NineDemands", name := "in", desc := "(III)Z" } : Jvm.MethodName) "NineDemands") ∈ lw_tbl := lw_at lw_m5 21 rfl
theorem q1072 : (Jvm.Cond.classLink "NineDemands$Reader" (105 : Nat) "NineDemands$Figure") ∈ lw_all := lw_g (lw_at lw_m5 22 rfl) rfl
theorem q1074 : (Jvm.Cond.methodLink "NineDemands$Reader" (107 : Nat) ({ cls := "NineDemands$Figure", name := "<init>", desc := "(I)V" } : Jvm.MethodName)) ∈ lw_all := lw_g (lw_at lw_m5 24 rfl) rfl
theorem q1082 : (Jvm.Cond.stringRef "NineDemands$Reader" (81 : Nat) "*/%") ∈ lw_tbl := lw_at lw_m5 32 rfl
theorem q1083 : (Jvm.Cond.classLink "NineDemands$Reader" (58 : Nat) "NineDemands$Two") ∈ lw_all := lw_g (lw_at lw_m5 33 rfl) rfl
theorem q1085 : (Jvm.Cond.methodLink "NineDemands$Reader" (60 : Nat) ({ cls := "NineDemands$Two", name := "<init>", desc := "(ILNineDemands$Term;LNineDemands$Term;)V" } : Jvm.MethodName)) ∈ lw_all := lw_g (lw_at lw_m5 35 rfl) rfl
theorem q1099 : (Jvm.Cond.stringRef "NineDemands$Reader" (76 : Nat) "+-") ∈ lw_tbl := lw_at lw_m5 49 rfl
theorem q1100 : (Jvm.Cond.stringRef "NineDemands$Reader" (71 : Nat) "<=>") ∈ lw_tbl := lw_at lw_m5 50 rfl
theorem q1101 : (Jvm.Cond.stringRef "NineDemands$Reader" (66 : Nat) "&") ∈ lw_tbl := lw_at lw_m5 51 rfl
theorem q1102 : (Jvm.Cond.stringRef "NineDemands$Reader" (52 : Nat) "|") ∈ lw_tbl := lw_at lw_m5 52 rfl
theorem q1296 : (Jvm.Cond.selects "NineDemands$Reader" ({ cls := "java/lang/Object", name := "getClass", desc := "()Ljava/lang/Class;" } : Jvm.MethodName) ({ cls := "java/lang/Object", name := "getClass", desc := "()Ljava/lang/Class;" } : Jvm.MethodName)) ∈ lw_all := lw_g (lw_at lw_m6 6 rfl) rfl
theorem q2539 : (Jvm.Cond.castable "NineDemands$Reader" "java/lang/Object") ∈ lw_tbl := lw_at lw_m11 49 rfl
theorem in_X16 : ∀ w ∈ wsX160, w ∈ lw_all := lw_in wsX160 [922, 924, 926, 928, 930] (by decide +kernel) (by decide +kernel)
/-! NineDemands$Term -/
set_option maxRecDepth 100000
def RX17 : String := "NineDemands$Term"
abbrev cX17_init : ByteArray := prog_24_method_1_code
def yX17_init : MethodName := ⟨RX17, "<init>", "()V"⟩
theorem dX17_init_0 : decode cX17_init 0 = .ok (.aload_n 0, 1) := by decide +kernel
theorem dX17_init_1 : decode cX17_init 1 = .ok (.invokespecial 1, 3) := by decide +kernel
theorem dX17_init_4 : decode cX17_init 4 = .ok (.return_, 1) := by decide +kernel
theorem q125 : (Jvm.Cond.initialized "NineDemands$Term") ∈ lw_all := lw_g (lw_at lw_m1 35 rfl) rfl
theorem q1025 : (Jvm.Cond.instanceMethod ({ cls := "NineDemands$Term", name := "<init>", desc := "()V" } : Jvm.MethodName)) ∈ lw_all := lw_g (lw_at lw_m4 215 rfl) rfl
theorem q1026 : (Jvm.Cond.code ({ cls := "NineDemands$Term", name := "<init>", desc := "()V" } : Jvm.MethodName) prog_24_method_1_code (1 : Nat) (Option.none : Option Jvm.ClassFile.FieldType)) ∈ lw_all := lw_g (lw_at lw_m4 216 rfl) rfl
theorem q1027 : (Jvm.Cond.methodLink "NineDemands$Term" (1 : Nat) ({ cls := "java/lang/Object", name := "<init>", desc := "()V" } : Jvm.MethodName)) ∈ lw_all := lw_g (lw_at lw_m4 217 rfl) rfl
theorem q1238 : (Jvm.Cond.declares ({ cls := "NineDemands$Term", name := "value", desc := "(LNineDemands$Facts;)I" } : Jvm.MethodName)) ∈ lw_tbl := lw_at lw_m5 188 rfl
theorem q1239 : (Jvm.Cond.sameMethod "NineDemands$Term" "NineDemands$Term" "value" "(LNineDemands$Facts;)I") ∈ lw_all := lw_g (lw_at lw_m5 189 rfl) rfl
/-! NineDemands$Named -/
set_option maxRecDepth 100000
def RX18 : String := "NineDemands$Named"
def TX18 : u_T := fun k => match k with
  | _ => ("NineDemands$Named", "name", "I", true)
def tyX18 : Nat → FieldType := fun k => match k with
  | _ => .int
abbrev wsX180 : List Cond := u_ws RX18 TX18 1
theorem nmX18 : ∀ a, a < 1 → ∀ b, b < 1 → a ≠ b → (TX18 a).2.1 ≠ (TX18 b).2.1 := by decide +kernel
theorem tyX18_ok : ∀ k, k < 1 → parseFieldDescriptor (TX18 k).2.2.1 = some (tyX18 k) := by decide +kernel
abbrev cX18_init : ByteArray := prog_15_method_1_code
def yX18_init : MethodName := ⟨RX18, "<init>", "(I)V"⟩
def dkwX18_init_0 : List UInt8 := [42, 183, 0, 1, 42, 27, 181, 0, 7, 177]
abbrev dktX18_init_0 : List UInt8 := dkwX18_init_0 ++ []
theorem dksX18_init_0 : cX18_init.data.toList.drop 0 = dktX18_init_0 := by decide +kernel
theorem dX18_init_0 : decode cX18_init 0 = .ok (.aload_n 0, 1) := dk_42 (dk_at dksX18_init_0 0 rfl rfl)
theorem dX18_init_1 : decode cX18_init 1 = .ok (.invokespecial 1, 3) := dk_183 0 1 (dk_at dksX18_init_0 1 rfl rfl)
theorem dX18_init_4 : decode cX18_init 4 = .ok (.aload_n 0, 1) := dk_42 (dk_at dksX18_init_0 4 rfl rfl)
theorem dX18_init_5 : decode cX18_init 5 = .ok (.iload_n 1, 1) := dk_27 (dk_at dksX18_init_0 5 rfl rfl)
theorem dX18_init_6 : decode cX18_init 6 = .ok (.putfield 7, 3) := dk_181 0 7 (dk_at dksX18_init_0 6 rfl rfl)
theorem dX18_init_9 : decode cX18_init 9 = .ok (.return_, 1) := dk_177 (dk_at dksX18_init_0 9 rfl rfl)
abbrev cX18_value : ByteArray := prog_15_method_2_code
def yX18_value : MethodName := ⟨RX18, "value", "(LNineDemands$Facts;)I"⟩
def dkwX18_value_0 : List UInt8 := [43, 180, 0, 13, 42, 180, 0, 7, 46, 172]
abbrev dktX18_value_0 : List UInt8 := dkwX18_value_0 ++ []
theorem dksX18_value_0 : cX18_value.data.toList.drop 0 = dktX18_value_0 := by decide +kernel
theorem dX18_value_0 : decode cX18_value 0 = .ok (.aload_n 1, 1) := dk_43 (dk_at dksX18_value_0 0 rfl rfl)
theorem dX18_value_1 : decode cX18_value 1 = .ok (.getfield 13, 3) := dk_180 0 13 (dk_at dksX18_value_0 1 rfl rfl)
theorem dX18_value_4 : decode cX18_value 4 = .ok (.aload_n 0, 1) := dk_42 (dk_at dksX18_value_0 4 rfl rfl)
theorem dX18_value_5 : decode cX18_value 5 = .ok (.getfield 7, 3) := dk_180 0 7 (dk_at dksX18_value_0 5 rfl rfl)
theorem dX18_value_8 : decode cX18_value 8 = .ok (.iaload, 1) := dk_46 (dk_at dksX18_value_0 8 rfl rfl)
theorem dX18_value_9 : decode cX18_value 9 = .ok (.ireturn, 1) := dk_172 (dk_at dksX18_value_0 9 rfl rfl)
theorem q126 : (Jvm.Cond.initialized "NineDemands$Named") ∈ lw_all := lw_g (lw_at lw_m1 36 rfl) rfl
theorem q296 : (Jvm.Cond.fieldLinkNest "NineDemands$Named" (13 : Nat) "NineDemands$Facts" "named" "[I" "NineDemands") ∈ lw_tbl := lw_at lw_m1 206 rfl
theorem q1020 : (Jvm.Cond.instantiable "NineDemands$Named" (1 : Nat)) ∈ lw_all := lw_g (lw_at lw_m4 210 rfl) rfl
theorem q1022 : (Jvm.Cond.instanceMethod ({ cls := "NineDemands$Named", name := "<init>", desc := "(I)V" } : Jvm.MethodName)) ∈ lw_all := lw_g (lw_at lw_m4 212 rfl) rfl
theorem q1023 : (Jvm.Cond.code ({ cls := "NineDemands$Named", name := "<init>", desc := "(I)V" } : Jvm.MethodName) prog_15_method_1_code (2 : Nat) (Option.none : Option Jvm.ClassFile.FieldType)) ∈ lw_all := lw_g (lw_at lw_m4 213 rfl) rfl
theorem q1024 : (Jvm.Cond.methodLinkNest "NineDemands$Named" (1 : Nat) ({ cls := "NineDemands$Term", name := "<init>", desc := "()V" } : Jvm.MethodName) "NineDemands") ∈ lw_tbl := lw_at lw_m4 214 rfl
theorem q1028 : (Jvm.Cond.fieldLink "NineDemands$Named" (7 : Nat) "NineDemands$Named" "name" "I") ∈ lw_all := lw_g (lw_at lw_m4 218 rfl) rfl
theorem q1029 : (Jvm.Cond.laysFinal "NineDemands$Named" "NineDemands$Named" "name" "I") ∈ lw_all := lw_g (lw_at lw_m4 219 rfl) rfl
theorem q1030 : (Jvm.Cond.soleField "NineDemands$Named" "name") ∈ lw_all := lw_g (lw_at lw_m4 220 rfl) rfl
theorem q1031 : (Jvm.Cond.superclass "NineDemands$Named" "NineDemands$Term") ∈ lw_all := lw_g (lw_at lw_m4 221 rfl) rfl
theorem q1243 : (Jvm.Cond.selects "NineDemands$Named" ({ cls := "NineDemands$Term", name := "value", desc := "(LNineDemands$Facts;)I" } : Jvm.MethodName) ({ cls := "NineDemands$Named", name := "value", desc := "(LNineDemands$Facts;)I" } : Jvm.MethodName)) ∈ lw_all := lw_g (lw_at lw_m5 193 rfl) rfl
theorem q1244 : (Jvm.Cond.instanceMethod ({ cls := "NineDemands$Named", name := "value", desc := "(LNineDemands$Facts;)I" } : Jvm.MethodName)) ∈ lw_all := lw_g (lw_at lw_m5 194 rfl) rfl
theorem q1245 : (Jvm.Cond.code ({ cls := "NineDemands$Named", name := "value", desc := "(LNineDemands$Facts;)I" } : Jvm.MethodName) prog_15_method_2_code (2 : Nat) (Option.some Jvm.ClassFile.FieldType.int)) ∈ lw_all := lw_g (lw_at lw_m5 195 rfl) rfl
theorem q1295 : (Jvm.Cond.selects "NineDemands$Named" ({ cls := "java/lang/Object", name := "getClass", desc := "()Ljava/lang/Class;" } : Jvm.MethodName) ({ cls := "java/lang/Object", name := "getClass", desc := "()Ljava/lang/Class;" } : Jvm.MethodName)) ∈ lw_all := lw_g (lw_at lw_m6 5 rfl) rfl
theorem q2542 : (Jvm.Cond.castable "NineDemands$Named" "java/lang/Object") ∈ lw_tbl := lw_at lw_m11 52 rfl
theorem in_X18 : ∀ w ∈ wsX180, w ∈ lw_all := lw_in wsX180 [1029] (by decide +kernel) (by decide +kernel)
/-! NineDemands$Fault -/
set_option maxRecDepth 100000
def RX19 : String := "NineDemands$Fault"
def TX19 : u_T := fun k => match k with
  | 0 => ("java/lang/Throwable", "cause", "Ljava/lang/Throwable;", false)
  | 1 => ("java/lang/Throwable", "stackTrace", "[Ljava/lang/StackTraceElement;", false)
  | 2 => ("java/lang/Throwable", "suppressedExceptions", "Ljava/util/List;", false)
  | 3 => ("java/lang/Throwable", "detailMessage", "Ljava/lang/String;", false)
  | 4 => ("java/lang/Throwable", "backtrace", "Ljava/lang/Object;", false)
  | 5 => ("java/lang/Throwable", "depth", "I", false)
  | _ => ("NineDemands$Fault", "place", "I", true)
def tyX19 : Nat → FieldType := fun k => match k with
  | 0 => .object "java/lang/Throwable"
  | 1 => .array (.object "java/lang/StackTraceElement")
  | 2 => .object "java/util/List"
  | 3 => .object "java/lang/String"
  | 4 => .object "java/lang/Object"
  | 5 => .int
  | _ => .int
abbrev wsX190 : List Cond := u_ws RX19 TX19 7
theorem nmX19 : ∀ a, a < 7 → ∀ b, b < 7 → a ≠ b → (TX19 a).2.1 ≠ (TX19 b).2.1 := by decide +kernel
theorem tyX19_ok : ∀ k, k < 7 → parseFieldDescriptor (TX19 k).2.2.1 = some (tyX19 k) := by decide +kernel
abbrev cX19_init : ByteArray := prog_10_method_1_code
def yX19_init : MethodName := ⟨RX19, "<init>", "(I)V"⟩
def dkwX19_init_0 : List UInt8 := [42, 1, 1, 3, 3, 183, 0, 1, 42, 27, 181, 0, 7, 177]
abbrev dktX19_init_0 : List UInt8 := dkwX19_init_0 ++ []
theorem dksX19_init_0 : cX19_init.data.toList.drop 0 = dktX19_init_0 := by decide +kernel
theorem dX19_init_0 : decode cX19_init 0 = .ok (.aload_n 0, 1) := dk_42 (dk_at dksX19_init_0 0 rfl rfl)
theorem dX19_init_1 : decode cX19_init 1 = .ok (.aconst_null, 1) := dk_1 (dk_at dksX19_init_0 1 rfl rfl)
theorem dX19_init_2 : decode cX19_init 2 = .ok (.aconst_null, 1) := dk_1 (dk_at dksX19_init_0 2 rfl rfl)
theorem dX19_init_3 : decode cX19_init 3 = .ok (.iconst 0, 1) := dk_3 (dk_at dksX19_init_0 3 rfl rfl)
theorem dX19_init_4 : decode cX19_init 4 = .ok (.iconst 0, 1) := dk_3 (dk_at dksX19_init_0 4 rfl rfl)
theorem dX19_init_5 : decode cX19_init 5 = .ok (.invokespecial 1, 3) := dk_183 0 1 (dk_at dksX19_init_0 5 rfl rfl)
theorem dX19_init_8 : decode cX19_init 8 = .ok (.aload_n 0, 1) := dk_42 (dk_at dksX19_init_0 8 rfl rfl)
theorem dX19_init_9 : decode cX19_init 9 = .ok (.iload_n 1, 1) := dk_27 (dk_at dksX19_init_0 9 rfl rfl)
theorem dX19_init_10 : decode cX19_init 10 = .ok (.putfield 7, 3) := dk_181 0 7 (dk_at dksX19_init_0 10 rfl rfl)
theorem dX19_init_13 : decode cX19_init 13 = .ok (.return_, 1) := dk_177 (dk_at dksX19_init_0 13 rfl rfl)
theorem q127 : (Jvm.Cond.initialized "NineDemands$Fault") ∈ lw_all := lw_g (lw_at lw_m1 37 rfl) rfl
theorem q179 : (Jvm.Cond.selects "NineDemands$Fault" ({ cls := "java/lang/Throwable", name := "fillInStackTrace", desc := "()Ljava/lang/Throwable;" } : Jvm.MethodName) ({ cls := "java/lang/Throwable", name := "fillInStackTrace", desc := "()Ljava/lang/Throwable;" } : Jvm.MethodName)) ∈ lw_all := lw_g (lw_at lw_m1 89 rfl) rfl
theorem q1042 : (Jvm.Cond.instantiable "NineDemands$Fault" (7 : Nat)) ∈ lw_all := lw_g (lw_at lw_m4 232 rfl) rfl
theorem q1043 : (Jvm.Cond.castable "NineDemands$Fault" "NineDemands$Fault") ∈ lw_tbl := lw_at lw_m4 233 rfl
theorem q1044 : (Jvm.Cond.selects "NineDemands$Fault" ({ cls := "java/lang/Throwable", name := "fillInStackTrace", desc := "(I)Ljava/lang/Throwable;" } : Jvm.MethodName) ({ cls := "java/lang/Throwable", name := "fillInStackTrace", desc := "(I)Ljava/lang/Throwable;" } : Jvm.MethodName)) ∈ lw_all := lw_g (lw_at lw_m4 234 rfl) rfl
theorem q1045 : (Jvm.Cond.lays "NineDemands$Fault" "java/lang/Throwable" "cause" "Ljava/lang/Throwable;") ∈ lw_all := lw_g (lw_at lw_m4 235 rfl) rfl
theorem q1046 : (Jvm.Cond.lays "NineDemands$Fault" "java/lang/Throwable" "stackTrace" "[Ljava/lang/StackTraceElement;") ∈ lw_all := lw_g (lw_at lw_m4 236 rfl) rfl
theorem q1047 : (Jvm.Cond.lays "NineDemands$Fault" "java/lang/Throwable" "suppressedExceptions" "Ljava/util/List;") ∈ lw_all := lw_g (lw_at lw_m4 237 rfl) rfl
theorem q1048 : (Jvm.Cond.lays "NineDemands$Fault" "java/lang/Throwable" "detailMessage" "Ljava/lang/String;") ∈ lw_all := lw_g (lw_at lw_m4 238 rfl) rfl
theorem q1049 : (Jvm.Cond.lays "NineDemands$Fault" "java/lang/Throwable" "backtrace" "Ljava/lang/Object;") ∈ lw_all := lw_g (lw_at lw_m4 239 rfl) rfl
theorem q1051 : (Jvm.Cond.instanceMethod ({ cls := "NineDemands$Fault", name := "<init>", desc := "(I)V" } : Jvm.MethodName)) ∈ lw_all := lw_g (lw_at lw_m5 1 rfl) rfl
theorem q1052 : (Jvm.Cond.code ({ cls := "NineDemands$Fault", name := "<init>", desc := "(I)V" } : Jvm.MethodName) prog_10_method_1_code (2 : Nat) (Option.none : Option Jvm.ClassFile.FieldType)) ∈ lw_all := lw_g (lw_at lw_m5 2 rfl) rfl
theorem q1053 : (Jvm.Cond.methodLink "NineDemands$Fault" (1 : Nat) ({ cls := "java/lang/RuntimeException", name := "<init>", desc := "(Ljava/lang/String;Ljava/lang/Throwable;ZZ)V" } : Jvm.MethodName)) ∈ lw_all := lw_g (lw_at lw_m5 3 rfl) rfl
theorem q1054 : (Jvm.Cond.fieldLink "NineDemands$Fault" (7 : Nat) "NineDemands$Fault" "place" "I") ∈ lw_all := lw_g (lw_at lw_m5 4 rfl) rfl
theorem q1056 : (Jvm.Cond.laysFinal "NineDemands$Fault" "NineDemands$Fault" "place" "I") ∈ lw_all := lw_g (lw_at lw_m5 6 rfl) rfl
theorem q1057 : (Jvm.Cond.soleField "NineDemands$Fault" "place") ∈ lw_all := lw_g (lw_at lw_m5 7 rfl) rfl
theorem q1058 : (Jvm.Cond.lays "NineDemands$Fault" "java/lang/Throwable" "depth" "I") ∈ lw_all := lw_g (lw_at lw_m5 8 rfl) rfl
theorem q1059 : (Jvm.Cond.superclass "NineDemands$Fault" "java/lang/RuntimeException") ∈ lw_all := lw_g (lw_at lw_m5 9 rfl) rfl
theorem q1290 : (Jvm.Cond.selects "NineDemands$Fault" ({ cls := "java/lang/Object", name := "getClass", desc := "()Ljava/lang/Class;" } : Jvm.MethodName) ({ cls := "java/lang/Object", name := "getClass", desc := "()Ljava/lang/Class;" } : Jvm.MethodName)) ∈ lw_all := lw_g (lw_at lw_m6 0 rfl) rfl
theorem q2543 : (Jvm.Cond.castable "NineDemands$Fault" "java/lang/Object") ∈ lw_tbl := lw_at lw_m11 53 rfl
theorem in_X19 : ∀ w ∈ wsX190, w ∈ lw_all := lw_in wsX190 [1045, 1046, 1047, 1048, 1049, 1058, 1056] (by decide +kernel) (by decide +kernel)
/-! NineDemands$Turned -/
set_option maxRecDepth 100000
def RX20 : String := "NineDemands$Turned"
def TX20 : u_T := fun k => match k with
  | _ => ("NineDemands$Turned", "of", "LNineDemands$Term;", true)
def tyX20 : Nat → FieldType := fun k => match k with
  | _ => .object "NineDemands$Term"
abbrev wsX200 : List Cond := u_ws RX20 TX20 1
theorem nmX20 : ∀ a, a < 1 → ∀ b, b < 1 → a ≠ b → (TX20 a).2.1 ≠ (TX20 b).2.1 := by decide +kernel
theorem tyX20_ok : ∀ k, k < 1 → parseFieldDescriptor (TX20 k).2.2.1 = some (tyX20 k) := by decide +kernel
abbrev cX20_init : ByteArray := prog_26_method_1_code
def yX20_init : MethodName := ⟨RX20, "<init>", "(LNineDemands$Term;)V"⟩
def dkwX20_init_0 : List UInt8 := [42, 183, 0, 1, 42, 43, 181, 0, 7, 177]
abbrev dktX20_init_0 : List UInt8 := dkwX20_init_0 ++ []
theorem dksX20_init_0 : cX20_init.data.toList.drop 0 = dktX20_init_0 := by decide +kernel
theorem dX20_init_0 : decode cX20_init 0 = .ok (.aload_n 0, 1) := dk_42 (dk_at dksX20_init_0 0 rfl rfl)
theorem dX20_init_1 : decode cX20_init 1 = .ok (.invokespecial 1, 3) := dk_183 0 1 (dk_at dksX20_init_0 1 rfl rfl)
theorem dX20_init_4 : decode cX20_init 4 = .ok (.aload_n 0, 1) := dk_42 (dk_at dksX20_init_0 4 rfl rfl)
theorem dX20_init_5 : decode cX20_init 5 = .ok (.aload_n 1, 1) := dk_43 (dk_at dksX20_init_0 5 rfl rfl)
theorem dX20_init_6 : decode cX20_init 6 = .ok (.putfield 7, 3) := dk_181 0 7 (dk_at dksX20_init_0 6 rfl rfl)
theorem dX20_init_9 : decode cX20_init 9 = .ok (.return_, 1) := dk_177 (dk_at dksX20_init_0 9 rfl rfl)
abbrev cX20_value : ByteArray := prog_26_method_2_code
def yX20_value : MethodName := ⟨RX20, "value", "(LNineDemands$Facts;)I"⟩
def dkwX20_value_0 : List UInt8 := [42, 180, 0, 7, 43, 182, 0, 13, 154, 0, 7, 4, 167, 0, 4, 3, 172]
abbrev dktX20_value_0 : List UInt8 := dkwX20_value_0 ++ []
theorem dksX20_value_0 : cX20_value.data.toList.drop 0 = dktX20_value_0 := by decide +kernel
theorem dX20_value_0 : decode cX20_value 0 = .ok (.aload_n 0, 1) := dk_42 (dk_at dksX20_value_0 0 rfl rfl)
theorem dX20_value_1 : decode cX20_value 1 = .ok (.getfield 7, 3) := dk_180 0 7 (dk_at dksX20_value_0 1 rfl rfl)
theorem dX20_value_4 : decode cX20_value 4 = .ok (.aload_n 1, 1) := dk_43 (dk_at dksX20_value_0 4 rfl rfl)
theorem dX20_value_5 : decode cX20_value 5 = .ok (.invokevirtual 13, 3) := dk_182 0 13 (dk_at dksX20_value_0 5 rfl rfl)
theorem dX20_value_8 : decode cX20_value 8 = .ok (.ifCond .ne 7, 3) := dk_154 0 7 (dk_at dksX20_value_0 8 rfl rfl)
theorem dX20_value_11 : decode cX20_value 11 = .ok (.iconst 1, 1) := dk_4 (dk_at dksX20_value_0 11 rfl rfl)
theorem dX20_value_12 : decode cX20_value 12 = .ok (.goto 4, 3) := dk_167 0 4 (dk_at dksX20_value_0 12 rfl rfl)
theorem dX20_value_15 : decode cX20_value 15 = .ok (.iconst 0, 1) := dk_3 (dk_at dksX20_value_0 15 rfl rfl)
theorem dX20_value_16 : decode cX20_value 16 = .ok (.ireturn, 1) := dk_172 (dk_at dksX20_value_0 16 rfl rfl)
theorem q128 : (Jvm.Cond.initialized "NineDemands$Turned") ∈ lw_all := lw_g (lw_at lw_m1 38 rfl) rfl
theorem q1061 : (Jvm.Cond.instantiable "NineDemands$Turned" (1 : Nat)) ∈ lw_all := lw_g (lw_at lw_m5 11 rfl) rfl
theorem q1063 : (Jvm.Cond.instanceMethod ({ cls := "NineDemands$Turned", name := "<init>", desc := "(LNineDemands$Term;)V" } : Jvm.MethodName)) ∈ lw_all := lw_g (lw_at lw_m5 13 rfl) rfl
theorem q1064 : (Jvm.Cond.code ({ cls := "NineDemands$Turned", name := "<init>", desc := "(LNineDemands$Term;)V" } : Jvm.MethodName) prog_26_method_1_code (2 : Nat) (Option.none : Option Jvm.ClassFile.FieldType)) ∈ lw_all := lw_g (lw_at lw_m5 14 rfl) rfl
theorem q1065 : (Jvm.Cond.methodLinkNest "NineDemands$Turned" (1 : Nat) ({ cls := "NineDemands$Term", name := "<init>", desc := "()V" } : Jvm.MethodName) "NineDemands") ∈ lw_tbl := lw_at lw_m5 15 rfl
theorem q1066 : (Jvm.Cond.fieldLink "NineDemands$Turned" (7 : Nat) "NineDemands$Turned" "of" "LNineDemands$Term;") ∈ lw_all := lw_g (lw_at lw_m5 16 rfl) rfl
theorem q1067 : (Jvm.Cond.laysFinal "NineDemands$Turned" "NineDemands$Turned" "of" "LNineDemands$Term;") ∈ lw_all := lw_g (lw_at lw_m5 17 rfl) rfl
theorem q1068 : (Jvm.Cond.soleField "NineDemands$Turned" "of") ∈ lw_all := lw_g (lw_at lw_m5 18 rfl) rfl
theorem q1069 : (Jvm.Cond.superclass "NineDemands$Turned" "NineDemands$Term") ∈ lw_all := lw_g (lw_at lw_m5 19 rfl) rfl
theorem q1246 : (Jvm.Cond.selects "NineDemands$Turned" ({ cls := "NineDemands$Term", name := "value", desc := "(LNineDemands$Facts;)I" } : Jvm.MethodName) ({ cls := "NineDemands$Turned", name := "value", desc := "(LNineDemands$Facts;)I" } : Jvm.MethodName)) ∈ lw_all := lw_g (lw_at lw_m5 196 rfl) rfl
theorem q1247 : (Jvm.Cond.instanceMethod ({ cls := "NineDemands$Turned", name := "value", desc := "(LNineDemands$Facts;)I" } : Jvm.MethodName)) ∈ lw_all := lw_g (lw_at lw_m5 197 rfl) rfl
theorem q1248 : (Jvm.Cond.code ({ cls := "NineDemands$Turned", name := "value", desc := "(LNineDemands$Facts;)I" } : Jvm.MethodName) prog_26_method_2_code (2 : Nat) (Option.some Jvm.ClassFile.FieldType.int)) ∈ lw_all := lw_g (lw_at lw_m5 198 rfl) rfl
theorem q1249 : (Jvm.Cond.methodLink "NineDemands$Turned" (13 : Nat) ({ cls := "NineDemands$Term", name := "value", desc := "(LNineDemands$Facts;)I" } : Jvm.MethodName)) ∈ lw_all := lw_g (lw_at lw_m5 199 rfl) rfl
theorem q1303 : (Jvm.Cond.selects "NineDemands$Turned" ({ cls := "java/lang/Object", name := "getClass", desc := "()Ljava/lang/Class;" } : Jvm.MethodName) ({ cls := "java/lang/Object", name := "getClass", desc := "()Ljava/lang/Class;" } : Jvm.MethodName)) ∈ lw_all := lw_g (lw_at lw_m6 13 rfl) rfl
theorem q2544 : (Jvm.Cond.castable "NineDemands$Turned" "java/lang/Object") ∈ lw_tbl := lw_at lw_m11 54 rfl
theorem in_X20 : ∀ w ∈ wsX200, w ∈ lw_all := lw_in wsX200 [1067] (by decide +kernel) (by decide +kernel)
/-! NineDemands$Figure -/
set_option maxRecDepth 100000
def RX21 : String := "NineDemands$Figure"
def TX21 : u_T := fun k => match k with
  | _ => ("NineDemands$Figure", "v", "I", true)
def tyX21 : Nat → FieldType := fun k => match k with
  | _ => .int
abbrev wsX210 : List Cond := u_ws RX21 TX21 1
theorem nmX21 : ∀ a, a < 1 → ∀ b, b < 1 → a ≠ b → (TX21 a).2.1 ≠ (TX21 b).2.1 := by decide +kernel
theorem tyX21_ok : ∀ k, k < 1 → parseFieldDescriptor (TX21 k).2.2.1 = some (tyX21 k) := by decide +kernel
abbrev cX21_init : ByteArray := prog_11_method_1_code
def yX21_init : MethodName := ⟨RX21, "<init>", "(I)V"⟩
def dkwX21_init_0 : List UInt8 := [42, 183, 0, 1, 42, 27, 181, 0, 7, 177]
abbrev dktX21_init_0 : List UInt8 := dkwX21_init_0 ++ []
theorem dksX21_init_0 : cX21_init.data.toList.drop 0 = dktX21_init_0 := by decide +kernel
theorem dX21_init_0 : decode cX21_init 0 = .ok (.aload_n 0, 1) := dk_42 (dk_at dksX21_init_0 0 rfl rfl)
theorem dX21_init_1 : decode cX21_init 1 = .ok (.invokespecial 1, 3) := dk_183 0 1 (dk_at dksX21_init_0 1 rfl rfl)
theorem dX21_init_4 : decode cX21_init 4 = .ok (.aload_n 0, 1) := dk_42 (dk_at dksX21_init_0 4 rfl rfl)
theorem dX21_init_5 : decode cX21_init 5 = .ok (.iload_n 1, 1) := dk_27 (dk_at dksX21_init_0 5 rfl rfl)
theorem dX21_init_6 : decode cX21_init 6 = .ok (.putfield 7, 3) := dk_181 0 7 (dk_at dksX21_init_0 6 rfl rfl)
theorem dX21_init_9 : decode cX21_init 9 = .ok (.return_, 1) := dk_177 (dk_at dksX21_init_0 9 rfl rfl)
abbrev cX21_value : ByteArray := prog_11_method_2_code
def yX21_value : MethodName := ⟨RX21, "value", "(LNineDemands$Facts;)I"⟩
theorem dX21_value_0 : decode cX21_value 0 = .ok (.aload_n 0, 1) := by decide +kernel
theorem dX21_value_1 : decode cX21_value 1 = .ok (.getfield 7, 3) := by decide +kernel
theorem dX21_value_4 : decode cX21_value 4 = .ok (.ireturn, 1) := by decide +kernel
theorem q129 : (Jvm.Cond.initialized "NineDemands$Figure") ∈ lw_all := lw_g (lw_at lw_m1 39 rfl) rfl
theorem q1073 : (Jvm.Cond.instantiable "NineDemands$Figure" (1 : Nat)) ∈ lw_all := lw_g (lw_at lw_m5 23 rfl) rfl
theorem q1075 : (Jvm.Cond.instanceMethod ({ cls := "NineDemands$Figure", name := "<init>", desc := "(I)V" } : Jvm.MethodName)) ∈ lw_all := lw_g (lw_at lw_m5 25 rfl) rfl
theorem q1076 : (Jvm.Cond.code ({ cls := "NineDemands$Figure", name := "<init>", desc := "(I)V" } : Jvm.MethodName) prog_11_method_1_code (2 : Nat) (Option.none : Option Jvm.ClassFile.FieldType)) ∈ lw_all := lw_g (lw_at lw_m5 26 rfl) rfl
theorem q1077 : (Jvm.Cond.methodLinkNest "NineDemands$Figure" (1 : Nat) ({ cls := "NineDemands$Term", name := "<init>", desc := "()V" } : Jvm.MethodName) "NineDemands") ∈ lw_tbl := lw_at lw_m5 27 rfl
theorem q1078 : (Jvm.Cond.fieldLink "NineDemands$Figure" (7 : Nat) "NineDemands$Figure" "v" "I") ∈ lw_all := lw_g (lw_at lw_m5 28 rfl) rfl
theorem q1079 : (Jvm.Cond.laysFinal "NineDemands$Figure" "NineDemands$Figure" "v" "I") ∈ lw_all := lw_g (lw_at lw_m5 29 rfl) rfl
theorem q1080 : (Jvm.Cond.soleField "NineDemands$Figure" "v") ∈ lw_all := lw_g (lw_at lw_m5 30 rfl) rfl
theorem q1081 : (Jvm.Cond.superclass "NineDemands$Figure" "NineDemands$Term") ∈ lw_all := lw_g (lw_at lw_m5 31 rfl) rfl
theorem q1240 : (Jvm.Cond.selects "NineDemands$Figure" ({ cls := "NineDemands$Term", name := "value", desc := "(LNineDemands$Facts;)I" } : Jvm.MethodName) ({ cls := "NineDemands$Figure", name := "value", desc := "(LNineDemands$Facts;)I" } : Jvm.MethodName)) ∈ lw_all := lw_g (lw_at lw_m5 190 rfl) rfl
theorem q1241 : (Jvm.Cond.instanceMethod ({ cls := "NineDemands$Figure", name := "value", desc := "(LNineDemands$Facts;)I" } : Jvm.MethodName)) ∈ lw_all := lw_g (lw_at lw_m5 191 rfl) rfl
theorem q1242 : (Jvm.Cond.code ({ cls := "NineDemands$Figure", name := "value", desc := "(LNineDemands$Facts;)I" } : Jvm.MethodName) prog_11_method_2_code (2 : Nat) (Option.some Jvm.ClassFile.FieldType.int)) ∈ lw_all := lw_g (lw_at lw_m5 192 rfl) rfl
theorem q1291 : (Jvm.Cond.selects "NineDemands$Figure" ({ cls := "java/lang/Object", name := "getClass", desc := "()Ljava/lang/Class;" } : Jvm.MethodName) ({ cls := "java/lang/Object", name := "getClass", desc := "()Ljava/lang/Class;" } : Jvm.MethodName)) ∈ lw_all := lw_g (lw_at lw_m6 1 rfl) rfl
theorem q2545 : (Jvm.Cond.castable "NineDemands$Figure" "java/lang/Object") ∈ lw_tbl := lw_at lw_m11 55 rfl
theorem in_X21 : ∀ w ∈ wsX210, w ∈ lw_all := lw_in wsX210 [1079] (by decide +kernel) (by decide +kernel)
/-! NineDemands$Two -/
set_option maxRecDepth 100000
def RX22 : String := "NineDemands$Two"
def TX22 : u_T := fun k => match k with
  | 0 => ("NineDemands$Two", "sign", "I", true)
  | 1 => ("NineDemands$Two", "a", "LNineDemands$Term;", true)
  | _ => ("NineDemands$Two", "b", "LNineDemands$Term;", true)
def tyX22 : Nat → FieldType := fun k => match k with
  | 0 => .int
  | 1 => .object "NineDemands$Term"
  | _ => .object "NineDemands$Term"
abbrev wsX220 : List Cond := u_ws RX22 TX22 3
theorem nmX22 : ∀ a, a < 3 → ∀ b, b < 3 → a ≠ b → (TX22 a).2.1 ≠ (TX22 b).2.1 := by decide +kernel
theorem tyX22_ok : ∀ k, k < 3 → parseFieldDescriptor (TX22 k).2.2.1 = some (tyX22 k) := by decide +kernel
abbrev cX22_init : ByteArray := prog_28_method_1_code
def yX22_init : MethodName := ⟨RX22, "<init>", "(ILNineDemands$Term;LNineDemands$Term;)V"⟩
def dkwX22_init_0 : List UInt8 := [42, 183, 0, 1, 42, 27, 181, 0, 7, 42, 44, 181, 0, 13, 42, 45, 181, 0, 17, 177]
abbrev dktX22_init_0 : List UInt8 := dkwX22_init_0 ++ []
theorem dksX22_init_0 : cX22_init.data.toList.drop 0 = dktX22_init_0 := by decide +kernel
theorem dX22_init_0 : decode cX22_init 0 = .ok (.aload_n 0, 1) := dk_42 (dk_at dksX22_init_0 0 rfl rfl)
theorem dX22_init_1 : decode cX22_init 1 = .ok (.invokespecial 1, 3) := dk_183 0 1 (dk_at dksX22_init_0 1 rfl rfl)
theorem dX22_init_4 : decode cX22_init 4 = .ok (.aload_n 0, 1) := dk_42 (dk_at dksX22_init_0 4 rfl rfl)
theorem dX22_init_5 : decode cX22_init 5 = .ok (.iload_n 1, 1) := dk_27 (dk_at dksX22_init_0 5 rfl rfl)
theorem dX22_init_6 : decode cX22_init 6 = .ok (.putfield 7, 3) := dk_181 0 7 (dk_at dksX22_init_0 6 rfl rfl)
theorem dX22_init_9 : decode cX22_init 9 = .ok (.aload_n 0, 1) := dk_42 (dk_at dksX22_init_0 9 rfl rfl)
theorem dX22_init_10 : decode cX22_init 10 = .ok (.aload_n 2, 1) := dk_44 (dk_at dksX22_init_0 10 rfl rfl)
theorem dX22_init_11 : decode cX22_init 11 = .ok (.putfield 13, 3) := dk_181 0 13 (dk_at dksX22_init_0 11 rfl rfl)
theorem dX22_init_14 : decode cX22_init 14 = .ok (.aload_n 0, 1) := dk_42 (dk_at dksX22_init_0 14 rfl rfl)
theorem dX22_init_15 : decode cX22_init 15 = .ok (.aload_n 3, 1) := dk_45 (dk_at dksX22_init_0 15 rfl rfl)
theorem dX22_init_16 : decode cX22_init 16 = .ok (.putfield 17, 3) := dk_181 0 17 (dk_at dksX22_init_0 16 rfl rfl)
theorem dX22_init_19 : decode cX22_init 19 = .ok (.return_, 1) := dk_177 (dk_at dksX22_init_0 19 rfl rfl)
abbrev cX22_value : ByteArray := prog_28_method_3_code
def yX22_value : MethodName := ⟨RX22, "value", "(LNineDemands$Facts;)I"⟩
def dkwX22_value_6 : List UInt8 := [172, 28, 154, 0, 7, 29, 153, 0, 7, 4, 167, 0, 4, 3, 184, 0, 24, 172]
abbrev dktX22_value_6 : List UInt8 := dkwX22_value_6 ++ []
def dkwX22_value_5 : List UInt8 := [167, 0, 4, 3, 184, 0, 24, 172, 28, 153, 0, 11, 29, 153, 0, 7, 4, 167, 0, 4, 3, 184, 0, 24]
abbrev dktX22_value_5 : List UInt8 := dkwX22_value_5 ++ dktX22_value_6
def dkwX22_value_4 : List UInt8 := [184, 0, 24, 172, 28, 29, 160, 0, 7, 4, 167, 0, 4, 3, 184, 0, 24, 172, 28, 29, 164, 0, 7, 4]
abbrev dktX22_value_4 : List UInt8 := dkwX22_value_4 ++ dktX22_value_5
def dkwX22_value_3 : List UInt8 := [29, 154, 0, 7, 3, 167, 0, 6, 28, 29, 112, 172, 28, 29, 162, 0, 7, 4, 167, 0, 4, 3]
abbrev dktX22_value_3 : List UInt8 := dkwX22_value_3 ++ dktX22_value_4
def dkwX22_value_2 : List UInt8 := [28, 29, 96, 172, 28, 29, 100, 172, 28, 29, 104, 172, 29, 154, 0, 7, 3, 167, 0, 6, 28, 29, 108, 172]
abbrev dktX22_value_2 : List UInt8 := dkwX22_value_2 ++ dktX22_value_3
def dkwX22_value_1 : List UInt8 := [170, 0, 0, 0, 0, 213, 0, 0, 0, 37, 0, 0, 0, 62, 0, 0, 0, 142, 0, 0, 0, 196, 0, 0, 0, 213, 0, 0, 0, 213, 0, 0, 0, 213, 0, 0, 0, 126, 0, 0, 0, 118, 0, 0, 0, 213, 0, 0, 0, 122, 0, 0, 0, 213, 0, 0, 0, 130, 0, 0, 0, 213, 0, 0, 0, 213, 0, 0, 0, 213, 0, 0, 0, 213, 0, 0, 0, 213, 0, 0, 0, 213, 0, 0, 0, 213, 0, 0, 0, 213, 0, 0, 0, 213, 0, 0, 0, 213, 0, 0, 0, 213, 0, 0, 0, 213, 0, 0, 0, 154, 0, 0, 0, 168, 0, 0, 0, 182]
abbrev dktX22_value_1 : List UInt8 := dkwX22_value_1 ++ dktX22_value_2
def dkwX22_value_0 : List UInt8 := [42, 180, 0, 13, 43, 182, 0, 20, 61, 42, 180, 0, 17, 43, 182, 0, 20, 62, 42, 180, 0, 7]
abbrev dktX22_value_0 : List UInt8 := dkwX22_value_0 ++ dktX22_value_1
theorem dksX22_value_0 : cX22_value.data.toList.drop 0 = dktX22_value_0 := by decide +kernel
theorem dksX22_value_1 : cX22_value.data.toList.drop 22 = dktX22_value_1 := dk_seg dksX22_value_0 22 rfl rfl
theorem dksX22_value_2 : cX22_value.data.toList.drop 140 = dktX22_value_2 := dk_seg dksX22_value_1 118 rfl rfl
theorem dksX22_value_3 : cX22_value.data.toList.drop 164 = dktX22_value_3 := dk_seg dksX22_value_2 24 rfl rfl
theorem dksX22_value_4 : cX22_value.data.toList.drop 186 = dktX22_value_4 := dk_seg dksX22_value_3 22 rfl rfl
theorem dksX22_value_5 : cX22_value.data.toList.drop 210 = dktX22_value_5 := dk_seg dksX22_value_4 24 rfl rfl
theorem dksX22_value_6 : cX22_value.data.toList.drop 234 = dktX22_value_6 := dk_seg dksX22_value_5 24 rfl rfl
theorem dX22_value_0 : decode cX22_value 0 = .ok (.aload_n 0, 1) := dk_42 (dk_at dksX22_value_0 0 rfl rfl)
theorem dX22_value_1 : decode cX22_value 1 = .ok (.getfield 13, 3) := dk_180 0 13 (dk_at dksX22_value_0 1 rfl rfl)
theorem dX22_value_4 : decode cX22_value 4 = .ok (.aload_n 1, 1) := dk_43 (dk_at dksX22_value_0 4 rfl rfl)
theorem dX22_value_5 : decode cX22_value 5 = .ok (.invokevirtual 20, 3) := dk_182 0 20 (dk_at dksX22_value_0 5 rfl rfl)
theorem dX22_value_8 : decode cX22_value 8 = .ok (.istore_n 2, 1) := dk_61 (dk_at dksX22_value_0 8 rfl rfl)
theorem dX22_value_9 : decode cX22_value 9 = .ok (.aload_n 0, 1) := dk_42 (dk_at dksX22_value_0 9 rfl rfl)
theorem dX22_value_10 : decode cX22_value 10 = .ok (.getfield 17, 3) := dk_180 0 17 (dk_at dksX22_value_0 10 rfl rfl)
theorem dX22_value_13 : decode cX22_value 13 = .ok (.aload_n 1, 1) := dk_43 (dk_at dksX22_value_0 13 rfl rfl)
theorem dX22_value_14 : decode cX22_value 14 = .ok (.invokevirtual 20, 3) := dk_182 0 20 (dk_at dksX22_value_0 14 rfl rfl)
theorem dX22_value_17 : decode cX22_value 17 = .ok (.istore_n 3, 1) := dk_62 (dk_at dksX22_value_0 17 rfl rfl)
theorem dX22_value_18 : decode cX22_value 18 = .ok (.aload_n 0, 1) := dk_42 (dk_at dksX22_value_0 18 rfl rfl)
theorem dX22_value_19 : decode cX22_value 19 = .ok (.getfield 7, 3) := dk_180 0 7 (dk_at dksX22_value_0 19 rfl rfl)
theorem dX22_value_22 : decode cX22_value 22 = .ok (.tableswitch 213 37 62 #[142, 196, 213, 213, 213, 126, 118, 213, 122, 213, 130, 213, 213, 213, 213, 213, 213, 213, 213, 213, 213, 213, 213, 154, 168, 182], 118) := by decide +kernel
theorem dX22_value_140 : decode cX22_value 140 = .ok (.iload_n 2, 1) := dk_28 (dk_at dksX22_value_2 0 rfl rfl)
theorem dX22_value_141 : decode cX22_value 141 = .ok (.iload_n 3, 1) := dk_29 (dk_at dksX22_value_2 1 rfl rfl)
theorem dX22_value_142 : decode cX22_value 142 = .ok (.iadd, 1) := dk_96 (dk_at dksX22_value_2 2 rfl rfl)
theorem dX22_value_143 : decode cX22_value 143 = .ok (.ireturn, 1) := dk_172 (dk_at dksX22_value_2 3 rfl rfl)
theorem dX22_value_144 : decode cX22_value 144 = .ok (.iload_n 2, 1) := dk_28 (dk_at dksX22_value_2 4 rfl rfl)
theorem dX22_value_145 : decode cX22_value 145 = .ok (.iload_n 3, 1) := dk_29 (dk_at dksX22_value_2 5 rfl rfl)
theorem dX22_value_146 : decode cX22_value 146 = .ok (.isub, 1) := dk_100 (dk_at dksX22_value_2 6 rfl rfl)
theorem dX22_value_147 : decode cX22_value 147 = .ok (.ireturn, 1) := dk_172 (dk_at dksX22_value_2 7 rfl rfl)
theorem dX22_value_148 : decode cX22_value 148 = .ok (.iload_n 2, 1) := dk_28 (dk_at dksX22_value_2 8 rfl rfl)
theorem dX22_value_149 : decode cX22_value 149 = .ok (.iload_n 3, 1) := dk_29 (dk_at dksX22_value_2 9 rfl rfl)
theorem dX22_value_150 : decode cX22_value 150 = .ok (.imul, 1) := dk_104 (dk_at dksX22_value_2 10 rfl rfl)
theorem dX22_value_151 : decode cX22_value 151 = .ok (.ireturn, 1) := dk_172 (dk_at dksX22_value_2 11 rfl rfl)
theorem dX22_value_152 : decode cX22_value 152 = .ok (.iload_n 3, 1) := dk_29 (dk_at dksX22_value_2 12 rfl rfl)
theorem dX22_value_153 : decode cX22_value 153 = .ok (.ifCond .ne 7, 3) := dk_154 0 7 (dk_at dksX22_value_2 13 rfl rfl)
theorem dX22_value_156 : decode cX22_value 156 = .ok (.iconst 0, 1) := dk_3 (dk_at dksX22_value_2 16 rfl rfl)
theorem dX22_value_157 : decode cX22_value 157 = .ok (.goto 6, 3) := dk_167 0 6 (dk_at dksX22_value_2 17 rfl rfl)
theorem dX22_value_160 : decode cX22_value 160 = .ok (.iload_n 2, 1) := dk_28 (dk_at dksX22_value_2 20 rfl rfl)
theorem dX22_value_161 : decode cX22_value 161 = .ok (.iload_n 3, 1) := dk_29 (dk_at dksX22_value_2 21 rfl rfl)
theorem dX22_value_162 : decode cX22_value 162 = .ok (.idiv, 1) := dk_108 (dk_at dksX22_value_2 22 rfl rfl)
theorem dX22_value_163 : decode cX22_value 163 = .ok (.ireturn, 1) := dk_172 (dk_at dksX22_value_2 23 rfl rfl)
theorem dX22_value_164 : decode cX22_value 164 = .ok (.iload_n 3, 1) := dk_29 (dk_at dksX22_value_3 0 rfl rfl)
theorem dX22_value_165 : decode cX22_value 165 = .ok (.ifCond .ne 7, 3) := dk_154 0 7 (dk_at dksX22_value_3 1 rfl rfl)
theorem dX22_value_168 : decode cX22_value 168 = .ok (.iconst 0, 1) := dk_3 (dk_at dksX22_value_3 4 rfl rfl)
theorem dX22_value_169 : decode cX22_value 169 = .ok (.goto 6, 3) := dk_167 0 6 (dk_at dksX22_value_3 5 rfl rfl)
theorem dX22_value_172 : decode cX22_value 172 = .ok (.iload_n 2, 1) := dk_28 (dk_at dksX22_value_3 8 rfl rfl)
theorem dX22_value_173 : decode cX22_value 173 = .ok (.iload_n 3, 1) := dk_29 (dk_at dksX22_value_3 9 rfl rfl)
theorem dX22_value_174 : decode cX22_value 174 = .ok (.irem, 1) := dk_112 (dk_at dksX22_value_3 10 rfl rfl)
theorem dX22_value_175 : decode cX22_value 175 = .ok (.ireturn, 1) := dk_172 (dk_at dksX22_value_3 11 rfl rfl)
theorem dX22_value_176 : decode cX22_value 176 = .ok (.iload_n 2, 1) := dk_28 (dk_at dksX22_value_3 12 rfl rfl)
theorem dX22_value_177 : decode cX22_value 177 = .ok (.iload_n 3, 1) := dk_29 (dk_at dksX22_value_3 13 rfl rfl)
theorem dX22_value_178 : decode cX22_value 178 = .ok (.if_icmp .ge 7, 3) := dk_162 0 7 (dk_at dksX22_value_3 14 rfl rfl)
theorem dX22_value_181 : decode cX22_value 181 = .ok (.iconst 1, 1) := dk_4 (dk_at dksX22_value_3 17 rfl rfl)
theorem dX22_value_182 : decode cX22_value 182 = .ok (.goto 4, 3) := dk_167 0 4 (dk_at dksX22_value_3 18 rfl rfl)
theorem dX22_value_185 : decode cX22_value 185 = .ok (.iconst 0, 1) := dk_3 (dk_at dksX22_value_3 21 rfl rfl)
theorem dX22_value_186 : decode cX22_value 186 = .ok (.invokestatic 24, 3) := dk_184 0 24 (dk_at dksX22_value_4 0 rfl rfl)
theorem dX22_value_189 : decode cX22_value 189 = .ok (.ireturn, 1) := dk_172 (dk_at dksX22_value_4 3 rfl rfl)
theorem dX22_value_190 : decode cX22_value 190 = .ok (.iload_n 2, 1) := dk_28 (dk_at dksX22_value_4 4 rfl rfl)
theorem dX22_value_191 : decode cX22_value 191 = .ok (.iload_n 3, 1) := dk_29 (dk_at dksX22_value_4 5 rfl rfl)
theorem dX22_value_192 : decode cX22_value 192 = .ok (.if_icmp .ne 7, 3) := dk_160 0 7 (dk_at dksX22_value_4 6 rfl rfl)
theorem dX22_value_195 : decode cX22_value 195 = .ok (.iconst 1, 1) := dk_4 (dk_at dksX22_value_4 9 rfl rfl)
theorem dX22_value_196 : decode cX22_value 196 = .ok (.goto 4, 3) := dk_167 0 4 (dk_at dksX22_value_4 10 rfl rfl)
theorem dX22_value_199 : decode cX22_value 199 = .ok (.iconst 0, 1) := dk_3 (dk_at dksX22_value_4 13 rfl rfl)
theorem dX22_value_200 : decode cX22_value 200 = .ok (.invokestatic 24, 3) := dk_184 0 24 (dk_at dksX22_value_4 14 rfl rfl)
theorem dX22_value_203 : decode cX22_value 203 = .ok (.ireturn, 1) := dk_172 (dk_at dksX22_value_4 17 rfl rfl)
theorem dX22_value_204 : decode cX22_value 204 = .ok (.iload_n 2, 1) := dk_28 (dk_at dksX22_value_4 18 rfl rfl)
theorem dX22_value_205 : decode cX22_value 205 = .ok (.iload_n 3, 1) := dk_29 (dk_at dksX22_value_4 19 rfl rfl)
theorem dX22_value_206 : decode cX22_value 206 = .ok (.if_icmp .le 7, 3) := dk_164 0 7 (dk_at dksX22_value_4 20 rfl rfl)
theorem dX22_value_209 : decode cX22_value 209 = .ok (.iconst 1, 1) := dk_4 (dk_at dksX22_value_4 23 rfl rfl)
theorem dX22_value_210 : decode cX22_value 210 = .ok (.goto 4, 3) := dk_167 0 4 (dk_at dksX22_value_5 0 rfl rfl)
theorem dX22_value_213 : decode cX22_value 213 = .ok (.iconst 0, 1) := dk_3 (dk_at dksX22_value_5 3 rfl rfl)
theorem dX22_value_214 : decode cX22_value 214 = .ok (.invokestatic 24, 3) := dk_184 0 24 (dk_at dksX22_value_5 4 rfl rfl)
theorem dX22_value_217 : decode cX22_value 217 = .ok (.ireturn, 1) := dk_172 (dk_at dksX22_value_5 7 rfl rfl)
theorem dX22_value_218 : decode cX22_value 218 = .ok (.iload_n 2, 1) := dk_28 (dk_at dksX22_value_5 8 rfl rfl)
theorem dX22_value_219 : decode cX22_value 219 = .ok (.ifCond .eq 11, 3) := dk_153 0 11 (dk_at dksX22_value_5 9 rfl rfl)
theorem dX22_value_222 : decode cX22_value 222 = .ok (.iload_n 3, 1) := dk_29 (dk_at dksX22_value_5 12 rfl rfl)
theorem dX22_value_223 : decode cX22_value 223 = .ok (.ifCond .eq 7, 3) := dk_153 0 7 (dk_at dksX22_value_5 13 rfl rfl)
theorem dX22_value_226 : decode cX22_value 226 = .ok (.iconst 1, 1) := dk_4 (dk_at dksX22_value_5 16 rfl rfl)
theorem dX22_value_227 : decode cX22_value 227 = .ok (.goto 4, 3) := dk_167 0 4 (dk_at dksX22_value_5 17 rfl rfl)
theorem dX22_value_230 : decode cX22_value 230 = .ok (.iconst 0, 1) := dk_3 (dk_at dksX22_value_5 20 rfl rfl)
theorem dX22_value_231 : decode cX22_value 231 = .ok (.invokestatic 24, 3) := dk_184 0 24 (dk_at dksX22_value_5 21 rfl rfl)
theorem dX22_value_234 : decode cX22_value 234 = .ok (.ireturn, 1) := dk_172 (dk_at dksX22_value_6 0 rfl rfl)
theorem dX22_value_235 : decode cX22_value 235 = .ok (.iload_n 2, 1) := dk_28 (dk_at dksX22_value_6 1 rfl rfl)
theorem dX22_value_236 : decode cX22_value 236 = .ok (.ifCond .ne 7, 3) := dk_154 0 7 (dk_at dksX22_value_6 2 rfl rfl)
theorem dX22_value_239 : decode cX22_value 239 = .ok (.iload_n 3, 1) := dk_29 (dk_at dksX22_value_6 5 rfl rfl)
theorem dX22_value_240 : decode cX22_value 240 = .ok (.ifCond .eq 7, 3) := dk_153 0 7 (dk_at dksX22_value_6 6 rfl rfl)
theorem dX22_value_243 : decode cX22_value 243 = .ok (.iconst 1, 1) := dk_4 (dk_at dksX22_value_6 9 rfl rfl)
theorem dX22_value_244 : decode cX22_value 244 = .ok (.goto 4, 3) := dk_167 0 4 (dk_at dksX22_value_6 10 rfl rfl)
theorem dX22_value_247 : decode cX22_value 247 = .ok (.iconst 0, 1) := dk_3 (dk_at dksX22_value_6 13 rfl rfl)
theorem dX22_value_248 : decode cX22_value 248 = .ok (.invokestatic 24, 3) := dk_184 0 24 (dk_at dksX22_value_6 14 rfl rfl)
theorem dX22_value_251 : decode cX22_value 251 = .ok (.ireturn, 1) := dk_172 (dk_at dksX22_value_6 17 rfl rfl)
abbrev cX22_is : ByteArray := prog_28_method_2_code
def yX22_is : MethodName := ⟨RX22, "is", "(Z)I"⟩
def dkwX22_is_0 : List UInt8 := [26, 153, 0, 7, 4, 167, 0, 4, 3, 172]
abbrev dktX22_is_0 : List UInt8 := dkwX22_is_0 ++ []
theorem dksX22_is_0 : cX22_is.data.toList.drop 0 = dktX22_is_0 := by decide +kernel
theorem dX22_is_0 : decode cX22_is 0 = .ok (.iload_n 0, 1) := dk_26 (dk_at dksX22_is_0 0 rfl rfl)
theorem dX22_is_1 : decode cX22_is 1 = .ok (.ifCond .eq 7, 3) := dk_153 0 7 (dk_at dksX22_is_0 1 rfl rfl)
theorem dX22_is_4 : decode cX22_is 4 = .ok (.iconst 1, 1) := dk_4 (dk_at dksX22_is_0 4 rfl rfl)
theorem dX22_is_5 : decode cX22_is 5 = .ok (.goto 4, 3) := dk_167 0 4 (dk_at dksX22_is_0 5 rfl rfl)
theorem dX22_is_8 : decode cX22_is 8 = .ok (.iconst 0, 1) := dk_3 (dk_at dksX22_is_0 8 rfl rfl)
theorem dX22_is_9 : decode cX22_is 9 = .ok (.ireturn, 1) := dk_172 (dk_at dksX22_is_0 9 rfl rfl)
theorem q130 : (Jvm.Cond.initialized "NineDemands$Two") ∈ lw_all := lw_g (lw_at lw_m1 40 rfl) rfl
theorem q1084 : (Jvm.Cond.instantiable "NineDemands$Two" (3 : Nat)) ∈ lw_all := lw_g (lw_at lw_m5 34 rfl) rfl
theorem q1086 : (Jvm.Cond.instanceMethod ({ cls := "NineDemands$Two", name := "<init>", desc := "(ILNineDemands$Term;LNineDemands$Term;)V" } : Jvm.MethodName)) ∈ lw_all := lw_g (lw_at lw_m5 36 rfl) rfl
theorem q1087 : (Jvm.Cond.code ({ cls := "NineDemands$Two", name := "<init>", desc := "(ILNineDemands$Term;LNineDemands$Term;)V" } : Jvm.MethodName) prog_28_method_1_code (4 : Nat) (Option.none : Option Jvm.ClassFile.FieldType)) ∈ lw_all := lw_g (lw_at lw_m5 37 rfl) rfl
theorem q1088 : (Jvm.Cond.methodLinkNest "NineDemands$Two" (1 : Nat) ({ cls := "NineDemands$Term", name := "<init>", desc := "()V" } : Jvm.MethodName) "NineDemands") ∈ lw_tbl := lw_at lw_m5 38 rfl
theorem q1089 : (Jvm.Cond.fieldLink "NineDemands$Two" (7 : Nat) "NineDemands$Two" "sign" "I") ∈ lw_all := lw_g (lw_at lw_m5 39 rfl) rfl
theorem q1090 : (Jvm.Cond.fieldLink "NineDemands$Two" (13 : Nat) "NineDemands$Two" "a" "LNineDemands$Term;") ∈ lw_all := lw_g (lw_at lw_m5 40 rfl) rfl
theorem q1091 : (Jvm.Cond.fieldLink "NineDemands$Two" (17 : Nat) "NineDemands$Two" "b" "LNineDemands$Term;") ∈ lw_all := lw_g (lw_at lw_m5 41 rfl) rfl
theorem q1092 : (Jvm.Cond.laysFinal "NineDemands$Two" "NineDemands$Two" "sign" "I") ∈ lw_all := lw_g (lw_at lw_m5 42 rfl) rfl
theorem q1093 : (Jvm.Cond.soleField "NineDemands$Two" "sign") ∈ lw_all := lw_g (lw_at lw_m5 43 rfl) rfl
theorem q1094 : (Jvm.Cond.laysFinal "NineDemands$Two" "NineDemands$Two" "a" "LNineDemands$Term;") ∈ lw_all := lw_g (lw_at lw_m5 44 rfl) rfl
theorem q1095 : (Jvm.Cond.soleField "NineDemands$Two" "a") ∈ lw_all := lw_g (lw_at lw_m5 45 rfl) rfl
theorem q1096 : (Jvm.Cond.laysFinal "NineDemands$Two" "NineDemands$Two" "b" "LNineDemands$Term;") ∈ lw_all := lw_g (lw_at lw_m5 46 rfl) rfl
theorem q1097 : (Jvm.Cond.soleField "NineDemands$Two" "b") ∈ lw_all := lw_g (lw_at lw_m5 47 rfl) rfl
theorem q1098 : (Jvm.Cond.superclass "NineDemands$Two" "NineDemands$Term") ∈ lw_all := lw_g (lw_at lw_m5 48 rfl) rfl
theorem q1250 : (Jvm.Cond.instanceMethod ({ cls := "NineDemands$Two", name := "value", desc := "(LNineDemands$Facts;)I" } : Jvm.MethodName)) ∈ lw_all := lw_g (lw_at lw_m5 200 rfl) rfl
theorem q1251 : (Jvm.Cond.code ({ cls := "NineDemands$Two", name := "value", desc := "(LNineDemands$Facts;)I" } : Jvm.MethodName) prog_28_method_3_code (4 : Nat) (Option.some Jvm.ClassFile.FieldType.int)) ∈ lw_all := lw_g (lw_at lw_m5 201 rfl) rfl
theorem q1252 : (Jvm.Cond.methodLink "NineDemands$Two" (20 : Nat) ({ cls := "NineDemands$Term", name := "value", desc := "(LNineDemands$Facts;)I" } : Jvm.MethodName)) ∈ lw_all := lw_g (lw_at lw_m5 202 rfl) rfl
theorem q1253 : (Jvm.Cond.methodLink "NineDemands$Two" (24 : Nat) ({ cls := "NineDemands$Two", name := "is", desc := "(Z)I" } : Jvm.MethodName)) ∈ lw_all := lw_g (lw_at lw_m5 203 rfl) rfl
theorem q1254 : (Jvm.Cond.static ({ cls := "NineDemands$Two", name := "is", desc := "(Z)I" } : Jvm.MethodName)) ∈ lw_all := lw_g (lw_at lw_m5 204 rfl) rfl
theorem q1255 : (Jvm.Cond.code ({ cls := "NineDemands$Two", name := "is", desc := "(Z)I" } : Jvm.MethodName) prog_28_method_2_code (1 : Nat) (Option.some Jvm.ClassFile.FieldType.int)) ∈ lw_all := lw_g (lw_at lw_m5 205 rfl) rfl
theorem q1256 : (Jvm.Cond.selects "NineDemands$Two" ({ cls := "NineDemands$Term", name := "value", desc := "(LNineDemands$Facts;)I" } : Jvm.MethodName) ({ cls := "NineDemands$Two", name := "value", desc := "(LNineDemands$Facts;)I" } : Jvm.MethodName)) ∈ lw_all := lw_g (lw_at lw_m5 206 rfl) rfl
theorem q1305 : (Jvm.Cond.selects "NineDemands$Two" ({ cls := "java/lang/Object", name := "getClass", desc := "()Ljava/lang/Class;" } : Jvm.MethodName) ({ cls := "java/lang/Object", name := "getClass", desc := "()Ljava/lang/Class;" } : Jvm.MethodName)) ∈ lw_all := lw_g (lw_at lw_m6 15 rfl) rfl
theorem q2546 : (Jvm.Cond.castable "NineDemands$Two" "java/lang/Object") ∈ lw_tbl := lw_at lw_m11 56 rfl
theorem in_X22 : ∀ w ∈ wsX220, w ∈ lw_all := lw_in wsX220 [1092, 1094, 1096] (by decide +kernel) (by decide +kernel)
/-! NineDemands$Cases -/
set_option maxRecDepth 100000
def RX23 : String := "NineDemands$Cases"
def TX23 : u_T := fun k => match k with
  | 0 => ("NineDemands$Cases", "first", "[I", true)
  | 1 => ("NineDemands$Cases", "second", "[I", true)
  | 2 => ("NineDemands$Cases", "who", "[I", true)
  | 3 => ("NineDemands$Cases", "goes", "[I", true)
  | _ => ("NineDemands$Cases", "many", "I", false)
def tyX23 : Nat → FieldType := fun k => match k with
  | 0 => .array .int
  | 1 => .array .int
  | 2 => .array .int
  | 3 => .array .int
  | _ => .int
abbrev wsX230 : List Cond := u_ws RX23 TX23 5
theorem nmX23 : ∀ a, a < 5 → ∀ b, b < 5 → a ≠ b → (TX23 a).2.1 ≠ (TX23 b).2.1 := by decide +kernel
theorem tyX23_ok : ∀ k, k < 5 → parseFieldDescriptor (TX23 k).2.2.1 = some (tyX23 k) := by decide +kernel
abbrev cX23_init : ByteArray := prog_6_method_1_code
def yX23_init : MethodName := ⟨RX23, "<init>", "()V"⟩
def dkwX23_init_1 : List UInt8 := [188, 10, 181, 0, 18, 42, 16, 36, 188, 10, 181, 0, 21, 177]
abbrev dktX23_init_1 : List UInt8 := dkwX23_init_1 ++ []
def dkwX23_init_0 : List UInt8 := [42, 183, 0, 3, 42, 16, 36, 188, 10, 181, 0, 9, 42, 16, 36, 188, 10, 181, 0, 15, 42, 16, 36]
abbrev dktX23_init_0 : List UInt8 := dkwX23_init_0 ++ dktX23_init_1
theorem dksX23_init_0 : cX23_init.data.toList.drop 0 = dktX23_init_0 := by decide +kernel
theorem dksX23_init_1 : cX23_init.data.toList.drop 23 = dktX23_init_1 := dk_seg dksX23_init_0 23 rfl rfl
theorem dX23_init_0 : decode cX23_init 0 = .ok (.aload_n 0, 1) := dk_42 (dk_at dksX23_init_0 0 rfl rfl)
theorem dX23_init_1 : decode cX23_init 1 = .ok (.invokespecial 3, 3) := dk_183 0 3 (dk_at dksX23_init_0 1 rfl rfl)
theorem dX23_init_4 : decode cX23_init 4 = .ok (.aload_n 0, 1) := dk_42 (dk_at dksX23_init_0 4 rfl rfl)
theorem dX23_init_5 : decode cX23_init 5 = .ok (.bipush 36, 2) := dk_16 36 (dk_at dksX23_init_0 5 rfl rfl)
theorem dX23_init_7 : decode cX23_init 7 = .ok (.newarray .int, 2) := dk_188_10 (dk_at dksX23_init_0 7 rfl rfl)
theorem dX23_init_9 : decode cX23_init 9 = .ok (.putfield 9, 3) := dk_181 0 9 (dk_at dksX23_init_0 9 rfl rfl)
theorem dX23_init_12 : decode cX23_init 12 = .ok (.aload_n 0, 1) := dk_42 (dk_at dksX23_init_0 12 rfl rfl)
theorem dX23_init_13 : decode cX23_init 13 = .ok (.bipush 36, 2) := dk_16 36 (dk_at dksX23_init_0 13 rfl rfl)
theorem dX23_init_15 : decode cX23_init 15 = .ok (.newarray .int, 2) := dk_188_10 (dk_at dksX23_init_0 15 rfl rfl)
theorem dX23_init_17 : decode cX23_init 17 = .ok (.putfield 15, 3) := dk_181 0 15 (dk_at dksX23_init_0 17 rfl rfl)
theorem dX23_init_20 : decode cX23_init 20 = .ok (.aload_n 0, 1) := dk_42 (dk_at dksX23_init_0 20 rfl rfl)
theorem dX23_init_21 : decode cX23_init 21 = .ok (.bipush 36, 2) := dk_16 36 (dk_at dksX23_init_0 21 rfl rfl)
theorem dX23_init_23 : decode cX23_init 23 = .ok (.newarray .int, 2) := dk_188_10 (dk_at dksX23_init_1 0 rfl rfl)
theorem dX23_init_25 : decode cX23_init 25 = .ok (.putfield 18, 3) := dk_181 0 18 (dk_at dksX23_init_1 2 rfl rfl)
theorem dX23_init_28 : decode cX23_init 28 = .ok (.aload_n 0, 1) := dk_42 (dk_at dksX23_init_1 5 rfl rfl)
theorem dX23_init_29 : decode cX23_init 29 = .ok (.bipush 36, 2) := dk_16 36 (dk_at dksX23_init_1 6 rfl rfl)
theorem dX23_init_31 : decode cX23_init 31 = .ok (.newarray .int, 2) := dk_188_10 (dk_at dksX23_init_1 8 rfl rfl)
theorem dX23_init_33 : decode cX23_init 33 = .ok (.putfield 21, 3) := dk_181 0 21 (dk_at dksX23_init_1 10 rfl rfl)
theorem dX23_init_36 : decode cX23_init 36 = .ok (.return_, 1) := dk_177 (dk_at dksX23_init_1 13 rfl rfl)
abbrev cX23_add : ByteArray := prog_6_method_2_code
def yX23_add : MethodName := ⟨RX23, "add", "(III)V"⟩
def dkwX23_add_1 : List UInt8 := [42, 180, 0, 24, 29, 79, 42, 89, 180, 0, 24, 4, 96, 181, 0, 24, 177]
abbrev dktX23_add_1 : List UInt8 := dkwX23_add_1 ++ []
def dkwX23_add_0 : List UInt8 := [42, 180, 0, 9, 42, 180, 0, 24, 27, 79, 42, 180, 0, 15, 42, 180, 0, 24, 28, 79, 42, 180, 0, 18]
abbrev dktX23_add_0 : List UInt8 := dkwX23_add_0 ++ dktX23_add_1
theorem dksX23_add_0 : cX23_add.data.toList.drop 0 = dktX23_add_0 := by decide +kernel
theorem dksX23_add_1 : cX23_add.data.toList.drop 24 = dktX23_add_1 := dk_seg dksX23_add_0 24 rfl rfl
theorem dX23_add_0 : decode cX23_add 0 = .ok (.aload_n 0, 1) := dk_42 (dk_at dksX23_add_0 0 rfl rfl)
theorem dX23_add_1 : decode cX23_add 1 = .ok (.getfield 9, 3) := dk_180 0 9 (dk_at dksX23_add_0 1 rfl rfl)
theorem dX23_add_4 : decode cX23_add 4 = .ok (.aload_n 0, 1) := dk_42 (dk_at dksX23_add_0 4 rfl rfl)
theorem dX23_add_5 : decode cX23_add 5 = .ok (.getfield 24, 3) := dk_180 0 24 (dk_at dksX23_add_0 5 rfl rfl)
theorem dX23_add_8 : decode cX23_add 8 = .ok (.iload_n 1, 1) := dk_27 (dk_at dksX23_add_0 8 rfl rfl)
theorem dX23_add_9 : decode cX23_add 9 = .ok (.iastore, 1) := dk_79 (dk_at dksX23_add_0 9 rfl rfl)
theorem dX23_add_10 : decode cX23_add 10 = .ok (.aload_n 0, 1) := dk_42 (dk_at dksX23_add_0 10 rfl rfl)
theorem dX23_add_11 : decode cX23_add 11 = .ok (.getfield 15, 3) := dk_180 0 15 (dk_at dksX23_add_0 11 rfl rfl)
theorem dX23_add_14 : decode cX23_add 14 = .ok (.aload_n 0, 1) := dk_42 (dk_at dksX23_add_0 14 rfl rfl)
theorem dX23_add_15 : decode cX23_add 15 = .ok (.getfield 24, 3) := dk_180 0 24 (dk_at dksX23_add_0 15 rfl rfl)
theorem dX23_add_18 : decode cX23_add 18 = .ok (.iload_n 2, 1) := dk_28 (dk_at dksX23_add_0 18 rfl rfl)
theorem dX23_add_19 : decode cX23_add 19 = .ok (.iastore, 1) := dk_79 (dk_at dksX23_add_0 19 rfl rfl)
theorem dX23_add_20 : decode cX23_add 20 = .ok (.aload_n 0, 1) := dk_42 (dk_at dksX23_add_0 20 rfl rfl)
theorem dX23_add_21 : decode cX23_add 21 = .ok (.getfield 18, 3) := dk_180 0 18 (dk_at dksX23_add_0 21 rfl rfl)
theorem dX23_add_24 : decode cX23_add 24 = .ok (.aload_n 0, 1) := dk_42 (dk_at dksX23_add_1 0 rfl rfl)
theorem dX23_add_25 : decode cX23_add 25 = .ok (.getfield 24, 3) := dk_180 0 24 (dk_at dksX23_add_1 1 rfl rfl)
theorem dX23_add_28 : decode cX23_add 28 = .ok (.iload_n 3, 1) := dk_29 (dk_at dksX23_add_1 4 rfl rfl)
theorem dX23_add_29 : decode cX23_add 29 = .ok (.iastore, 1) := dk_79 (dk_at dksX23_add_1 5 rfl rfl)
theorem dX23_add_30 : decode cX23_add 30 = .ok (.aload_n 0, 1) := dk_42 (dk_at dksX23_add_1 6 rfl rfl)
theorem dX23_add_31 : decode cX23_add 31 = .ok (.dup, 1) := dk_89 (dk_at dksX23_add_1 7 rfl rfl)
theorem dX23_add_32 : decode cX23_add 32 = .ok (.getfield 24, 3) := dk_180 0 24 (dk_at dksX23_add_1 8 rfl rfl)
theorem dX23_add_35 : decode cX23_add 35 = .ok (.iconst 1, 1) := dk_4 (dk_at dksX23_add_1 11 rfl rfl)
theorem dX23_add_36 : decode cX23_add 36 = .ok (.iadd, 1) := dk_96 (dk_at dksX23_add_1 12 rfl rfl)
theorem dX23_add_37 : decode cX23_add 37 = .ok (.putfield 24, 3) := dk_181 0 24 (dk_at dksX23_add_1 13 rfl rfl)
theorem dX23_add_40 : decode cX23_add 40 = .ok (.return_, 1) := dk_177 (dk_at dksX23_add_1 16 rfl rfl)
abbrev cX23_isPair : ByteArray := prog_6_method_3_code
def yX23_isPair : MethodName := ⟨RX23, "isPair", "(I)Z"⟩
def dkwX23_isPair_0 : List UInt8 := [42, 180, 0, 15, 27, 46, 2, 159, 0, 7, 4, 167, 0, 4, 3, 172]
abbrev dktX23_isPair_0 : List UInt8 := dkwX23_isPair_0 ++ []
theorem dksX23_isPair_0 : cX23_isPair.data.toList.drop 0 = dktX23_isPair_0 := by decide +kernel
theorem dX23_isPair_0 : decode cX23_isPair 0 = .ok (.aload_n 0, 1) := dk_42 (dk_at dksX23_isPair_0 0 rfl rfl)
theorem dX23_isPair_1 : decode cX23_isPair 1 = .ok (.getfield 15, 3) := dk_180 0 15 (dk_at dksX23_isPair_0 1 rfl rfl)
theorem dX23_isPair_4 : decode cX23_isPair 4 = .ok (.iload_n 1, 1) := dk_27 (dk_at dksX23_isPair_0 4 rfl rfl)
theorem dX23_isPair_5 : decode cX23_isPair 5 = .ok (.iaload, 1) := dk_46 (dk_at dksX23_isPair_0 5 rfl rfl)
theorem dX23_isPair_6 : decode cX23_isPair 6 = .ok (.iconst (-1), 1) := dk_2 (dk_at dksX23_isPair_0 6 rfl rfl)
theorem dX23_isPair_7 : decode cX23_isPair 7 = .ok (.if_icmp .eq 7, 3) := dk_159 0 7 (dk_at dksX23_isPair_0 7 rfl rfl)
theorem dX23_isPair_10 : decode cX23_isPair 10 = .ok (.iconst 1, 1) := dk_4 (dk_at dksX23_isPair_0 10 rfl rfl)
theorem dX23_isPair_11 : decode cX23_isPair 11 = .ok (.goto 4, 3) := dk_167 0 4 (dk_at dksX23_isPair_0 11 rfl rfl)
theorem dX23_isPair_14 : decode cX23_isPair 14 = .ok (.iconst 0, 1) := dk_3 (dk_at dksX23_isPair_0 14 rfl rfl)
theorem dX23_isPair_15 : decode cX23_isPair 15 = .ok (.ireturn, 1) := dk_172 (dk_at dksX23_isPair_0 15 rfl rfl)
theorem q131 : (Jvm.Cond.initialized "NineDemands$Cases") ∈ lw_all := lw_g (lw_at lw_m1 41 rfl) rfl
theorem q1114 : (Jvm.Cond.instantiable "NineDemands$Cases" (5 : Nat)) ∈ lw_all := lw_g (lw_at lw_m5 64 rfl) rfl
theorem q1116 : (Jvm.Cond.instanceMethod ({ cls := "NineDemands$Cases", name := "<init>", desc := "()V" } : Jvm.MethodName)) ∈ lw_all := lw_g (lw_at lw_m5 66 rfl) rfl
theorem q1117 : (Jvm.Cond.code ({ cls := "NineDemands$Cases", name := "<init>", desc := "()V" } : Jvm.MethodName) prog_6_method_1_code (1 : Nat) (Option.none : Option Jvm.ClassFile.FieldType)) ∈ lw_all := lw_g (lw_at lw_m5 67 rfl) rfl
theorem q1118 : (Jvm.Cond.methodLink "NineDemands$Cases" (3 : Nat) ({ cls := "java/lang/Object", name := "<init>", desc := "()V" } : Jvm.MethodName)) ∈ lw_all := lw_g (lw_at lw_m5 68 rfl) rfl
theorem q1119 : (Jvm.Cond.fieldLink "NineDemands$Cases" (9 : Nat) "NineDemands$Cases" "first" "[I") ∈ lw_all := lw_g (lw_at lw_m5 69 rfl) rfl
theorem q1126 : (Jvm.Cond.fieldLink "NineDemands$Cases" (15 : Nat) "NineDemands$Cases" "second" "[I") ∈ lw_all := lw_g (lw_at lw_m5 76 rfl) rfl
theorem q1132 : (Jvm.Cond.fieldLink "NineDemands$Cases" (18 : Nat) "NineDemands$Cases" "who" "[I") ∈ lw_all := lw_g (lw_at lw_m5 82 rfl) rfl
theorem q1134 : (Jvm.Cond.fieldLink "NineDemands$Cases" (21 : Nat) "NineDemands$Cases" "goes" "[I") ∈ lw_all := lw_g (lw_at lw_m5 84 rfl) rfl
theorem q1137 : (Jvm.Cond.fieldLink "NineDemands$Cases" (24 : Nat) "NineDemands$Cases" "many" "I") ∈ lw_all := lw_g (lw_at lw_m5 87 rfl) rfl
theorem q1143 : (Jvm.Cond.laysFinal "NineDemands$Cases" "NineDemands$Cases" "first" "[I") ∈ lw_all := lw_g (lw_at lw_m5 93 rfl) rfl
theorem q1144 : (Jvm.Cond.soleField "NineDemands$Cases" "first") ∈ lw_all := lw_g (lw_at lw_m5 94 rfl) rfl
theorem q1145 : (Jvm.Cond.laysFinal "NineDemands$Cases" "NineDemands$Cases" "second" "[I") ∈ lw_all := lw_g (lw_at lw_m5 95 rfl) rfl
theorem q1146 : (Jvm.Cond.soleField "NineDemands$Cases" "second") ∈ lw_all := lw_g (lw_at lw_m5 96 rfl) rfl
theorem q1147 : (Jvm.Cond.laysFinal "NineDemands$Cases" "NineDemands$Cases" "who" "[I") ∈ lw_all := lw_g (lw_at lw_m5 97 rfl) rfl
theorem q1148 : (Jvm.Cond.soleField "NineDemands$Cases" "who") ∈ lw_all := lw_g (lw_at lw_m5 98 rfl) rfl
theorem q1149 : (Jvm.Cond.laysFinal "NineDemands$Cases" "NineDemands$Cases" "goes" "[I") ∈ lw_all := lw_g (lw_at lw_m5 99 rfl) rfl
theorem q1150 : (Jvm.Cond.soleField "NineDemands$Cases" "goes") ∈ lw_all := lw_g (lw_at lw_m5 100 rfl) rfl
theorem q1151 : (Jvm.Cond.lays "NineDemands$Cases" "NineDemands$Cases" "many" "I") ∈ lw_all := lw_g (lw_at lw_m5 101 rfl) rfl
theorem q1152 : (Jvm.Cond.soleField "NineDemands$Cases" "many") ∈ lw_all := lw_g (lw_at lw_m5 102 rfl) rfl
theorem q1153 : (Jvm.Cond.superclass "NineDemands$Cases" "java/lang/Object") ∈ lw_all := lw_g (lw_at lw_m5 103 rfl) rfl
theorem q1169 : (Jvm.Cond.instanceMethod ({ cls := "NineDemands$Cases", name := "add", desc := "(III)V" } : Jvm.MethodName)) ∈ lw_all := lw_g (lw_at lw_m5 119 rfl) rfl
theorem q1170 : (Jvm.Cond.selects "NineDemands$Cases" ({ cls := "NineDemands$Cases", name := "add", desc := "(III)V" } : Jvm.MethodName) ({ cls := "NineDemands$Cases", name := "add", desc := "(III)V" } : Jvm.MethodName)) ∈ lw_all := lw_g (lw_at lw_m5 120 rfl) rfl
theorem q1171 : (Jvm.Cond.code ({ cls := "NineDemands$Cases", name := "add", desc := "(III)V" } : Jvm.MethodName) prog_6_method_2_code (4 : Nat) (Option.none : Option Jvm.ClassFile.FieldType)) ∈ lw_all := lw_g (lw_at lw_m5 121 rfl) rfl
theorem q1286 : (Jvm.Cond.selects "NineDemands$Cases" ({ cls := "java/lang/Object", name := "getClass", desc := "()Ljava/lang/Class;" } : Jvm.MethodName) ({ cls := "java/lang/Object", name := "getClass", desc := "()Ljava/lang/Class;" } : Jvm.MethodName)) ∈ lw_all := lw_g (lw_at lw_m5 236 rfl) rfl
theorem q1381 : (Jvm.Cond.instanceMethod ({ cls := "NineDemands$Cases", name := "isPair", desc := "(I)Z" } : Jvm.MethodName)) ∈ lw_all := lw_g (lw_at lw_m6 91 rfl) rfl
theorem q1382 : (Jvm.Cond.selects "NineDemands$Cases" ({ cls := "NineDemands$Cases", name := "isPair", desc := "(I)Z" } : Jvm.MethodName) ({ cls := "NineDemands$Cases", name := "isPair", desc := "(I)Z" } : Jvm.MethodName)) ∈ lw_all := lw_g (lw_at lw_m6 92 rfl) rfl
theorem q1383 : (Jvm.Cond.code ({ cls := "NineDemands$Cases", name := "isPair", desc := "(I)Z" } : Jvm.MethodName) prog_6_method_3_code (2 : Nat) (Option.some Jvm.ClassFile.FieldType.boolean)) ∈ lw_all := lw_g (lw_at lw_m6 93 rfl) rfl
theorem q2547 : (Jvm.Cond.castable "NineDemands$Cases" "java/lang/Object") ∈ lw_tbl := lw_at lw_m11 57 rfl
theorem in_X23 : ∀ w ∈ wsX230, w ∈ lw_all := lw_in wsX230 [1143, 1145, 1147, 1149, 1151] (by decide +kernel) (by decide +kernel)
/-! NineDemands$Sheet -/
set_option maxRecDepth 100000
def RX24 : String := "NineDemands$Sheet"
abbrev cX24_init : ByteArray := prog_18_method_1_code
def yX24_init : MethodName := ⟨RX24, "<init>", "()V"⟩
theorem dX24_init_0 : decode cX24_init 0 = .ok (.aload_n 0, 1) := by decide +kernel
theorem dX24_init_1 : decode cX24_init 1 = .ok (.invokespecial 1, 3) := by decide +kernel
theorem dX24_init_4 : decode cX24_init 4 = .ok (.return_, 1) := by decide +kernel
abbrev cX24_row : ByteArray := prog_18_method_6_code
def yX24_row : MethodName := ⟨RX24, "row", "()[I"⟩
def dkwX24_row_1 : List UInt8 := [132, 2, 1, 167, 255, 239, 43, 176]
abbrev dktX24_row_1 : List UInt8 := dkwX24_row_1 ++ []
def dkwX24_row_0 : List UInt8 := [42, 182, 0, 7, 188, 10, 76, 3, 61, 28, 43, 190, 162, 0, 17, 43, 28, 42, 28, 182, 0, 13, 79]
abbrev dktX24_row_0 : List UInt8 := dkwX24_row_0 ++ dktX24_row_1
theorem dksX24_row_0 : cX24_row.data.toList.drop 0 = dktX24_row_0 := by decide +kernel
theorem dksX24_row_1 : cX24_row.data.toList.drop 23 = dktX24_row_1 := dk_seg dksX24_row_0 23 rfl rfl
theorem dX24_row_0 : decode cX24_row 0 = .ok (.aload_n 0, 1) := dk_42 (dk_at dksX24_row_0 0 rfl rfl)
theorem dX24_row_1 : decode cX24_row 1 = .ok (.invokevirtual 7, 3) := dk_182 0 7 (dk_at dksX24_row_0 1 rfl rfl)
theorem dX24_row_4 : decode cX24_row 4 = .ok (.newarray .int, 2) := dk_188_10 (dk_at dksX24_row_0 4 rfl rfl)
theorem dX24_row_6 : decode cX24_row 6 = .ok (.astore_n 1, 1) := dk_76 (dk_at dksX24_row_0 6 rfl rfl)
theorem dX24_row_7 : decode cX24_row 7 = .ok (.iconst 0, 1) := dk_3 (dk_at dksX24_row_0 7 rfl rfl)
theorem dX24_row_8 : decode cX24_row 8 = .ok (.istore_n 2, 1) := dk_61 (dk_at dksX24_row_0 8 rfl rfl)
theorem dX24_row_9 : decode cX24_row 9 = .ok (.iload_n 2, 1) := dk_28 (dk_at dksX24_row_0 9 rfl rfl)
theorem dX24_row_10 : decode cX24_row 10 = .ok (.aload_n 1, 1) := dk_43 (dk_at dksX24_row_0 10 rfl rfl)
theorem dX24_row_11 : decode cX24_row 11 = .ok (.arraylength, 1) := dk_190 (dk_at dksX24_row_0 11 rfl rfl)
theorem dX24_row_12 : decode cX24_row 12 = .ok (.if_icmp .ge 17, 3) := dk_162 0 17 (dk_at dksX24_row_0 12 rfl rfl)
theorem dX24_row_15 : decode cX24_row 15 = .ok (.aload_n 1, 1) := dk_43 (dk_at dksX24_row_0 15 rfl rfl)
theorem dX24_row_16 : decode cX24_row 16 = .ok (.iload_n 2, 1) := dk_28 (dk_at dksX24_row_0 16 rfl rfl)
theorem dX24_row_17 : decode cX24_row 17 = .ok (.aload_n 0, 1) := dk_42 (dk_at dksX24_row_0 17 rfl rfl)
theorem dX24_row_18 : decode cX24_row 18 = .ok (.iload_n 2, 1) := dk_28 (dk_at dksX24_row_0 18 rfl rfl)
theorem dX24_row_19 : decode cX24_row 19 = .ok (.invokevirtual 13, 3) := dk_182 0 13 (dk_at dksX24_row_0 19 rfl rfl)
theorem dX24_row_22 : decode cX24_row 22 = .ok (.iastore, 1) := dk_79 (dk_at dksX24_row_0 22 rfl rfl)
theorem dX24_row_23 : decode cX24_row 23 = .ok (.iinc 2 1, 3) := dk_132 2 1 (dk_at dksX24_row_1 0 rfl rfl)
theorem dX24_row_26 : decode cX24_row 26 = .ok (.goto (-17), 3) := dk_167 255 239 (dk_at dksX24_row_1 3 rfl rfl)
theorem dX24_row_29 : decode cX24_row 29 = .ok (.aload_n 1, 1) := dk_43 (dk_at dksX24_row_1 6 rfl rfl)
theorem dX24_row_30 : decode cX24_row 30 = .ok (.areturn, 1) := dk_176 (dk_at dksX24_row_1 7 rfl rfl)
theorem q134 : (Jvm.Cond.initialized "NineDemands$Sheet") ∈ lw_all := lw_g (lw_at lw_m1 44 rfl) rfl
theorem q469 : (Jvm.Cond.declares ({ cls := "NineDemands$Sheet", name := "size", desc := "()I" } : Jvm.MethodName)) ∈ lw_tbl := lw_at lw_m2 139 rfl
theorem q470 : (Jvm.Cond.sameMethod "NineDemands$Sheet" "NineDemands$Sheet" "size" "()I") ∈ lw_all := lw_g (lw_at lw_m2 140 rfl) rfl
theorem q484 : (Jvm.Cond.declares ({ cls := "NineDemands$Sheet", name := "get", desc := "(I)I" } : Jvm.MethodName)) ∈ lw_tbl := lw_at lw_m2 154 rfl
theorem q485 : (Jvm.Cond.sameMethod "NineDemands$Sheet" "NineDemands$Sheet" "get" "(I)I") ∈ lw_all := lw_g (lw_at lw_m2 155 rfl) rfl
theorem q1834 : (Jvm.Cond.instanceMethod ({ cls := "NineDemands$Sheet", name := "<init>", desc := "()V" } : Jvm.MethodName)) ∈ lw_all := lw_g (lw_at lw_m8 64 rfl) rfl
theorem q1835 : (Jvm.Cond.code ({ cls := "NineDemands$Sheet", name := "<init>", desc := "()V" } : Jvm.MethodName) prog_18_method_1_code (1 : Nat) (Option.none : Option Jvm.ClassFile.FieldType)) ∈ lw_all := lw_g (lw_at lw_m8 65 rfl) rfl
theorem q1836 : (Jvm.Cond.methodLink "NineDemands$Sheet" (1 : Nat) ({ cls := "java/lang/Object", name := "<init>", desc := "()V" } : Jvm.MethodName)) ∈ lw_all := lw_g (lw_at lw_m8 66 rfl) rfl
theorem q1867 : (Jvm.Cond.declares ({ cls := "NineDemands$Sheet", name := "put", desc := "(II)V" } : Jvm.MethodName)) ∈ lw_tbl := lw_at lw_m8 97 rfl
theorem q1868 : (Jvm.Cond.sameMethod "NineDemands$Sheet" "NineDemands$Sheet" "put" "(II)V") ∈ lw_all := lw_g (lw_at lw_m8 98 rfl) rfl
theorem q1883 : (Jvm.Cond.declares ({ cls := "NineDemands$Sheet", name := "width", desc := "()I" } : Jvm.MethodName)) ∈ lw_tbl := lw_at lw_m8 113 rfl
theorem q1884 : (Jvm.Cond.sameMethod "NineDemands$Sheet" "NineDemands$Sheet" "width" "()I") ∈ lw_all := lw_g (lw_at lw_m8 114 rfl) rfl
theorem q1895 : (Jvm.Cond.instanceMethod ({ cls := "NineDemands$Sheet", name := "row", desc := "()[I" } : Jvm.MethodName)) ∈ lw_all := lw_g (lw_at lw_m8 125 rfl) rfl
theorem q1896 : (Jvm.Cond.sameMethod "NineDemands$Sheet" "NineDemands$Sheet" "row" "()[I") ∈ lw_all := lw_g (lw_at lw_m8 126 rfl) rfl
theorem q1900 : (Jvm.Cond.code ({ cls := "NineDemands$Sheet", name := "row", desc := "()[I" } : Jvm.MethodName) prog_18_method_6_code (3 : Nat) (Option.some (Jvm.ClassFile.FieldType.array Jvm.ClassFile.FieldType.int))) ∈ lw_all := lw_g (lw_at lw_m8 130 rfl) rfl
theorem q1901 : (Jvm.Cond.methodLink "NineDemands$Sheet" (7 : Nat) ({ cls := "NineDemands$Sheet", name := "size", desc := "()I" } : Jvm.MethodName)) ∈ lw_all := lw_g (lw_at lw_m8 131 rfl) rfl
theorem q1902 : (Jvm.Cond.methodLink "NineDemands$Sheet" (13 : Nat) ({ cls := "NineDemands$Sheet", name := "get", desc := "(I)I" } : Jvm.MethodName)) ∈ lw_all := lw_g (lw_at lw_m8 132 rfl) rfl
/-! NineDemands$Bytes -/
set_option maxRecDepth 100000
def RX25 : String := "NineDemands$Bytes"
def TX25 : u_T := fun k => match k with
  | _ => ("NineDemands$Bytes", "row", "[B", true)
def tyX25 : Nat → FieldType := fun k => match k with
  | _ => .array .byte
abbrev wsX250 : List Cond := u_ws RX25 TX25 1
theorem nmX25 : ∀ a, a < 1 → ∀ b, b < 1 → a ≠ b → (TX25 a).2.1 ≠ (TX25 b).2.1 := by decide +kernel
theorem tyX25_ok : ∀ k, k < 1 → parseFieldDescriptor (TX25 k).2.2.1 = some (tyX25 k) := by decide +kernel
abbrev cX25_size : ByteArray := prog_5_method_2_code
def yX25_size : MethodName := ⟨RX25, "size", "()I"⟩
def dkwX25_size_0 : List UInt8 := [42, 180, 0, 7, 190, 172]
abbrev dktX25_size_0 : List UInt8 := dkwX25_size_0 ++ []
theorem dksX25_size_0 : cX25_size.data.toList.drop 0 = dktX25_size_0 := by decide +kernel
theorem dX25_size_0 : decode cX25_size 0 = .ok (.aload_n 0, 1) := dk_42 (dk_at dksX25_size_0 0 rfl rfl)
theorem dX25_size_1 : decode cX25_size 1 = .ok (.getfield 7, 3) := dk_180 0 7 (dk_at dksX25_size_0 1 rfl rfl)
theorem dX25_size_4 : decode cX25_size 4 = .ok (.arraylength, 1) := dk_190 (dk_at dksX25_size_0 4 rfl rfl)
theorem dX25_size_5 : decode cX25_size 5 = .ok (.ireturn, 1) := dk_172 (dk_at dksX25_size_0 5 rfl rfl)
abbrev cX25_get : ByteArray := prog_5_method_3_code
def yX25_get : MethodName := ⟨RX25, "get", "(I)I"⟩
def dkwX25_get_0 : List UInt8 := [42, 180, 0, 7, 27, 51, 172]
abbrev dktX25_get_0 : List UInt8 := dkwX25_get_0 ++ []
theorem dksX25_get_0 : cX25_get.data.toList.drop 0 = dktX25_get_0 := by decide +kernel
theorem dX25_get_0 : decode cX25_get 0 = .ok (.aload_n 0, 1) := dk_42 (dk_at dksX25_get_0 0 rfl rfl)
theorem dX25_get_1 : decode cX25_get 1 = .ok (.getfield 7, 3) := dk_180 0 7 (dk_at dksX25_get_0 1 rfl rfl)
theorem dX25_get_4 : decode cX25_get 4 = .ok (.iload_n 1, 1) := dk_27 (dk_at dksX25_get_0 4 rfl rfl)
theorem dX25_get_5 : decode cX25_get 5 = .ok (.baload, 1) := dk_51 (dk_at dksX25_get_0 5 rfl rfl)
theorem dX25_get_6 : decode cX25_get 6 = .ok (.ireturn, 1) := dk_172 (dk_at dksX25_get_0 6 rfl rfl)
abbrev cX25_init : ByteArray := prog_5_method_1_code
def yX25_init : MethodName := ⟨RX25, "<init>", "(I)V"⟩
def dkwX25_init_0 : List UInt8 := [42, 183, 0, 1, 42, 27, 188, 8, 181, 0, 7, 177]
abbrev dktX25_init_0 : List UInt8 := dkwX25_init_0 ++ []
theorem dksX25_init_0 : cX25_init.data.toList.drop 0 = dktX25_init_0 := by decide +kernel
theorem dX25_init_0 : decode cX25_init 0 = .ok (.aload_n 0, 1) := dk_42 (dk_at dksX25_init_0 0 rfl rfl)
theorem dX25_init_1 : decode cX25_init 1 = .ok (.invokespecial 1, 3) := dk_183 0 1 (dk_at dksX25_init_0 1 rfl rfl)
theorem dX25_init_4 : decode cX25_init 4 = .ok (.aload_n 0, 1) := dk_42 (dk_at dksX25_init_0 4 rfl rfl)
theorem dX25_init_5 : decode cX25_init 5 = .ok (.iload_n 1, 1) := dk_27 (dk_at dksX25_init_0 5 rfl rfl)
theorem dX25_init_6 : decode cX25_init 6 = .ok (.newarray .byte, 2) := dk_188_8 (dk_at dksX25_init_0 6 rfl rfl)
theorem dX25_init_8 : decode cX25_init 8 = .ok (.putfield 7, 3) := dk_181 0 7 (dk_at dksX25_init_0 8 rfl rfl)
theorem dX25_init_11 : decode cX25_init 11 = .ok (.return_, 1) := dk_177 (dk_at dksX25_init_0 11 rfl rfl)
abbrev cX25_put : ByteArray := prog_5_method_4_code
def yX25_put : MethodName := ⟨RX25, "put", "(II)V"⟩
def dkwX25_put_0 : List UInt8 := [42, 180, 0, 7, 27, 28, 145, 84, 177]
abbrev dktX25_put_0 : List UInt8 := dkwX25_put_0 ++ []
theorem dksX25_put_0 : cX25_put.data.toList.drop 0 = dktX25_put_0 := by decide +kernel
theorem dX25_put_0 : decode cX25_put 0 = .ok (.aload_n 0, 1) := dk_42 (dk_at dksX25_put_0 0 rfl rfl)
theorem dX25_put_1 : decode cX25_put 1 = .ok (.getfield 7, 3) := dk_180 0 7 (dk_at dksX25_put_0 1 rfl rfl)
theorem dX25_put_4 : decode cX25_put 4 = .ok (.iload_n 1, 1) := dk_27 (dk_at dksX25_put_0 4 rfl rfl)
theorem dX25_put_5 : decode cX25_put 5 = .ok (.iload_n 2, 1) := dk_28 (dk_at dksX25_put_0 5 rfl rfl)
theorem dX25_put_6 : decode cX25_put 6 = .ok (.i2b, 1) := dk_145 (dk_at dksX25_put_0 6 rfl rfl)
theorem dX25_put_7 : decode cX25_put 7 = .ok (.bastore, 1) := dk_84 (dk_at dksX25_put_0 7 rfl rfl)
theorem dX25_put_8 : decode cX25_put 8 = .ok (.return_, 1) := dk_177 (dk_at dksX25_put_0 8 rfl rfl)
abbrev cX25_width : ByteArray := prog_5_method_5_code
def yX25_width : MethodName := ⟨RX25, "width", "()I"⟩
theorem dX25_width_0 : decode cX25_width 0 = .ok (.bipush 8, 2) := by decide +kernel
theorem dX25_width_2 : decode cX25_width 2 = .ok (.ireturn, 1) := by decide +kernel
theorem q135 : (Jvm.Cond.initialized "NineDemands$Bytes") ∈ lw_all := lw_g (lw_at lw_m1 45 rfl) rfl
theorem q471 : (Jvm.Cond.selects "NineDemands$Bytes" ({ cls := "NineDemands$Sheet", name := "size", desc := "()I" } : Jvm.MethodName) ({ cls := "NineDemands$Bytes", name := "size", desc := "()I" } : Jvm.MethodName)) ∈ lw_all := lw_g (lw_at lw_m2 141 rfl) rfl
theorem q472 : (Jvm.Cond.instanceMethod ({ cls := "NineDemands$Bytes", name := "size", desc := "()I" } : Jvm.MethodName)) ∈ lw_all := lw_g (lw_at lw_m2 142 rfl) rfl
theorem q473 : (Jvm.Cond.code ({ cls := "NineDemands$Bytes", name := "size", desc := "()I" } : Jvm.MethodName) prog_5_method_2_code (1 : Nat) (Option.some Jvm.ClassFile.FieldType.int)) ∈ lw_all := lw_g (lw_at lw_m2 143 rfl) rfl
theorem q486 : (Jvm.Cond.selects "NineDemands$Bytes" ({ cls := "NineDemands$Sheet", name := "get", desc := "(I)I" } : Jvm.MethodName) ({ cls := "NineDemands$Bytes", name := "get", desc := "(I)I" } : Jvm.MethodName)) ∈ lw_all := lw_g (lw_at lw_m2 156 rfl) rfl
theorem q487 : (Jvm.Cond.instanceMethod ({ cls := "NineDemands$Bytes", name := "get", desc := "(I)I" } : Jvm.MethodName)) ∈ lw_all := lw_g (lw_at lw_m2 157 rfl) rfl
theorem q488 : (Jvm.Cond.code ({ cls := "NineDemands$Bytes", name := "get", desc := "(I)I" } : Jvm.MethodName) prog_5_method_3_code (2 : Nat) (Option.some Jvm.ClassFile.FieldType.int)) ∈ lw_all := lw_g (lw_at lw_m2 158 rfl) rfl
theorem q1285 : (Jvm.Cond.selects "NineDemands$Bytes" ({ cls := "java/lang/Object", name := "getClass", desc := "()Ljava/lang/Class;" } : Jvm.MethodName) ({ cls := "java/lang/Object", name := "getClass", desc := "()Ljava/lang/Class;" } : Jvm.MethodName)) ∈ lw_all := lw_g (lw_at lw_m5 235 rfl) rfl
theorem q1829 : (Jvm.Cond.instantiable "NineDemands$Bytes" (1 : Nat)) ∈ lw_all := lw_g (lw_at lw_m8 59 rfl) rfl
theorem q1831 : (Jvm.Cond.instanceMethod ({ cls := "NineDemands$Bytes", name := "<init>", desc := "(I)V" } : Jvm.MethodName)) ∈ lw_all := lw_g (lw_at lw_m8 61 rfl) rfl
theorem q1832 : (Jvm.Cond.code ({ cls := "NineDemands$Bytes", name := "<init>", desc := "(I)V" } : Jvm.MethodName) prog_5_method_1_code (2 : Nat) (Option.none : Option Jvm.ClassFile.FieldType)) ∈ lw_all := lw_g (lw_at lw_m8 62 rfl) rfl
theorem q1833 : (Jvm.Cond.methodLinkNest "NineDemands$Bytes" (1 : Nat) ({ cls := "NineDemands$Sheet", name := "<init>", desc := "()V" } : Jvm.MethodName) "NineDemands") ∈ lw_tbl := lw_at lw_m8 63 rfl
theorem q1837 : (Jvm.Cond.fieldLink "NineDemands$Bytes" (7 : Nat) "NineDemands$Bytes" "row" "[B") ∈ lw_all := lw_g (lw_at lw_m8 67 rfl) rfl
theorem q1838 : (Jvm.Cond.laysFinal "NineDemands$Bytes" "NineDemands$Bytes" "row" "[B") ∈ lw_all := lw_g (lw_at lw_m8 68 rfl) rfl
theorem q1839 : (Jvm.Cond.soleField "NineDemands$Bytes" "row") ∈ lw_all := lw_g (lw_at lw_m8 69 rfl) rfl
theorem q1840 : (Jvm.Cond.superclass "NineDemands$Bytes" "NineDemands$Sheet") ∈ lw_all := lw_g (lw_at lw_m8 70 rfl) rfl
theorem q1869 : (Jvm.Cond.selects "NineDemands$Bytes" ({ cls := "NineDemands$Sheet", name := "put", desc := "(II)V" } : Jvm.MethodName) ({ cls := "NineDemands$Bytes", name := "put", desc := "(II)V" } : Jvm.MethodName)) ∈ lw_all := lw_g (lw_at lw_m8 99 rfl) rfl
theorem q1870 : (Jvm.Cond.instanceMethod ({ cls := "NineDemands$Bytes", name := "put", desc := "(II)V" } : Jvm.MethodName)) ∈ lw_all := lw_g (lw_at lw_m8 100 rfl) rfl
theorem q1871 : (Jvm.Cond.code ({ cls := "NineDemands$Bytes", name := "put", desc := "(II)V" } : Jvm.MethodName) prog_5_method_4_code (3 : Nat) (Option.none : Option Jvm.ClassFile.FieldType)) ∈ lw_all := lw_g (lw_at lw_m8 101 rfl) rfl
theorem q1885 : (Jvm.Cond.selects "NineDemands$Bytes" ({ cls := "NineDemands$Sheet", name := "width", desc := "()I" } : Jvm.MethodName) ({ cls := "NineDemands$Bytes", name := "width", desc := "()I" } : Jvm.MethodName)) ∈ lw_all := lw_g (lw_at lw_m8 115 rfl) rfl
theorem q1886 : (Jvm.Cond.instanceMethod ({ cls := "NineDemands$Bytes", name := "width", desc := "()I" } : Jvm.MethodName)) ∈ lw_all := lw_g (lw_at lw_m8 116 rfl) rfl
theorem q1887 : (Jvm.Cond.code ({ cls := "NineDemands$Bytes", name := "width", desc := "()I" } : Jvm.MethodName) prog_5_method_5_code (1 : Nat) (Option.some Jvm.ClassFile.FieldType.int)) ∈ lw_all := lw_g (lw_at lw_m8 117 rfl) rfl
theorem q1897 : (Jvm.Cond.selects "NineDemands$Bytes" ({ cls := "NineDemands$Sheet", name := "row", desc := "()[I" } : Jvm.MethodName) ({ cls := "NineDemands$Sheet", name := "row", desc := "()[I" } : Jvm.MethodName)) ∈ lw_all := lw_g (lw_at lw_m8 127 rfl) rfl
theorem q2514 : (Jvm.Cond.castable "NineDemands$Bytes" "NineDemands$Sheet") ∈ lw_tbl := lw_at lw_m11 24 rfl
theorem q2548 : (Jvm.Cond.castable "NineDemands$Bytes" "java/lang/Object") ∈ lw_tbl := lw_at lw_m11 58 rfl
theorem in_X25 : ∀ w ∈ wsX250, w ∈ lw_all := lw_in wsX250 [1838] (by decide +kernel) (by decide +kernel)
/-! NineDemands$Shorts -/
set_option maxRecDepth 100000
def RX26 : String := "NineDemands$Shorts"
def TX26 : u_T := fun k => match k with
  | _ => ("NineDemands$Shorts", "row", "[S", true)
def tyX26 : Nat → FieldType := fun k => match k with
  | _ => .array .short
abbrev wsX260 : List Cond := u_ws RX26 TX26 1
theorem nmX26 : ∀ a, a < 1 → ∀ b, b < 1 → a ≠ b → (TX26 a).2.1 ≠ (TX26 b).2.1 := by decide +kernel
theorem tyX26_ok : ∀ k, k < 1 → parseFieldDescriptor (TX26 k).2.2.1 = some (tyX26 k) := by decide +kernel
abbrev cX26_size : ByteArray := prog_20_method_2_code
def yX26_size : MethodName := ⟨RX26, "size", "()I"⟩
def dkwX26_size_0 : List UInt8 := [42, 180, 0, 7, 190, 172]
abbrev dktX26_size_0 : List UInt8 := dkwX26_size_0 ++ []
theorem dksX26_size_0 : cX26_size.data.toList.drop 0 = dktX26_size_0 := by decide +kernel
theorem dX26_size_0 : decode cX26_size 0 = .ok (.aload_n 0, 1) := dk_42 (dk_at dksX26_size_0 0 rfl rfl)
theorem dX26_size_1 : decode cX26_size 1 = .ok (.getfield 7, 3) := dk_180 0 7 (dk_at dksX26_size_0 1 rfl rfl)
theorem dX26_size_4 : decode cX26_size 4 = .ok (.arraylength, 1) := dk_190 (dk_at dksX26_size_0 4 rfl rfl)
theorem dX26_size_5 : decode cX26_size 5 = .ok (.ireturn, 1) := dk_172 (dk_at dksX26_size_0 5 rfl rfl)
abbrev cX26_get : ByteArray := prog_20_method_3_code
def yX26_get : MethodName := ⟨RX26, "get", "(I)I"⟩
def dkwX26_get_0 : List UInt8 := [42, 180, 0, 7, 27, 53, 172]
abbrev dktX26_get_0 : List UInt8 := dkwX26_get_0 ++ []
theorem dksX26_get_0 : cX26_get.data.toList.drop 0 = dktX26_get_0 := by decide +kernel
theorem dX26_get_0 : decode cX26_get 0 = .ok (.aload_n 0, 1) := dk_42 (dk_at dksX26_get_0 0 rfl rfl)
theorem dX26_get_1 : decode cX26_get 1 = .ok (.getfield 7, 3) := dk_180 0 7 (dk_at dksX26_get_0 1 rfl rfl)
theorem dX26_get_4 : decode cX26_get 4 = .ok (.iload_n 1, 1) := dk_27 (dk_at dksX26_get_0 4 rfl rfl)
theorem dX26_get_5 : decode cX26_get 5 = .ok (.saload, 1) := dk_53 (dk_at dksX26_get_0 5 rfl rfl)
theorem dX26_get_6 : decode cX26_get 6 = .ok (.ireturn, 1) := dk_172 (dk_at dksX26_get_0 6 rfl rfl)
abbrev cX26_init : ByteArray := prog_20_method_1_code
def yX26_init : MethodName := ⟨RX26, "<init>", "(I)V"⟩
def dkwX26_init_0 : List UInt8 := [42, 183, 0, 1, 42, 27, 188, 9, 181, 0, 7, 177]
abbrev dktX26_init_0 : List UInt8 := dkwX26_init_0 ++ []
theorem dksX26_init_0 : cX26_init.data.toList.drop 0 = dktX26_init_0 := by decide +kernel
theorem dX26_init_0 : decode cX26_init 0 = .ok (.aload_n 0, 1) := dk_42 (dk_at dksX26_init_0 0 rfl rfl)
theorem dX26_init_1 : decode cX26_init 1 = .ok (.invokespecial 1, 3) := dk_183 0 1 (dk_at dksX26_init_0 1 rfl rfl)
theorem dX26_init_4 : decode cX26_init 4 = .ok (.aload_n 0, 1) := dk_42 (dk_at dksX26_init_0 4 rfl rfl)
theorem dX26_init_5 : decode cX26_init 5 = .ok (.iload_n 1, 1) := dk_27 (dk_at dksX26_init_0 5 rfl rfl)
theorem dX26_init_6 : decode cX26_init 6 = .ok (.newarray .short, 2) := dk_188_9 (dk_at dksX26_init_0 6 rfl rfl)
theorem dX26_init_8 : decode cX26_init 8 = .ok (.putfield 7, 3) := dk_181 0 7 (dk_at dksX26_init_0 8 rfl rfl)
theorem dX26_init_11 : decode cX26_init 11 = .ok (.return_, 1) := dk_177 (dk_at dksX26_init_0 11 rfl rfl)
abbrev cX26_put : ByteArray := prog_20_method_4_code
def yX26_put : MethodName := ⟨RX26, "put", "(II)V"⟩
def dkwX26_put_0 : List UInt8 := [42, 180, 0, 7, 27, 28, 147, 86, 177]
abbrev dktX26_put_0 : List UInt8 := dkwX26_put_0 ++ []
theorem dksX26_put_0 : cX26_put.data.toList.drop 0 = dktX26_put_0 := by decide +kernel
theorem dX26_put_0 : decode cX26_put 0 = .ok (.aload_n 0, 1) := dk_42 (dk_at dksX26_put_0 0 rfl rfl)
theorem dX26_put_1 : decode cX26_put 1 = .ok (.getfield 7, 3) := dk_180 0 7 (dk_at dksX26_put_0 1 rfl rfl)
theorem dX26_put_4 : decode cX26_put 4 = .ok (.iload_n 1, 1) := dk_27 (dk_at dksX26_put_0 4 rfl rfl)
theorem dX26_put_5 : decode cX26_put 5 = .ok (.iload_n 2, 1) := dk_28 (dk_at dksX26_put_0 5 rfl rfl)
theorem dX26_put_6 : decode cX26_put 6 = .ok (.i2s, 1) := dk_147 (dk_at dksX26_put_0 6 rfl rfl)
theorem dX26_put_7 : decode cX26_put 7 = .ok (.sastore, 1) := dk_86 (dk_at dksX26_put_0 7 rfl rfl)
theorem dX26_put_8 : decode cX26_put 8 = .ok (.return_, 1) := dk_177 (dk_at dksX26_put_0 8 rfl rfl)
abbrev cX26_width : ByteArray := prog_20_method_5_code
def yX26_width : MethodName := ⟨RX26, "width", "()I"⟩
theorem dX26_width_0 : decode cX26_width 0 = .ok (.bipush 16, 2) := by decide +kernel
theorem dX26_width_2 : decode cX26_width 2 = .ok (.ireturn, 1) := by decide +kernel
theorem q136 : (Jvm.Cond.initialized "NineDemands$Shorts") ∈ lw_all := lw_g (lw_at lw_m1 46 rfl) rfl
theorem q477 : (Jvm.Cond.selects "NineDemands$Shorts" ({ cls := "NineDemands$Sheet", name := "size", desc := "()I" } : Jvm.MethodName) ({ cls := "NineDemands$Shorts", name := "size", desc := "()I" } : Jvm.MethodName)) ∈ lw_all := lw_g (lw_at lw_m2 147 rfl) rfl
theorem q478 : (Jvm.Cond.instanceMethod ({ cls := "NineDemands$Shorts", name := "size", desc := "()I" } : Jvm.MethodName)) ∈ lw_all := lw_g (lw_at lw_m2 148 rfl) rfl
theorem q479 : (Jvm.Cond.code ({ cls := "NineDemands$Shorts", name := "size", desc := "()I" } : Jvm.MethodName) prog_20_method_2_code (1 : Nat) (Option.some Jvm.ClassFile.FieldType.int)) ∈ lw_all := lw_g (lw_at lw_m2 149 rfl) rfl
theorem q492 : (Jvm.Cond.selects "NineDemands$Shorts" ({ cls := "NineDemands$Sheet", name := "get", desc := "(I)I" } : Jvm.MethodName) ({ cls := "NineDemands$Shorts", name := "get", desc := "(I)I" } : Jvm.MethodName)) ∈ lw_all := lw_g (lw_at lw_m2 162 rfl) rfl
theorem q493 : (Jvm.Cond.instanceMethod ({ cls := "NineDemands$Shorts", name := "get", desc := "(I)I" } : Jvm.MethodName)) ∈ lw_all := lw_g (lw_at lw_m2 163 rfl) rfl
theorem q494 : (Jvm.Cond.code ({ cls := "NineDemands$Shorts", name := "get", desc := "(I)I" } : Jvm.MethodName) prog_20_method_3_code (2 : Nat) (Option.some Jvm.ClassFile.FieldType.int)) ∈ lw_all := lw_g (lw_at lw_m2 164 rfl) rfl
theorem q1299 : (Jvm.Cond.selects "NineDemands$Shorts" ({ cls := "java/lang/Object", name := "getClass", desc := "()Ljava/lang/Class;" } : Jvm.MethodName) ({ cls := "java/lang/Object", name := "getClass", desc := "()Ljava/lang/Class;" } : Jvm.MethodName)) ∈ lw_all := lw_g (lw_at lw_m6 9 rfl) rfl
theorem q1842 : (Jvm.Cond.instantiable "NineDemands$Shorts" (1 : Nat)) ∈ lw_all := lw_g (lw_at lw_m8 72 rfl) rfl
theorem q1844 : (Jvm.Cond.instanceMethod ({ cls := "NineDemands$Shorts", name := "<init>", desc := "(I)V" } : Jvm.MethodName)) ∈ lw_all := lw_g (lw_at lw_m8 74 rfl) rfl
theorem q1845 : (Jvm.Cond.code ({ cls := "NineDemands$Shorts", name := "<init>", desc := "(I)V" } : Jvm.MethodName) prog_20_method_1_code (2 : Nat) (Option.none : Option Jvm.ClassFile.FieldType)) ∈ lw_all := lw_g (lw_at lw_m8 75 rfl) rfl
theorem q1846 : (Jvm.Cond.methodLinkNest "NineDemands$Shorts" (1 : Nat) ({ cls := "NineDemands$Sheet", name := "<init>", desc := "()V" } : Jvm.MethodName) "NineDemands") ∈ lw_tbl := lw_at lw_m8 76 rfl
theorem q1847 : (Jvm.Cond.fieldLink "NineDemands$Shorts" (7 : Nat) "NineDemands$Shorts" "row" "[S") ∈ lw_all := lw_g (lw_at lw_m8 77 rfl) rfl
theorem q1848 : (Jvm.Cond.laysFinal "NineDemands$Shorts" "NineDemands$Shorts" "row" "[S") ∈ lw_all := lw_g (lw_at lw_m8 78 rfl) rfl
theorem q1849 : (Jvm.Cond.soleField "NineDemands$Shorts" "row") ∈ lw_all := lw_g (lw_at lw_m8 79 rfl) rfl
theorem q1850 : (Jvm.Cond.superclass "NineDemands$Shorts" "NineDemands$Sheet") ∈ lw_all := lw_g (lw_at lw_m8 80 rfl) rfl
theorem q1875 : (Jvm.Cond.selects "NineDemands$Shorts" ({ cls := "NineDemands$Sheet", name := "put", desc := "(II)V" } : Jvm.MethodName) ({ cls := "NineDemands$Shorts", name := "put", desc := "(II)V" } : Jvm.MethodName)) ∈ lw_all := lw_g (lw_at lw_m8 105 rfl) rfl
theorem q1876 : (Jvm.Cond.instanceMethod ({ cls := "NineDemands$Shorts", name := "put", desc := "(II)V" } : Jvm.MethodName)) ∈ lw_all := lw_g (lw_at lw_m8 106 rfl) rfl
theorem q1877 : (Jvm.Cond.code ({ cls := "NineDemands$Shorts", name := "put", desc := "(II)V" } : Jvm.MethodName) prog_20_method_4_code (3 : Nat) (Option.none : Option Jvm.ClassFile.FieldType)) ∈ lw_all := lw_g (lw_at lw_m8 107 rfl) rfl
theorem q1891 : (Jvm.Cond.selects "NineDemands$Shorts" ({ cls := "NineDemands$Sheet", name := "width", desc := "()I" } : Jvm.MethodName) ({ cls := "NineDemands$Shorts", name := "width", desc := "()I" } : Jvm.MethodName)) ∈ lw_all := lw_g (lw_at lw_m8 121 rfl) rfl
theorem q1892 : (Jvm.Cond.instanceMethod ({ cls := "NineDemands$Shorts", name := "width", desc := "()I" } : Jvm.MethodName)) ∈ lw_all := lw_g (lw_at lw_m8 122 rfl) rfl
theorem q1893 : (Jvm.Cond.code ({ cls := "NineDemands$Shorts", name := "width", desc := "()I" } : Jvm.MethodName) prog_20_method_5_code (1 : Nat) (Option.some Jvm.ClassFile.FieldType.int)) ∈ lw_all := lw_g (lw_at lw_m8 123 rfl) rfl
theorem q1899 : (Jvm.Cond.selects "NineDemands$Shorts" ({ cls := "NineDemands$Sheet", name := "row", desc := "()[I" } : Jvm.MethodName) ({ cls := "NineDemands$Sheet", name := "row", desc := "()[I" } : Jvm.MethodName)) ∈ lw_all := lw_g (lw_at lw_m8 129 rfl) rfl
theorem q2516 : (Jvm.Cond.castable "NineDemands$Shorts" "NineDemands$Sheet") ∈ lw_tbl := lw_at lw_m11 26 rfl
theorem q2549 : (Jvm.Cond.castable "NineDemands$Shorts" "java/lang/Object") ∈ lw_tbl := lw_at lw_m11 59 rfl
theorem in_X26 : ∀ w ∈ wsX260, w ∈ lw_all := lw_in wsX260 [1848] (by decide +kernel) (by decide +kernel)
/-! NineDemands$Ints -/
set_option maxRecDepth 100000
def RX27 : String := "NineDemands$Ints"
def TX27 : u_T := fun k => match k with
  | _ => ("NineDemands$Ints", "row", "[I", true)
def tyX27 : Nat → FieldType := fun k => match k with
  | _ => .array .int
abbrev wsX270 : List Cond := u_ws RX27 TX27 1
theorem nmX27 : ∀ a, a < 1 → ∀ b, b < 1 → a ≠ b → (TX27 a).2.1 ≠ (TX27 b).2.1 := by decide +kernel
theorem tyX27_ok : ∀ k, k < 1 → parseFieldDescriptor (TX27 k).2.2.1 = some (tyX27 k) := by decide +kernel
abbrev cX27_size : ByteArray := prog_13_method_2_code
def yX27_size : MethodName := ⟨RX27, "size", "()I"⟩
def dkwX27_size_0 : List UInt8 := [42, 180, 0, 7, 190, 172]
abbrev dktX27_size_0 : List UInt8 := dkwX27_size_0 ++ []
theorem dksX27_size_0 : cX27_size.data.toList.drop 0 = dktX27_size_0 := by decide +kernel
theorem dX27_size_0 : decode cX27_size 0 = .ok (.aload_n 0, 1) := dk_42 (dk_at dksX27_size_0 0 rfl rfl)
theorem dX27_size_1 : decode cX27_size 1 = .ok (.getfield 7, 3) := dk_180 0 7 (dk_at dksX27_size_0 1 rfl rfl)
theorem dX27_size_4 : decode cX27_size 4 = .ok (.arraylength, 1) := dk_190 (dk_at dksX27_size_0 4 rfl rfl)
theorem dX27_size_5 : decode cX27_size 5 = .ok (.ireturn, 1) := dk_172 (dk_at dksX27_size_0 5 rfl rfl)
abbrev cX27_get : ByteArray := prog_13_method_3_code
def yX27_get : MethodName := ⟨RX27, "get", "(I)I"⟩
def dkwX27_get_0 : List UInt8 := [42, 180, 0, 7, 27, 46, 172]
abbrev dktX27_get_0 : List UInt8 := dkwX27_get_0 ++ []
theorem dksX27_get_0 : cX27_get.data.toList.drop 0 = dktX27_get_0 := by decide +kernel
theorem dX27_get_0 : decode cX27_get 0 = .ok (.aload_n 0, 1) := dk_42 (dk_at dksX27_get_0 0 rfl rfl)
theorem dX27_get_1 : decode cX27_get 1 = .ok (.getfield 7, 3) := dk_180 0 7 (dk_at dksX27_get_0 1 rfl rfl)
theorem dX27_get_4 : decode cX27_get 4 = .ok (.iload_n 1, 1) := dk_27 (dk_at dksX27_get_0 4 rfl rfl)
theorem dX27_get_5 : decode cX27_get 5 = .ok (.iaload, 1) := dk_46 (dk_at dksX27_get_0 5 rfl rfl)
theorem dX27_get_6 : decode cX27_get 6 = .ok (.ireturn, 1) := dk_172 (dk_at dksX27_get_0 6 rfl rfl)
abbrev cX27_init : ByteArray := prog_13_method_1_code
def yX27_init : MethodName := ⟨RX27, "<init>", "(I)V"⟩
def dkwX27_init_0 : List UInt8 := [42, 183, 0, 1, 42, 27, 188, 10, 181, 0, 7, 177]
abbrev dktX27_init_0 : List UInt8 := dkwX27_init_0 ++ []
theorem dksX27_init_0 : cX27_init.data.toList.drop 0 = dktX27_init_0 := by decide +kernel
theorem dX27_init_0 : decode cX27_init 0 = .ok (.aload_n 0, 1) := dk_42 (dk_at dksX27_init_0 0 rfl rfl)
theorem dX27_init_1 : decode cX27_init 1 = .ok (.invokespecial 1, 3) := dk_183 0 1 (dk_at dksX27_init_0 1 rfl rfl)
theorem dX27_init_4 : decode cX27_init 4 = .ok (.aload_n 0, 1) := dk_42 (dk_at dksX27_init_0 4 rfl rfl)
theorem dX27_init_5 : decode cX27_init 5 = .ok (.iload_n 1, 1) := dk_27 (dk_at dksX27_init_0 5 rfl rfl)
theorem dX27_init_6 : decode cX27_init 6 = .ok (.newarray .int, 2) := dk_188_10 (dk_at dksX27_init_0 6 rfl rfl)
theorem dX27_init_8 : decode cX27_init 8 = .ok (.putfield 7, 3) := dk_181 0 7 (dk_at dksX27_init_0 8 rfl rfl)
theorem dX27_init_11 : decode cX27_init 11 = .ok (.return_, 1) := dk_177 (dk_at dksX27_init_0 11 rfl rfl)
abbrev cX27_put : ByteArray := prog_13_method_4_code
def yX27_put : MethodName := ⟨RX27, "put", "(II)V"⟩
def dkwX27_put_0 : List UInt8 := [42, 180, 0, 7, 27, 28, 79, 177]
abbrev dktX27_put_0 : List UInt8 := dkwX27_put_0 ++ []
theorem dksX27_put_0 : cX27_put.data.toList.drop 0 = dktX27_put_0 := by decide +kernel
theorem dX27_put_0 : decode cX27_put 0 = .ok (.aload_n 0, 1) := dk_42 (dk_at dksX27_put_0 0 rfl rfl)
theorem dX27_put_1 : decode cX27_put 1 = .ok (.getfield 7, 3) := dk_180 0 7 (dk_at dksX27_put_0 1 rfl rfl)
theorem dX27_put_4 : decode cX27_put 4 = .ok (.iload_n 1, 1) := dk_27 (dk_at dksX27_put_0 4 rfl rfl)
theorem dX27_put_5 : decode cX27_put 5 = .ok (.iload_n 2, 1) := dk_28 (dk_at dksX27_put_0 5 rfl rfl)
theorem dX27_put_6 : decode cX27_put 6 = .ok (.iastore, 1) := dk_79 (dk_at dksX27_put_0 6 rfl rfl)
theorem dX27_put_7 : decode cX27_put 7 = .ok (.return_, 1) := dk_177 (dk_at dksX27_put_0 7 rfl rfl)
abbrev cX27_width : ByteArray := prog_13_method_5_code
def yX27_width : MethodName := ⟨RX27, "width", "()I"⟩
theorem dX27_width_0 : decode cX27_width 0 = .ok (.bipush 32, 2) := by decide +kernel
theorem dX27_width_2 : decode cX27_width 2 = .ok (.ireturn, 1) := by decide +kernel
theorem q137 : (Jvm.Cond.initialized "NineDemands$Ints") ∈ lw_all := lw_g (lw_at lw_m1 47 rfl) rfl
theorem q474 : (Jvm.Cond.selects "NineDemands$Ints" ({ cls := "NineDemands$Sheet", name := "size", desc := "()I" } : Jvm.MethodName) ({ cls := "NineDemands$Ints", name := "size", desc := "()I" } : Jvm.MethodName)) ∈ lw_all := lw_g (lw_at lw_m2 144 rfl) rfl
theorem q475 : (Jvm.Cond.instanceMethod ({ cls := "NineDemands$Ints", name := "size", desc := "()I" } : Jvm.MethodName)) ∈ lw_all := lw_g (lw_at lw_m2 145 rfl) rfl
theorem q476 : (Jvm.Cond.code ({ cls := "NineDemands$Ints", name := "size", desc := "()I" } : Jvm.MethodName) prog_13_method_2_code (1 : Nat) (Option.some Jvm.ClassFile.FieldType.int)) ∈ lw_all := lw_g (lw_at lw_m2 146 rfl) rfl
theorem q489 : (Jvm.Cond.selects "NineDemands$Ints" ({ cls := "NineDemands$Sheet", name := "get", desc := "(I)I" } : Jvm.MethodName) ({ cls := "NineDemands$Ints", name := "get", desc := "(I)I" } : Jvm.MethodName)) ∈ lw_all := lw_g (lw_at lw_m2 159 rfl) rfl
theorem q490 : (Jvm.Cond.instanceMethod ({ cls := "NineDemands$Ints", name := "get", desc := "(I)I" } : Jvm.MethodName)) ∈ lw_all := lw_g (lw_at lw_m2 160 rfl) rfl
theorem q491 : (Jvm.Cond.code ({ cls := "NineDemands$Ints", name := "get", desc := "(I)I" } : Jvm.MethodName) prog_13_method_3_code (2 : Nat) (Option.some Jvm.ClassFile.FieldType.int)) ∈ lw_all := lw_g (lw_at lw_m2 161 rfl) rfl
theorem q1293 : (Jvm.Cond.selects "NineDemands$Ints" ({ cls := "java/lang/Object", name := "getClass", desc := "()Ljava/lang/Class;" } : Jvm.MethodName) ({ cls := "java/lang/Object", name := "getClass", desc := "()Ljava/lang/Class;" } : Jvm.MethodName)) ∈ lw_all := lw_g (lw_at lw_m6 3 rfl) rfl
theorem q1853 : (Jvm.Cond.instantiable "NineDemands$Ints" (1 : Nat)) ∈ lw_all := lw_g (lw_at lw_m8 83 rfl) rfl
theorem q1855 : (Jvm.Cond.instanceMethod ({ cls := "NineDemands$Ints", name := "<init>", desc := "(I)V" } : Jvm.MethodName)) ∈ lw_all := lw_g (lw_at lw_m8 85 rfl) rfl
theorem q1856 : (Jvm.Cond.code ({ cls := "NineDemands$Ints", name := "<init>", desc := "(I)V" } : Jvm.MethodName) prog_13_method_1_code (2 : Nat) (Option.none : Option Jvm.ClassFile.FieldType)) ∈ lw_all := lw_g (lw_at lw_m8 86 rfl) rfl
theorem q1857 : (Jvm.Cond.methodLinkNest "NineDemands$Ints" (1 : Nat) ({ cls := "NineDemands$Sheet", name := "<init>", desc := "()V" } : Jvm.MethodName) "NineDemands") ∈ lw_tbl := lw_at lw_m8 87 rfl
theorem q1858 : (Jvm.Cond.fieldLink "NineDemands$Ints" (7 : Nat) "NineDemands$Ints" "row" "[I") ∈ lw_all := lw_g (lw_at lw_m8 88 rfl) rfl
theorem q1859 : (Jvm.Cond.laysFinal "NineDemands$Ints" "NineDemands$Ints" "row" "[I") ∈ lw_all := lw_g (lw_at lw_m8 89 rfl) rfl
theorem q1860 : (Jvm.Cond.soleField "NineDemands$Ints" "row") ∈ lw_all := lw_g (lw_at lw_m8 90 rfl) rfl
theorem q1861 : (Jvm.Cond.superclass "NineDemands$Ints" "NineDemands$Sheet") ∈ lw_all := lw_g (lw_at lw_m8 91 rfl) rfl
theorem q1872 : (Jvm.Cond.selects "NineDemands$Ints" ({ cls := "NineDemands$Sheet", name := "put", desc := "(II)V" } : Jvm.MethodName) ({ cls := "NineDemands$Ints", name := "put", desc := "(II)V" } : Jvm.MethodName)) ∈ lw_all := lw_g (lw_at lw_m8 102 rfl) rfl
theorem q1873 : (Jvm.Cond.instanceMethod ({ cls := "NineDemands$Ints", name := "put", desc := "(II)V" } : Jvm.MethodName)) ∈ lw_all := lw_g (lw_at lw_m8 103 rfl) rfl
theorem q1874 : (Jvm.Cond.code ({ cls := "NineDemands$Ints", name := "put", desc := "(II)V" } : Jvm.MethodName) prog_13_method_4_code (3 : Nat) (Option.none : Option Jvm.ClassFile.FieldType)) ∈ lw_all := lw_g (lw_at lw_m8 104 rfl) rfl
theorem q1888 : (Jvm.Cond.selects "NineDemands$Ints" ({ cls := "NineDemands$Sheet", name := "width", desc := "()I" } : Jvm.MethodName) ({ cls := "NineDemands$Ints", name := "width", desc := "()I" } : Jvm.MethodName)) ∈ lw_all := lw_g (lw_at lw_m8 118 rfl) rfl
theorem q1889 : (Jvm.Cond.instanceMethod ({ cls := "NineDemands$Ints", name := "width", desc := "()I" } : Jvm.MethodName)) ∈ lw_all := lw_g (lw_at lw_m8 119 rfl) rfl
theorem q1890 : (Jvm.Cond.code ({ cls := "NineDemands$Ints", name := "width", desc := "()I" } : Jvm.MethodName) prog_13_method_5_code (1 : Nat) (Option.some Jvm.ClassFile.FieldType.int)) ∈ lw_all := lw_g (lw_at lw_m8 120 rfl) rfl
theorem q1898 : (Jvm.Cond.selects "NineDemands$Ints" ({ cls := "NineDemands$Sheet", name := "row", desc := "()[I" } : Jvm.MethodName) ({ cls := "NineDemands$Sheet", name := "row", desc := "()[I" } : Jvm.MethodName)) ∈ lw_all := lw_g (lw_at lw_m8 128 rfl) rfl
theorem q2515 : (Jvm.Cond.castable "NineDemands$Ints" "NineDemands$Sheet") ∈ lw_tbl := lw_at lw_m11 25 rfl
theorem q2550 : (Jvm.Cond.castable "NineDemands$Ints" "java/lang/Object") ∈ lw_tbl := lw_at lw_m11 60 rfl
theorem in_X27 : ∀ w ∈ wsX270, w ∈ lw_all := lw_in wsX270 [1859] (by decide +kernel) (by decide +kernel)
