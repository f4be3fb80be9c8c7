/-! NineDemands -/
set_option maxRecDepth 100000
def RX0 : String := "NineDemands"
def TX0 : u_T := fun k => match k with
  | 0 => ("NineDemands", "finding", "LNineDemands$Finding;", true)
  | 1 => ("NineDemands", "village", "LNineDemands$Village;", false)
  | 2 => ("NineDemands", "image", "LNineDemands$Village;", false)
  | 3 => ("NineDemands", "images", "I", false)
  | 4 => ("NineDemands", "trace", "LNineDemands$Trace;", true)
  | 5 => ("NineDemands", "facts", "LNineDemands$Facts;", true)
  | 6 => ("NineDemands", "search", "LNineDemands$Search;", true)
  | 7 => ("NineDemands", "showing", "LNineDemands$Showing;", true)
  | 8 => ("NineDemands", "formedRule", "[I", true)
  | 9 => ("NineDemands", "errors", "[I", true)
  | _ => ("NineDemands", "sheets", "[LNineDemands$Shelf;", true)
def tyX0 : Nat → FieldType := fun k => match k with
  | 0 => .object "NineDemands$Finding"
  | 1 => .object "NineDemands$Village"
  | 2 => .object "NineDemands$Village"
  | 3 => .int
  | 4 => .object "NineDemands$Trace"
  | 5 => .object "NineDemands$Facts"
  | 6 => .object "NineDemands$Search"
  | 7 => .object "NineDemands$Showing"
  | 8 => .array .int
  | 9 => .array .int
  | _ => .array (.object "NineDemands$Shelf")
abbrev wsX00 : List Cond := u_ws RX0 TX0 11
theorem nmX0 : ∀ a, a < 11 → ∀ b, b < 11 → a ≠ b → (TX0 a).2.1 ≠ (TX0 b).2.1 := by decide +kernel
theorem tyX0_ok : ∀ k, k < 11 → parseFieldDescriptor (TX0 k).2.2.1 = some (tyX0 k) := by decide +kernel
abbrev cX0_init : ByteArray := prog_1_method_13_code
def yX0_init : MethodName := ⟨RX0, "<init>", "()V"⟩
def dkwX0_init_5 : List UInt8 := [132, 1, 1, 167, 255, 235, 177]
abbrev dktX0_init_5 : List UInt8 := dkwX0_init_5 ++ []
def dkwX0_init_4 : List UInt8 := [181, 0, 98, 3, 60, 27, 7, 162, 0, 22, 42, 180, 0, 98, 27, 187, 0, 96, 89, 183, 0, 102, 83]
abbrev dktX0_init_4 : List UInt8 := dkwX0_init_4 ++ dktX0_init_5
def dkwX0_init_3 : List UInt8 := [181, 0, 85, 42, 16, 12, 188, 10, 181, 0, 89, 42, 16, 6, 188, 10, 181, 0, 93, 42, 7, 189, 0, 96]
abbrev dktX0_init_3 : List UInt8 := dkwX0_init_3 ++ dktX0_init_4
def dkwX0_init_2 : List UInt8 := [181, 0, 71, 42, 187, 0, 75, 89, 183, 0, 77, 181, 0, 78, 42, 187, 0, 82, 89, 183, 0, 84]
abbrev dktX0_init_2 : List UInt8 := dkwX0_init_2 ++ dktX0_init_3
def dkwX0_init_1 : List UInt8 := [181, 0, 57, 42, 187, 0, 61, 89, 183, 0, 63, 181, 0, 64, 42, 187, 0, 68, 89, 183, 0, 70]
abbrev dktX0_init_1 : List UInt8 := dkwX0_init_1 ++ dktX0_init_2
def dkwX0_init_0 : List UInt8 := [42, 183, 0, 48, 42, 187, 0, 8, 89, 183, 0, 53, 181, 0, 3, 42, 187, 0, 54, 89, 183, 0, 56]
abbrev dktX0_init_0 : List UInt8 := dkwX0_init_0 ++ dktX0_init_1
theorem dksX0_init_0 : cX0_init.data.toList.drop 0 = dktX0_init_0 := by decide +kernel
theorem dksX0_init_1 : cX0_init.data.toList.drop 23 = dktX0_init_1 := dk_seg dksX0_init_0 23 rfl rfl
theorem dksX0_init_2 : cX0_init.data.toList.drop 45 = dktX0_init_2 := dk_seg dksX0_init_1 22 rfl rfl
theorem dksX0_init_3 : cX0_init.data.toList.drop 67 = dktX0_init_3 := dk_seg dksX0_init_2 22 rfl rfl
theorem dksX0_init_4 : cX0_init.data.toList.drop 91 = dktX0_init_4 := dk_seg dksX0_init_3 24 rfl rfl
theorem dksX0_init_5 : cX0_init.data.toList.drop 114 = dktX0_init_5 := dk_seg dksX0_init_4 23 rfl rfl
theorem dX0_init_0 : decode cX0_init 0 = .ok (.aload_n 0, 1) := dk_42 (dk_at dksX0_init_0 0 rfl rfl)
theorem dX0_init_1 : decode cX0_init 1 = .ok (.invokespecial 48, 3) := dk_183 0 48 (dk_at dksX0_init_0 1 rfl rfl)
theorem dX0_init_4 : decode cX0_init 4 = .ok (.aload_n 0, 1) := dk_42 (dk_at dksX0_init_0 4 rfl rfl)
theorem dX0_init_5 : decode cX0_init 5 = .ok (.new 8, 3) := dk_187 0 8 (dk_at dksX0_init_0 5 rfl rfl)
theorem dX0_init_8 : decode cX0_init 8 = .ok (.dup, 1) := dk_89 (dk_at dksX0_init_0 8 rfl rfl)
theorem dX0_init_9 : decode cX0_init 9 = .ok (.invokespecial 53, 3) := dk_183 0 53 (dk_at dksX0_init_0 9 rfl rfl)
theorem dX0_init_12 : decode cX0_init 12 = .ok (.putfield 3, 3) := dk_181 0 3 (dk_at dksX0_init_0 12 rfl rfl)
theorem dX0_init_15 : decode cX0_init 15 = .ok (.aload_n 0, 1) := dk_42 (dk_at dksX0_init_0 15 rfl rfl)
theorem dX0_init_16 : decode cX0_init 16 = .ok (.new 54, 3) := dk_187 0 54 (dk_at dksX0_init_0 16 rfl rfl)
theorem dX0_init_19 : decode cX0_init 19 = .ok (.dup, 1) := dk_89 (dk_at dksX0_init_0 19 rfl rfl)
theorem dX0_init_20 : decode cX0_init 20 = .ok (.invokespecial 56, 3) := dk_183 0 56 (dk_at dksX0_init_0 20 rfl rfl)
theorem dX0_init_23 : decode cX0_init 23 = .ok (.putfield 57, 3) := dk_181 0 57 (dk_at dksX0_init_1 0 rfl rfl)
theorem dX0_init_26 : decode cX0_init 26 = .ok (.aload_n 0, 1) := dk_42 (dk_at dksX0_init_1 3 rfl rfl)
theorem dX0_init_27 : decode cX0_init 27 = .ok (.new 61, 3) := dk_187 0 61 (dk_at dksX0_init_1 4 rfl rfl)
theorem dX0_init_30 : decode cX0_init 30 = .ok (.dup, 1) := dk_89 (dk_at dksX0_init_1 7 rfl rfl)
theorem dX0_init_31 : decode cX0_init 31 = .ok (.invokespecial 63, 3) := dk_183 0 63 (dk_at dksX0_init_1 8 rfl rfl)
theorem dX0_init_34 : decode cX0_init 34 = .ok (.putfield 64, 3) := dk_181 0 64 (dk_at dksX0_init_1 11 rfl rfl)
theorem dX0_init_37 : decode cX0_init 37 = .ok (.aload_n 0, 1) := dk_42 (dk_at dksX0_init_1 14 rfl rfl)
theorem dX0_init_38 : decode cX0_init 38 = .ok (.new 68, 3) := dk_187 0 68 (dk_at dksX0_init_1 15 rfl rfl)
theorem dX0_init_41 : decode cX0_init 41 = .ok (.dup, 1) := dk_89 (dk_at dksX0_init_1 18 rfl rfl)
theorem dX0_init_42 : decode cX0_init 42 = .ok (.invokespecial 70, 3) := dk_183 0 70 (dk_at dksX0_init_1 19 rfl rfl)
theorem dX0_init_45 : decode cX0_init 45 = .ok (.putfield 71, 3) := dk_181 0 71 (dk_at dksX0_init_2 0 rfl rfl)
theorem dX0_init_48 : decode cX0_init 48 = .ok (.aload_n 0, 1) := dk_42 (dk_at dksX0_init_2 3 rfl rfl)
theorem dX0_init_49 : decode cX0_init 49 = .ok (.new 75, 3) := dk_187 0 75 (dk_at dksX0_init_2 4 rfl rfl)
theorem dX0_init_52 : decode cX0_init 52 = .ok (.dup, 1) := dk_89 (dk_at dksX0_init_2 7 rfl rfl)
theorem dX0_init_53 : decode cX0_init 53 = .ok (.invokespecial 77, 3) := dk_183 0 77 (dk_at dksX0_init_2 8 rfl rfl)
theorem dX0_init_56 : decode cX0_init 56 = .ok (.putfield 78, 3) := dk_181 0 78 (dk_at dksX0_init_2 11 rfl rfl)
theorem dX0_init_59 : decode cX0_init 59 = .ok (.aload_n 0, 1) := dk_42 (dk_at dksX0_init_2 14 rfl rfl)
theorem dX0_init_60 : decode cX0_init 60 = .ok (.new 82, 3) := dk_187 0 82 (dk_at dksX0_init_2 15 rfl rfl)
theorem dX0_init_63 : decode cX0_init 63 = .ok (.dup, 1) := dk_89 (dk_at dksX0_init_2 18 rfl rfl)
theorem dX0_init_64 : decode cX0_init 64 = .ok (.invokespecial 84, 3) := dk_183 0 84 (dk_at dksX0_init_2 19 rfl rfl)
theorem dX0_init_67 : decode cX0_init 67 = .ok (.putfield 85, 3) := dk_181 0 85 (dk_at dksX0_init_3 0 rfl rfl)
theorem dX0_init_70 : decode cX0_init 70 = .ok (.aload_n 0, 1) := dk_42 (dk_at dksX0_init_3 3 rfl rfl)
theorem dX0_init_71 : decode cX0_init 71 = .ok (.bipush 12, 2) := dk_16 12 (dk_at dksX0_init_3 4 rfl rfl)
theorem dX0_init_73 : decode cX0_init 73 = .ok (.newarray .int, 2) := dk_188_10 (dk_at dksX0_init_3 6 rfl rfl)
theorem dX0_init_75 : decode cX0_init 75 = .ok (.putfield 89, 3) := dk_181 0 89 (dk_at dksX0_init_3 8 rfl rfl)
theorem dX0_init_78 : decode cX0_init 78 = .ok (.aload_n 0, 1) := dk_42 (dk_at dksX0_init_3 11 rfl rfl)
theorem dX0_init_79 : decode cX0_init 79 = .ok (.bipush 6, 2) := dk_16 6 (dk_at dksX0_init_3 12 rfl rfl)
theorem dX0_init_81 : decode cX0_init 81 = .ok (.newarray .int, 2) := dk_188_10 (dk_at dksX0_init_3 14 rfl rfl)
theorem dX0_init_83 : decode cX0_init 83 = .ok (.putfield 93, 3) := dk_181 0 93 (dk_at dksX0_init_3 16 rfl rfl)
theorem dX0_init_86 : decode cX0_init 86 = .ok (.aload_n 0, 1) := dk_42 (dk_at dksX0_init_3 19 rfl rfl)
theorem dX0_init_87 : decode cX0_init 87 = .ok (.iconst 4, 1) := dk_7 (dk_at dksX0_init_3 20 rfl rfl)
theorem dX0_init_88 : decode cX0_init 88 = .ok (.anewarray 96, 3) := dk_189 0 96 (dk_at dksX0_init_3 21 rfl rfl)
theorem dX0_init_91 : decode cX0_init 91 = .ok (.putfield 98, 3) := dk_181 0 98 (dk_at dksX0_init_4 0 rfl rfl)
theorem dX0_init_94 : decode cX0_init 94 = .ok (.iconst 0, 1) := dk_3 (dk_at dksX0_init_4 3 rfl rfl)
theorem dX0_init_95 : decode cX0_init 95 = .ok (.istore_n 1, 1) := dk_60 (dk_at dksX0_init_4 4 rfl rfl)
theorem dX0_init_96 : decode cX0_init 96 = .ok (.iload_n 1, 1) := dk_27 (dk_at dksX0_init_4 5 rfl rfl)
theorem dX0_init_97 : decode cX0_init 97 = .ok (.iconst 4, 1) := dk_7 (dk_at dksX0_init_4 6 rfl rfl)
theorem dX0_init_98 : decode cX0_init 98 = .ok (.if_icmp .ge 22, 3) := dk_162 0 22 (dk_at dksX0_init_4 7 rfl rfl)
theorem dX0_init_101 : decode cX0_init 101 = .ok (.aload_n 0, 1) := dk_42 (dk_at dksX0_init_4 10 rfl rfl)
theorem dX0_init_102 : decode cX0_init 102 = .ok (.getfield 98, 3) := dk_180 0 98 (dk_at dksX0_init_4 11 rfl rfl)
theorem dX0_init_105 : decode cX0_init 105 = .ok (.iload_n 1, 1) := dk_27 (dk_at dksX0_init_4 14 rfl rfl)
theorem dX0_init_106 : decode cX0_init 106 = .ok (.new 96, 3) := dk_187 0 96 (dk_at dksX0_init_4 15 rfl rfl)
theorem dX0_init_109 : decode cX0_init 109 = .ok (.dup, 1) := dk_89 (dk_at dksX0_init_4 18 rfl rfl)
theorem dX0_init_110 : decode cX0_init 110 = .ok (.invokespecial 102, 3) := dk_183 0 102 (dk_at dksX0_init_4 19 rfl rfl)
theorem dX0_init_113 : decode cX0_init 113 = .ok (.aastore, 1) := dk_83 (dk_at dksX0_init_4 22 rfl rfl)
theorem dX0_init_114 : decode cX0_init 114 = .ok (.iinc 1 1, 3) := dk_132 1 1 (dk_at dksX0_init_5 0 rfl rfl)
theorem dX0_init_117 : decode cX0_init 117 = .ok (.goto (-21), 3) := dk_167 255 235 (dk_at dksX0_init_5 3 rfl rfl)
theorem dX0_init_120 : decode cX0_init 120 = .ok (.return_, 1) := dk_177 (dk_at dksX0_init_5 6 rfl rfl)
abbrev cX0_hall : ByteArray := prog_1_method_22_code
def yX0_hall : MethodName := ⟨RX0, "hall", "(II)I"⟩
def dkwX0_hall_3 : List UInt8 := [184, 0, 17, 172, 78, 42, 45, 182, 0, 136, 172]
abbrev dktX0_hall_3 : List UInt8 := dkwX0_hall_3 ++ []
def dkwX0_hall_2 : List UInt8 := [167, 0, 26, 28, 6, 162, 0, 13, 27, 28, 4, 100, 184, 0, 21, 167, 0, 11, 27, 28, 16, 10, 100]
abbrev dktX0_hall_2 : List UInt8 := dkwX0_hall_2 ++ dktX0_hall_3
def dkwX0_hall_1 : List UInt8 := [184, 0, 108, 153, 0, 7, 4, 167, 0, 4, 3, 4, 182, 0, 126, 28, 154, 0, 10, 27, 184, 0, 13]
abbrev dktX0_hall_1 : List UInt8 := dkwX0_hall_1 ++ dktX0_hall_2
def dkwX0_hall_0 : List UInt8 := [42, 27, 184, 0, 132, 153, 0, 27, 28, 3, 5, 184, 0, 108, 154, 0, 14, 28, 16, 10, 16, 12]
abbrev dktX0_hall_0 : List UInt8 := dkwX0_hall_0 ++ dktX0_hall_1
theorem dksX0_hall_0 : cX0_hall.data.toList.drop 0 = dktX0_hall_0 := by decide +kernel
theorem dksX0_hall_1 : cX0_hall.data.toList.drop 22 = dktX0_hall_1 := dk_seg dksX0_hall_0 22 rfl rfl
theorem dksX0_hall_2 : cX0_hall.data.toList.drop 45 = dktX0_hall_2 := dk_seg dksX0_hall_1 23 rfl rfl
theorem dksX0_hall_3 : cX0_hall.data.toList.drop 68 = dktX0_hall_3 := dk_seg dksX0_hall_2 23 rfl rfl
theorem dX0_hall_0 : decode cX0_hall 0 = .ok (.aload_n 0, 1) := dk_42 (dk_at dksX0_hall_0 0 rfl rfl)
theorem dX0_hall_1 : decode cX0_hall 1 = .ok (.iload_n 1, 1) := dk_27 (dk_at dksX0_hall_0 1 rfl rfl)
theorem dX0_hall_2 : decode cX0_hall 2 = .ok (.invokestatic 132, 3) := dk_184 0 132 (dk_at dksX0_hall_0 2 rfl rfl)
theorem dX0_hall_5 : decode cX0_hall 5 = .ok (.ifCond .eq 27, 3) := dk_153 0 27 (dk_at dksX0_hall_0 5 rfl rfl)
theorem dX0_hall_8 : decode cX0_hall 8 = .ok (.iload_n 2, 1) := dk_28 (dk_at dksX0_hall_0 8 rfl rfl)
theorem dX0_hall_9 : decode cX0_hall 9 = .ok (.iconst 0, 1) := dk_3 (dk_at dksX0_hall_0 9 rfl rfl)
theorem dX0_hall_10 : decode cX0_hall 10 = .ok (.iconst 2, 1) := dk_5 (dk_at dksX0_hall_0 10 rfl rfl)
theorem dX0_hall_11 : decode cX0_hall 11 = .ok (.invokestatic 108, 3) := dk_184 0 108 (dk_at dksX0_hall_0 11 rfl rfl)
theorem dX0_hall_14 : decode cX0_hall 14 = .ok (.ifCond .ne 14, 3) := dk_154 0 14 (dk_at dksX0_hall_0 14 rfl rfl)
theorem dX0_hall_17 : decode cX0_hall 17 = .ok (.iload_n 2, 1) := dk_28 (dk_at dksX0_hall_0 17 rfl rfl)
theorem dX0_hall_18 : decode cX0_hall 18 = .ok (.bipush 10, 2) := dk_16 10 (dk_at dksX0_hall_0 18 rfl rfl)
theorem dX0_hall_20 : decode cX0_hall 20 = .ok (.bipush 12, 2) := dk_16 12 (dk_at dksX0_hall_0 20 rfl rfl)
theorem dX0_hall_22 : decode cX0_hall 22 = .ok (.invokestatic 108, 3) := dk_184 0 108 (dk_at dksX0_hall_1 0 rfl rfl)
theorem dX0_hall_25 : decode cX0_hall 25 = .ok (.ifCond .eq 7, 3) := dk_153 0 7 (dk_at dksX0_hall_1 3 rfl rfl)
theorem dX0_hall_28 : decode cX0_hall 28 = .ok (.iconst 1, 1) := dk_4 (dk_at dksX0_hall_1 6 rfl rfl)
theorem dX0_hall_29 : decode cX0_hall 29 = .ok (.goto 4, 3) := dk_167 0 4 (dk_at dksX0_hall_1 7 rfl rfl)
theorem dX0_hall_32 : decode cX0_hall 32 = .ok (.iconst 0, 1) := dk_3 (dk_at dksX0_hall_1 10 rfl rfl)
theorem dX0_hall_33 : decode cX0_hall 33 = .ok (.iconst 1, 1) := dk_4 (dk_at dksX0_hall_1 11 rfl rfl)
theorem dX0_hall_34 : decode cX0_hall 34 = .ok (.invokevirtual 126, 3) := dk_182 0 126 (dk_at dksX0_hall_1 12 rfl rfl)
theorem dX0_hall_37 : decode cX0_hall 37 = .ok (.iload_n 2, 1) := dk_28 (dk_at dksX0_hall_1 15 rfl rfl)
theorem dX0_hall_38 : decode cX0_hall 38 = .ok (.ifCond .ne 10, 3) := dk_154 0 10 (dk_at dksX0_hall_1 16 rfl rfl)
theorem dX0_hall_41 : decode cX0_hall 41 = .ok (.iload_n 1, 1) := dk_27 (dk_at dksX0_hall_1 19 rfl rfl)
theorem dX0_hall_42 : decode cX0_hall 42 = .ok (.invokestatic 13, 3) := dk_184 0 13 (dk_at dksX0_hall_1 20 rfl rfl)
theorem dX0_hall_45 : decode cX0_hall 45 = .ok (.goto 26, 3) := dk_167 0 26 (dk_at dksX0_hall_2 0 rfl rfl)
theorem dX0_hall_48 : decode cX0_hall 48 = .ok (.iload_n 2, 1) := dk_28 (dk_at dksX0_hall_2 3 rfl rfl)
theorem dX0_hall_49 : decode cX0_hall 49 = .ok (.iconst 3, 1) := dk_6 (dk_at dksX0_hall_2 4 rfl rfl)
theorem dX0_hall_50 : decode cX0_hall 50 = .ok (.if_icmp .ge 13, 3) := dk_162 0 13 (dk_at dksX0_hall_2 5 rfl rfl)
theorem dX0_hall_53 : decode cX0_hall 53 = .ok (.iload_n 1, 1) := dk_27 (dk_at dksX0_hall_2 8 rfl rfl)
theorem dX0_hall_54 : decode cX0_hall 54 = .ok (.iload_n 2, 1) := dk_28 (dk_at dksX0_hall_2 9 rfl rfl)
theorem dX0_hall_55 : decode cX0_hall 55 = .ok (.iconst 1, 1) := dk_4 (dk_at dksX0_hall_2 10 rfl rfl)
theorem dX0_hall_56 : decode cX0_hall 56 = .ok (.isub, 1) := dk_100 (dk_at dksX0_hall_2 11 rfl rfl)
theorem dX0_hall_57 : decode cX0_hall 57 = .ok (.invokestatic 21, 3) := dk_184 0 21 (dk_at dksX0_hall_2 12 rfl rfl)
theorem dX0_hall_60 : decode cX0_hall 60 = .ok (.goto 11, 3) := dk_167 0 11 (dk_at dksX0_hall_2 15 rfl rfl)
theorem dX0_hall_63 : decode cX0_hall 63 = .ok (.iload_n 1, 1) := dk_27 (dk_at dksX0_hall_2 18 rfl rfl)
theorem dX0_hall_64 : decode cX0_hall 64 = .ok (.iload_n 2, 1) := dk_28 (dk_at dksX0_hall_2 19 rfl rfl)
theorem dX0_hall_65 : decode cX0_hall 65 = .ok (.bipush 10, 2) := dk_16 10 (dk_at dksX0_hall_2 20 rfl rfl)
theorem dX0_hall_67 : decode cX0_hall 67 = .ok (.isub, 1) := dk_100 (dk_at dksX0_hall_2 22 rfl rfl)
theorem dX0_hall_68 : decode cX0_hall 68 = .ok (.invokestatic 17, 3) := dk_184 0 17 (dk_at dksX0_hall_3 0 rfl rfl)
theorem dX0_hall_71 : decode cX0_hall 71 = .ok (.ireturn, 1) := dk_172 (dk_at dksX0_hall_3 3 rfl rfl)
theorem dX0_hall_72 : decode cX0_hall 72 = .ok (.astore_n 3, 1) := dk_78 (dk_at dksX0_hall_3 4 rfl rfl)
theorem dX0_hall_73 : decode cX0_hall 73 = .ok (.aload_n 0, 1) := dk_42 (dk_at dksX0_hall_3 5 rfl rfl)
theorem dX0_hall_74 : decode cX0_hall 74 = .ok (.aload_n 3, 1) := dk_45 (dk_at dksX0_hall_3 6 rfl rfl)
theorem dX0_hall_75 : decode cX0_hall 75 = .ok (.invokevirtual 136, 3) := dk_182 0 136 (dk_at dksX0_hall_3 7 rfl rfl)
theorem dX0_hall_78 : decode cX0_hall 78 = .ok (.ireturn, 1) := dk_172 (dk_at dksX0_hall_3 10 rfl rfl)
abbrev cX0_isHall : ByteArray := prog_1_method_15_code
def yX0_isHall : MethodName := ⟨RX0, "isHall", "(I)Z"⟩
def dkwX0_isHall_0 : List UInt8 := [26, 3, 16, 11, 184, 0, 108, 172]
abbrev dktX0_isHall_0 : List UInt8 := dkwX0_isHall_0 ++ []
theorem dksX0_isHall_0 : cX0_isHall.data.toList.drop 0 = dktX0_isHall_0 := by decide +kernel
theorem dX0_isHall_0 : decode cX0_isHall 0 = .ok (.iload_n 0, 1) := dk_26 (dk_at dksX0_isHall_0 0 rfl rfl)
theorem dX0_isHall_1 : decode cX0_isHall 1 = .ok (.iconst 0, 1) := dk_3 (dk_at dksX0_isHall_0 1 rfl rfl)
theorem dX0_isHall_2 : decode cX0_isHall 2 = .ok (.bipush 11, 2) := dk_16 11 (dk_at dksX0_isHall_0 2 rfl rfl)
theorem dX0_isHall_4 : decode cX0_isHall 4 = .ok (.invokestatic 108, 3) := dk_184 0 108 (dk_at dksX0_isHall_0 4 rfl rfl)
theorem dX0_isHall_7 : decode cX0_isHall 7 = .ok (.ireturn, 1) := dk_172 (dk_at dksX0_isHall_0 7 rfl rfl)
abbrev cX0_in : ByteArray := prog_1_method_1_code
def yX0_in : MethodName := ⟨RX0, "in", "(III)Z"⟩
def dkwX0_in_0 : List UInt8 := [26, 27, 161, 0, 12, 26, 28, 163, 0, 7, 4, 167, 0, 4, 3, 172]
abbrev dktX0_in_0 : List UInt8 := dkwX0_in_0 ++ []
theorem dksX0_in_0 : cX0_in.data.toList.drop 0 = dktX0_in_0 := by decide +kernel
theorem dX0_in_0 : decode cX0_in 0 = .ok (.iload_n 0, 1) := dk_26 (dk_at dksX0_in_0 0 rfl rfl)
theorem dX0_in_1 : decode cX0_in 1 = .ok (.iload_n 1, 1) := dk_27 (dk_at dksX0_in_0 1 rfl rfl)
theorem dX0_in_2 : decode cX0_in 2 = .ok (.if_icmp .lt 12, 3) := dk_161 0 12 (dk_at dksX0_in_0 2 rfl rfl)
theorem dX0_in_5 : decode cX0_in 5 = .ok (.iload_n 0, 1) := dk_26 (dk_at dksX0_in_0 5 rfl rfl)
theorem dX0_in_6 : decode cX0_in 6 = .ok (.iload_n 2, 1) := dk_28 (dk_at dksX0_in_0 6 rfl rfl)
theorem dX0_in_7 : decode cX0_in 7 = .ok (.if_icmp .gt 7, 3) := dk_163 0 7 (dk_at dksX0_in_0 7 rfl rfl)
theorem dX0_in_10 : decode cX0_in 10 = .ok (.iconst 1, 1) := dk_4 (dk_at dksX0_in_0 10 rfl rfl)
theorem dX0_in_11 : decode cX0_in 11 = .ok (.goto 4, 3) := dk_167 0 4 (dk_at dksX0_in_0 11 rfl rfl)
theorem dX0_in_14 : decode cX0_in 14 = .ok (.iconst 0, 1) := dk_3 (dk_at dksX0_in_0 14 rfl rfl)
theorem dX0_in_15 : decode cX0_in 15 = .ok (.ireturn, 1) := dk_172 (dk_at dksX0_in_0 15 rfl rfl)
abbrev cX0_need : ByteArray := prog_1_method_3_code
def yX0_need : MethodName := ⟨RX0, "need", "(ZI)V"⟩
def dkwX0_need_0 : List UInt8 := [27, 154, 0, 12, 42, 180, 0, 3, 28, 182, 0, 7, 191, 177]
abbrev dktX0_need_0 : List UInt8 := dkwX0_need_0 ++ []
theorem dksX0_need_0 : cX0_need.data.toList.drop 0 = dktX0_need_0 := by decide +kernel
theorem dX0_need_0 : decode cX0_need 0 = .ok (.iload_n 1, 1) := dk_27 (dk_at dksX0_need_0 0 rfl rfl)
theorem dX0_need_1 : decode cX0_need 1 = .ok (.ifCond .ne 12, 3) := dk_154 0 12 (dk_at dksX0_need_0 1 rfl rfl)
theorem dX0_need_4 : decode cX0_need 4 = .ok (.aload_n 0, 1) := dk_42 (dk_at dksX0_need_0 4 rfl rfl)
theorem dX0_need_5 : decode cX0_need 5 = .ok (.getfield 3, 3) := dk_180 0 3 (dk_at dksX0_need_0 5 rfl rfl)
theorem dX0_need_8 : decode cX0_need 8 = .ok (.iload_n 2, 1) := dk_28 (dk_at dksX0_need_0 8 rfl rfl)
theorem dX0_need_9 : decode cX0_need 9 = .ok (.invokevirtual 7, 3) := dk_182 0 7 (dk_at dksX0_need_0 9 rfl rfl)
theorem dX0_need_12 : decode cX0_need 12 = .ok (.athrow, 1) := dk_191 (dk_at dksX0_need_0 12 rfl rfl)
theorem dX0_need_13 : decode cX0_need 13 = .ok (.return_, 1) := dk_177 (dk_at dksX0_need_0 13 rfl rfl)
abbrev cX0_peopleOf : ByteArray := prog_1_method_4_code
def yX0_peopleOf : MethodName := ⟨RX0, "peopleOf", "(I)I"⟩
def dkwX0_peopleOf_0 : List UInt8 := [26, 7, 162, 0, 7, 5, 167, 0, 4, 6, 172]
abbrev dktX0_peopleOf_0 : List UInt8 := dkwX0_peopleOf_0 ++ []
theorem dksX0_peopleOf_0 : cX0_peopleOf.data.toList.drop 0 = dktX0_peopleOf_0 := by decide +kernel
theorem dX0_peopleOf_0 : decode cX0_peopleOf 0 = .ok (.iload_n 0, 1) := dk_26 (dk_at dksX0_peopleOf_0 0 rfl rfl)
theorem dX0_peopleOf_1 : decode cX0_peopleOf 1 = .ok (.iconst 4, 1) := dk_7 (dk_at dksX0_peopleOf_0 1 rfl rfl)
theorem dX0_peopleOf_2 : decode cX0_peopleOf 2 = .ok (.if_icmp .ge 7, 3) := dk_162 0 7 (dk_at dksX0_peopleOf_0 2 rfl rfl)
theorem dX0_peopleOf_5 : decode cX0_peopleOf 5 = .ok (.iconst 2, 1) := dk_5 (dk_at dksX0_peopleOf_0 5 rfl rfl)
theorem dX0_peopleOf_6 : decode cX0_peopleOf 6 = .ok (.goto 4, 3) := dk_167 0 4 (dk_at dksX0_peopleOf_0 6 rfl rfl)
theorem dX0_peopleOf_9 : decode cX0_peopleOf 9 = .ok (.iconst 3, 1) := dk_6 (dk_at dksX0_peopleOf_0 9 rfl rfl)
theorem dX0_peopleOf_10 : decode cX0_peopleOf 10 = .ok (.ireturn, 1) := dk_172 (dk_at dksX0_peopleOf_0 10 rfl rfl)
abbrev cX0_wanting : ByteArray := prog_1_method_6_code
def yX0_wanting : MethodName := ⟨RX0, "wanting", "(II)I"⟩
def dkwX0_wanting_1 : List UInt8 := [167, 0, 4, 3, 96, 61, 132, 3, 1, 167, 255, 228, 28, 172]
abbrev dktX0_wanting_1 : List UInt8 := dkwX0_wanting_1 ++ []
def dkwX0_wanting_0 : List UInt8 := [3, 61, 3, 62, 29, 26, 184, 0, 13, 162, 0, 26, 28, 26, 29, 184, 0, 17, 27, 160, 0, 7, 4]
abbrev dktX0_wanting_0 : List UInt8 := dkwX0_wanting_0 ++ dktX0_wanting_1
theorem dksX0_wanting_0 : cX0_wanting.data.toList.drop 0 = dktX0_wanting_0 := by decide +kernel
theorem dksX0_wanting_1 : cX0_wanting.data.toList.drop 23 = dktX0_wanting_1 := dk_seg dksX0_wanting_0 23 rfl rfl
theorem dX0_wanting_0 : decode cX0_wanting 0 = .ok (.iconst 0, 1) := dk_3 (dk_at dksX0_wanting_0 0 rfl rfl)
theorem dX0_wanting_1 : decode cX0_wanting 1 = .ok (.istore_n 2, 1) := dk_61 (dk_at dksX0_wanting_0 1 rfl rfl)
theorem dX0_wanting_2 : decode cX0_wanting 2 = .ok (.iconst 0, 1) := dk_3 (dk_at dksX0_wanting_0 2 rfl rfl)
theorem dX0_wanting_3 : decode cX0_wanting 3 = .ok (.istore_n 3, 1) := dk_62 (dk_at dksX0_wanting_0 3 rfl rfl)
theorem dX0_wanting_4 : decode cX0_wanting 4 = .ok (.iload_n 3, 1) := dk_29 (dk_at dksX0_wanting_0 4 rfl rfl)
theorem dX0_wanting_5 : decode cX0_wanting 5 = .ok (.iload_n 0, 1) := dk_26 (dk_at dksX0_wanting_0 5 rfl rfl)
theorem dX0_wanting_6 : decode cX0_wanting 6 = .ok (.invokestatic 13, 3) := dk_184 0 13 (dk_at dksX0_wanting_0 6 rfl rfl)
theorem dX0_wanting_9 : decode cX0_wanting 9 = .ok (.if_icmp .ge 26, 3) := dk_162 0 26 (dk_at dksX0_wanting_0 9 rfl rfl)
theorem dX0_wanting_12 : decode cX0_wanting 12 = .ok (.iload_n 2, 1) := dk_28 (dk_at dksX0_wanting_0 12 rfl rfl)
theorem dX0_wanting_13 : decode cX0_wanting 13 = .ok (.iload_n 0, 1) := dk_26 (dk_at dksX0_wanting_0 13 rfl rfl)
theorem dX0_wanting_14 : decode cX0_wanting 14 = .ok (.iload_n 3, 1) := dk_29 (dk_at dksX0_wanting_0 14 rfl rfl)
theorem dX0_wanting_15 : decode cX0_wanting 15 = .ok (.invokestatic 17, 3) := dk_184 0 17 (dk_at dksX0_wanting_0 15 rfl rfl)
theorem dX0_wanting_18 : decode cX0_wanting 18 = .ok (.iload_n 1, 1) := dk_27 (dk_at dksX0_wanting_0 18 rfl rfl)
theorem dX0_wanting_19 : decode cX0_wanting 19 = .ok (.if_icmp .ne 7, 3) := dk_160 0 7 (dk_at dksX0_wanting_0 19 rfl rfl)
theorem dX0_wanting_22 : decode cX0_wanting 22 = .ok (.iconst 1, 1) := dk_4 (dk_at dksX0_wanting_0 22 rfl rfl)
theorem dX0_wanting_23 : decode cX0_wanting 23 = .ok (.goto 4, 3) := dk_167 0 4 (dk_at dksX0_wanting_1 0 rfl rfl)
theorem dX0_wanting_26 : decode cX0_wanting 26 = .ok (.iconst 0, 1) := dk_3 (dk_at dksX0_wanting_1 3 rfl rfl)
theorem dX0_wanting_27 : decode cX0_wanting 27 = .ok (.iadd, 1) := dk_96 (dk_at dksX0_wanting_1 4 rfl rfl)
theorem dX0_wanting_28 : decode cX0_wanting 28 = .ok (.istore_n 2, 1) := dk_61 (dk_at dksX0_wanting_1 5 rfl rfl)
theorem dX0_wanting_29 : decode cX0_wanting 29 = .ok (.iinc 3 1, 3) := dk_132 3 1 (dk_at dksX0_wanting_1 6 rfl rfl)
theorem dX0_wanting_32 : decode cX0_wanting 32 = .ok (.goto (-28), 3) := dk_167 255 228 (dk_at dksX0_wanting_1 9 rfl rfl)
theorem dX0_wanting_35 : decode cX0_wanting 35 = .ok (.iload_n 2, 1) := dk_28 (dk_at dksX0_wanting_1 12 rfl rfl)
theorem dX0_wanting_36 : decode cX0_wanting 36 = .ok (.ireturn, 1) := dk_172 (dk_at dksX0_wanting_1 13 rfl rfl)
abbrev cX0_wants : ByteArray := prog_1_method_5_code
def yX0_wants : MethodName := ⟨RX0, "wants", "(II)I"⟩
def dkwX0_wants_1 : List UInt8 := [4, 126, 172]
abbrev dktX0_wants_1 : List UInt8 := dkwX0_wants_1 ++ []
def dkwX0_wants_0 : List UInt8 := [27, 26, 184, 0, 13, 161, 0, 5, 5, 172, 26, 7, 162, 0, 7, 26, 167, 0, 6, 26, 7, 100, 27, 122]
abbrev dktX0_wants_0 : List UInt8 := dkwX0_wants_0 ++ dktX0_wants_1
theorem dksX0_wants_0 : cX0_wants.data.toList.drop 0 = dktX0_wants_0 := by decide +kernel
theorem dksX0_wants_1 : cX0_wants.data.toList.drop 24 = dktX0_wants_1 := dk_seg dksX0_wants_0 24 rfl rfl
theorem dX0_wants_0 : decode cX0_wants 0 = .ok (.iload_n 1, 1) := dk_27 (dk_at dksX0_wants_0 0 rfl rfl)
theorem dX0_wants_1 : decode cX0_wants 1 = .ok (.iload_n 0, 1) := dk_26 (dk_at dksX0_wants_0 1 rfl rfl)
theorem dX0_wants_2 : decode cX0_wants 2 = .ok (.invokestatic 13, 3) := dk_184 0 13 (dk_at dksX0_wants_0 2 rfl rfl)
theorem dX0_wants_5 : decode cX0_wants 5 = .ok (.if_icmp .lt 5, 3) := dk_161 0 5 (dk_at dksX0_wants_0 5 rfl rfl)
theorem dX0_wants_8 : decode cX0_wants 8 = .ok (.iconst 2, 1) := dk_5 (dk_at dksX0_wants_0 8 rfl rfl)
theorem dX0_wants_9 : decode cX0_wants 9 = .ok (.ireturn, 1) := dk_172 (dk_at dksX0_wants_0 9 rfl rfl)
theorem dX0_wants_10 : decode cX0_wants 10 = .ok (.iload_n 0, 1) := dk_26 (dk_at dksX0_wants_0 10 rfl rfl)
theorem dX0_wants_11 : decode cX0_wants 11 = .ok (.iconst 4, 1) := dk_7 (dk_at dksX0_wants_0 11 rfl rfl)
theorem dX0_wants_12 : decode cX0_wants 12 = .ok (.if_icmp .ge 7, 3) := dk_162 0 7 (dk_at dksX0_wants_0 12 rfl rfl)
theorem dX0_wants_15 : decode cX0_wants 15 = .ok (.iload_n 0, 1) := dk_26 (dk_at dksX0_wants_0 15 rfl rfl)
theorem dX0_wants_16 : decode cX0_wants 16 = .ok (.goto 6, 3) := dk_167 0 6 (dk_at dksX0_wants_0 16 rfl rfl)
theorem dX0_wants_19 : decode cX0_wants 19 = .ok (.iload_n 0, 1) := dk_26 (dk_at dksX0_wants_0 19 rfl rfl)
theorem dX0_wants_20 : decode cX0_wants 20 = .ok (.iconst 4, 1) := dk_7 (dk_at dksX0_wants_0 20 rfl rfl)
theorem dX0_wants_21 : decode cX0_wants 21 = .ok (.isub, 1) := dk_100 (dk_at dksX0_wants_0 21 rfl rfl)
theorem dX0_wants_22 : decode cX0_wants 22 = .ok (.iload_n 1, 1) := dk_27 (dk_at dksX0_wants_0 22 rfl rfl)
theorem dX0_wants_23 : decode cX0_wants 23 = .ok (.ishr, 1) := dk_122 (dk_at dksX0_wants_0 23 rfl rfl)
theorem dX0_wants_24 : decode cX0_wants 24 = .ok (.iconst 1, 1) := dk_4 (dk_at dksX0_wants_1 0 rfl rfl)
theorem dX0_wants_25 : decode cX0_wants 25 = .ok (.iand, 1) := dk_126 (dk_at dksX0_wants_1 1 rfl rfl)
theorem dX0_wants_26 : decode cX0_wants 26 = .ok (.ireturn, 1) := dk_172 (dk_at dksX0_wants_1 2 rfl rfl)
abbrev cX0_finds : ByteArray := prog_1_method_14_code
def yX0_finds : MethodName := ⟨RX0, "finds", "(LNineDemands$Finding;)I"⟩
def dkwX0_finds_0 : List UInt8 := [42, 180, 0, 93, 43, 180, 0, 103, 92, 46, 4, 96, 79, 18, 107, 43, 180, 0, 103, 100, 172]
abbrev dktX0_finds_0 : List UInt8 := dkwX0_finds_0 ++ []
theorem dksX0_finds_0 : cX0_finds.data.toList.drop 0 = dktX0_finds_0 := by decide +kernel
theorem dX0_finds_0 : decode cX0_finds 0 = .ok (.aload_n 0, 1) := dk_42 (dk_at dksX0_finds_0 0 rfl rfl)
theorem dX0_finds_1 : decode cX0_finds 1 = .ok (.getfield 93, 3) := dk_180 0 93 (dk_at dksX0_finds_0 1 rfl rfl)
theorem dX0_finds_4 : decode cX0_finds 4 = .ok (.aload_n 1, 1) := dk_43 (dk_at dksX0_finds_0 4 rfl rfl)
theorem dX0_finds_5 : decode cX0_finds 5 = .ok (.getfield 103, 3) := dk_180 0 103 (dk_at dksX0_finds_0 5 rfl rfl)
theorem dX0_finds_8 : decode cX0_finds 8 = .ok (.dup2, 1) := dk_92 (dk_at dksX0_finds_0 8 rfl rfl)
theorem dX0_finds_9 : decode cX0_finds 9 = .ok (.iaload, 1) := dk_46 (dk_at dksX0_finds_0 9 rfl rfl)
theorem dX0_finds_10 : decode cX0_finds 10 = .ok (.iconst 1, 1) := dk_4 (dk_at dksX0_finds_0 10 rfl rfl)
theorem dX0_finds_11 : decode cX0_finds 11 = .ok (.iadd, 1) := dk_96 (dk_at dksX0_finds_0 11 rfl rfl)
theorem dX0_finds_12 : decode cX0_finds 12 = .ok (.iastore, 1) := dk_79 (dk_at dksX0_finds_0 12 rfl rfl)
theorem dX0_finds_13 : decode cX0_finds 13 = .ok (.ldc 107, 2) := dk_18 107 (dk_at dksX0_finds_0 13 rfl rfl)
theorem dX0_finds_15 : decode cX0_finds 15 = .ok (.aload_n 1, 1) := dk_43 (dk_at dksX0_finds_0 15 rfl rfl)
theorem dX0_finds_16 : decode cX0_finds 16 = .ok (.getfield 103, 3) := dk_180 0 103 (dk_at dksX0_finds_0 16 rfl rfl)
theorem dX0_finds_19 : decode cX0_finds 19 = .ok (.isub, 1) := dk_100 (dk_at dksX0_finds_0 19 rfl rfl)
theorem dX0_finds_20 : decode cX0_finds 20 = .ok (.ireturn, 1) := dk_172 (dk_at dksX0_finds_0 20 rfl rfl)
abbrev cX0_moved : ByteArray := prog_1_method_23_code
def yX0_moved : MethodName := ⟨RX0, "moved", "(II)I"⟩
def dkwX0_moved_2 : List UInt8 := [120, 184, 0, 140, 172, 78, 42, 45, 182, 0, 136, 172]
abbrev dktX0_moved_2 : List UInt8 := dkwX0_moved_2 ++ []
def dkwX0_moved_1 : List UInt8 := [182, 0, 126, 42, 28, 27, 184, 0, 13, 162, 0, 7, 4, 167, 0, 4, 3, 5, 182, 0, 126, 27, 4, 28]
abbrev dktX0_moved_1 : List UInt8 := dkwX0_moved_1 ++ dktX0_moved_2
def dkwX0_moved_0 : List UInt8 := [42, 27, 184, 0, 132, 153, 0, 16, 28, 3, 5, 184, 0, 108, 153, 0, 7, 4, 167, 0, 4, 3, 4]
abbrev dktX0_moved_0 : List UInt8 := dkwX0_moved_0 ++ dktX0_moved_1
theorem dksX0_moved_0 : cX0_moved.data.toList.drop 0 = dktX0_moved_0 := by decide +kernel
theorem dksX0_moved_1 : cX0_moved.data.toList.drop 23 = dktX0_moved_1 := dk_seg dksX0_moved_0 23 rfl rfl
theorem dksX0_moved_2 : cX0_moved.data.toList.drop 47 = dktX0_moved_2 := dk_seg dksX0_moved_1 24 rfl rfl
theorem dX0_moved_0 : decode cX0_moved 0 = .ok (.aload_n 0, 1) := dk_42 (dk_at dksX0_moved_0 0 rfl rfl)
theorem dX0_moved_1 : decode cX0_moved 1 = .ok (.iload_n 1, 1) := dk_27 (dk_at dksX0_moved_0 1 rfl rfl)
theorem dX0_moved_2 : decode cX0_moved 2 = .ok (.invokestatic 132, 3) := dk_184 0 132 (dk_at dksX0_moved_0 2 rfl rfl)
theorem dX0_moved_5 : decode cX0_moved 5 = .ok (.ifCond .eq 16, 3) := dk_153 0 16 (dk_at dksX0_moved_0 5 rfl rfl)
theorem dX0_moved_8 : decode cX0_moved 8 = .ok (.iload_n 2, 1) := dk_28 (dk_at dksX0_moved_0 8 rfl rfl)
theorem dX0_moved_9 : decode cX0_moved 9 = .ok (.iconst 0, 1) := dk_3 (dk_at dksX0_moved_0 9 rfl rfl)
theorem dX0_moved_10 : decode cX0_moved 10 = .ok (.iconst 2, 1) := dk_5 (dk_at dksX0_moved_0 10 rfl rfl)
theorem dX0_moved_11 : decode cX0_moved 11 = .ok (.invokestatic 108, 3) := dk_184 0 108 (dk_at dksX0_moved_0 11 rfl rfl)
theorem dX0_moved_14 : decode cX0_moved 14 = .ok (.ifCond .eq 7, 3) := dk_153 0 7 (dk_at dksX0_moved_0 14 rfl rfl)
theorem dX0_moved_17 : decode cX0_moved 17 = .ok (.iconst 1, 1) := dk_4 (dk_at dksX0_moved_0 17 rfl rfl)
theorem dX0_moved_18 : decode cX0_moved 18 = .ok (.goto 4, 3) := dk_167 0 4 (dk_at dksX0_moved_0 18 rfl rfl)
theorem dX0_moved_21 : decode cX0_moved 21 = .ok (.iconst 0, 1) := dk_3 (dk_at dksX0_moved_0 21 rfl rfl)
theorem dX0_moved_22 : decode cX0_moved 22 = .ok (.iconst 1, 1) := dk_4 (dk_at dksX0_moved_0 22 rfl rfl)
theorem dX0_moved_23 : decode cX0_moved 23 = .ok (.invokevirtual 126, 3) := dk_182 0 126 (dk_at dksX0_moved_1 0 rfl rfl)
theorem dX0_moved_26 : decode cX0_moved 26 = .ok (.aload_n 0, 1) := dk_42 (dk_at dksX0_moved_1 3 rfl rfl)
theorem dX0_moved_27 : decode cX0_moved 27 = .ok (.iload_n 2, 1) := dk_28 (dk_at dksX0_moved_1 4 rfl rfl)
theorem dX0_moved_28 : decode cX0_moved 28 = .ok (.iload_n 1, 1) := dk_27 (dk_at dksX0_moved_1 5 rfl rfl)
theorem dX0_moved_29 : decode cX0_moved 29 = .ok (.invokestatic 13, 3) := dk_184 0 13 (dk_at dksX0_moved_1 6 rfl rfl)
theorem dX0_moved_32 : decode cX0_moved 32 = .ok (.if_icmp .ge 7, 3) := dk_162 0 7 (dk_at dksX0_moved_1 9 rfl rfl)
theorem dX0_moved_35 : decode cX0_moved 35 = .ok (.iconst 1, 1) := dk_4 (dk_at dksX0_moved_1 12 rfl rfl)
theorem dX0_moved_36 : decode cX0_moved 36 = .ok (.goto 4, 3) := dk_167 0 4 (dk_at dksX0_moved_1 13 rfl rfl)
theorem dX0_moved_39 : decode cX0_moved 39 = .ok (.iconst 0, 1) := dk_3 (dk_at dksX0_moved_1 16 rfl rfl)
theorem dX0_moved_40 : decode cX0_moved 40 = .ok (.iconst 2, 1) := dk_5 (dk_at dksX0_moved_1 17 rfl rfl)
theorem dX0_moved_41 : decode cX0_moved 41 = .ok (.invokevirtual 126, 3) := dk_182 0 126 (dk_at dksX0_moved_1 18 rfl rfl)
theorem dX0_moved_44 : decode cX0_moved 44 = .ok (.iload_n 1, 1) := dk_27 (dk_at dksX0_moved_1 21 rfl rfl)
theorem dX0_moved_45 : decode cX0_moved 45 = .ok (.iconst 1, 1) := dk_4 (dk_at dksX0_moved_1 22 rfl rfl)
theorem dX0_moved_46 : decode cX0_moved 46 = .ok (.iload_n 2, 1) := dk_28 (dk_at dksX0_moved_1 23 rfl rfl)
theorem dX0_moved_47 : decode cX0_moved 47 = .ok (.ishl, 1) := dk_120 (dk_at dksX0_moved_2 0 rfl rfl)
theorem dX0_moved_48 : decode cX0_moved 48 = .ok (.invokestatic 140, 3) := dk_184 0 140 (dk_at dksX0_moved_2 1 rfl rfl)
theorem dX0_moved_51 : decode cX0_moved 51 = .ok (.ireturn, 1) := dk_172 (dk_at dksX0_moved_2 4 rfl rfl)
theorem dX0_moved_52 : decode cX0_moved 52 = .ok (.astore_n 3, 1) := dk_78 (dk_at dksX0_moved_2 5 rfl rfl)
theorem dX0_moved_53 : decode cX0_moved 53 = .ok (.aload_n 0, 1) := dk_42 (dk_at dksX0_moved_2 6 rfl rfl)
theorem dX0_moved_54 : decode cX0_moved 54 = .ok (.aload_n 3, 1) := dk_45 (dk_at dksX0_moved_2 7 rfl rfl)
theorem dX0_moved_55 : decode cX0_moved 55 = .ok (.invokevirtual 136, 3) := dk_182 0 136 (dk_at dksX0_moved_2 8 rfl rfl)
theorem dX0_moved_58 : decode cX0_moved 58 = .ok (.ireturn, 1) := dk_172 (dk_at dksX0_moved_2 11 rfl rfl)
abbrev cX0_changed : ByteArray := prog_1_method_7_code
def yX0_changed : MethodName := ⟨RX0, "changed", "(II)I"⟩
def dkwX0_changed_0 : List UInt8 := [26, 7, 162, 0, 9, 26, 27, 130, 167, 0, 10, 26, 7, 100, 27, 130, 7, 96, 172]
abbrev dktX0_changed_0 : List UInt8 := dkwX0_changed_0 ++ []
theorem dksX0_changed_0 : cX0_changed.data.toList.drop 0 = dktX0_changed_0 := by decide +kernel
theorem dX0_changed_0 : decode cX0_changed 0 = .ok (.iload_n 0, 1) := dk_26 (dk_at dksX0_changed_0 0 rfl rfl)
theorem dX0_changed_1 : decode cX0_changed 1 = .ok (.iconst 4, 1) := dk_7 (dk_at dksX0_changed_0 1 rfl rfl)
theorem dX0_changed_2 : decode cX0_changed 2 = .ok (.if_icmp .ge 9, 3) := dk_162 0 9 (dk_at dksX0_changed_0 2 rfl rfl)
theorem dX0_changed_5 : decode cX0_changed 5 = .ok (.iload_n 0, 1) := dk_26 (dk_at dksX0_changed_0 5 rfl rfl)
theorem dX0_changed_6 : decode cX0_changed 6 = .ok (.iload_n 1, 1) := dk_27 (dk_at dksX0_changed_0 6 rfl rfl)
theorem dX0_changed_7 : decode cX0_changed 7 = .ok (.ixor, 1) := dk_130 (dk_at dksX0_changed_0 7 rfl rfl)
theorem dX0_changed_8 : decode cX0_changed 8 = .ok (.goto 10, 3) := dk_167 0 10 (dk_at dksX0_changed_0 8 rfl rfl)
theorem dX0_changed_11 : decode cX0_changed 11 = .ok (.iload_n 0, 1) := dk_26 (dk_at dksX0_changed_0 11 rfl rfl)
theorem dX0_changed_12 : decode cX0_changed 12 = .ok (.iconst 4, 1) := dk_7 (dk_at dksX0_changed_0 12 rfl rfl)
theorem dX0_changed_13 : decode cX0_changed 13 = .ok (.isub, 1) := dk_100 (dk_at dksX0_changed_0 13 rfl rfl)
theorem dX0_changed_14 : decode cX0_changed 14 = .ok (.iload_n 1, 1) := dk_27 (dk_at dksX0_changed_0 14 rfl rfl)
theorem dX0_changed_15 : decode cX0_changed 15 = .ok (.ixor, 1) := dk_130 (dk_at dksX0_changed_0 15 rfl rfl)
theorem dX0_changed_16 : decode cX0_changed 16 = .ok (.iconst 4, 1) := dk_7 (dk_at dksX0_changed_0 16 rfl rfl)
theorem dX0_changed_17 : decode cX0_changed 17 = .ok (.iadd, 1) := dk_96 (dk_at dksX0_changed_0 17 rfl rfl)
theorem dX0_changed_18 : decode cX0_changed 18 = .ok (.ireturn, 1) := dk_172 (dk_at dksX0_changed_0 18 rfl rfl)
abbrev cX0_choose : ByteArray := prog_1_method_24_code
def yX0_choose : MethodName := ⟨RX0, "choose", "(II)I"⟩
def dkwX0_choose_2 : List UInt8 := [45, 182, 0, 136, 172]
abbrev dktX0_choose_2 : List UInt8 := dkwX0_choose_2 ++ []
def dkwX0_choose_1 : List UInt8 := [42, 180, 0, 57, 180, 0, 146, 27, 46, 62, 42, 180, 0, 57, 180, 0, 146, 27, 28, 79, 29, 172, 78, 42]
abbrev dktX0_choose_1 : List UInt8 := dkwX0_choose_1 ++ dktX0_choose_2
def dkwX0_choose_0 : List UInt8 := [42, 27, 184, 0, 132, 153, 0, 14, 28, 184, 0, 143, 153, 0, 7, 4, 167, 0, 4, 3, 4, 182, 0, 126]
abbrev dktX0_choose_0 : List UInt8 := dkwX0_choose_0 ++ dktX0_choose_1
theorem dksX0_choose_0 : cX0_choose.data.toList.drop 0 = dktX0_choose_0 := by decide +kernel
theorem dksX0_choose_1 : cX0_choose.data.toList.drop 24 = dktX0_choose_1 := dk_seg dksX0_choose_0 24 rfl rfl
theorem dksX0_choose_2 : cX0_choose.data.toList.drop 48 = dktX0_choose_2 := dk_seg dksX0_choose_1 24 rfl rfl
theorem dX0_choose_0 : decode cX0_choose 0 = .ok (.aload_n 0, 1) := dk_42 (dk_at dksX0_choose_0 0 rfl rfl)
theorem dX0_choose_1 : decode cX0_choose 1 = .ok (.iload_n 1, 1) := dk_27 (dk_at dksX0_choose_0 1 rfl rfl)
theorem dX0_choose_2 : decode cX0_choose 2 = .ok (.invokestatic 132, 3) := dk_184 0 132 (dk_at dksX0_choose_0 2 rfl rfl)
theorem dX0_choose_5 : decode cX0_choose 5 = .ok (.ifCond .eq 14, 3) := dk_153 0 14 (dk_at dksX0_choose_0 5 rfl rfl)
theorem dX0_choose_8 : decode cX0_choose 8 = .ok (.iload_n 2, 1) := dk_28 (dk_at dksX0_choose_0 8 rfl rfl)
theorem dX0_choose_9 : decode cX0_choose 9 = .ok (.invokestatic 143, 3) := dk_184 0 143 (dk_at dksX0_choose_0 9 rfl rfl)
theorem dX0_choose_12 : decode cX0_choose 12 = .ok (.ifCond .eq 7, 3) := dk_153 0 7 (dk_at dksX0_choose_0 12 rfl rfl)
theorem dX0_choose_15 : decode cX0_choose 15 = .ok (.iconst 1, 1) := dk_4 (dk_at dksX0_choose_0 15 rfl rfl)
theorem dX0_choose_16 : decode cX0_choose 16 = .ok (.goto 4, 3) := dk_167 0 4 (dk_at dksX0_choose_0 16 rfl rfl)
theorem dX0_choose_19 : decode cX0_choose 19 = .ok (.iconst 0, 1) := dk_3 (dk_at dksX0_choose_0 19 rfl rfl)
theorem dX0_choose_20 : decode cX0_choose 20 = .ok (.iconst 1, 1) := dk_4 (dk_at dksX0_choose_0 20 rfl rfl)
theorem dX0_choose_21 : decode cX0_choose 21 = .ok (.invokevirtual 126, 3) := dk_182 0 126 (dk_at dksX0_choose_0 21 rfl rfl)
theorem dX0_choose_24 : decode cX0_choose 24 = .ok (.aload_n 0, 1) := dk_42 (dk_at dksX0_choose_1 0 rfl rfl)
theorem dX0_choose_25 : decode cX0_choose 25 = .ok (.getfield 57, 3) := dk_180 0 57 (dk_at dksX0_choose_1 1 rfl rfl)
theorem dX0_choose_28 : decode cX0_choose 28 = .ok (.getfield 146, 3) := dk_180 0 146 (dk_at dksX0_choose_1 4 rfl rfl)
theorem dX0_choose_31 : decode cX0_choose 31 = .ok (.iload_n 1, 1) := dk_27 (dk_at dksX0_choose_1 7 rfl rfl)
theorem dX0_choose_32 : decode cX0_choose 32 = .ok (.iaload, 1) := dk_46 (dk_at dksX0_choose_1 8 rfl rfl)
theorem dX0_choose_33 : decode cX0_choose 33 = .ok (.istore_n 3, 1) := dk_62 (dk_at dksX0_choose_1 9 rfl rfl)
theorem dX0_choose_34 : decode cX0_choose 34 = .ok (.aload_n 0, 1) := dk_42 (dk_at dksX0_choose_1 10 rfl rfl)
theorem dX0_choose_35 : decode cX0_choose 35 = .ok (.getfield 57, 3) := dk_180 0 57 (dk_at dksX0_choose_1 11 rfl rfl)
theorem dX0_choose_38 : decode cX0_choose 38 = .ok (.getfield 146, 3) := dk_180 0 146 (dk_at dksX0_choose_1 14 rfl rfl)
theorem dX0_choose_41 : decode cX0_choose 41 = .ok (.iload_n 1, 1) := dk_27 (dk_at dksX0_choose_1 17 rfl rfl)
theorem dX0_choose_42 : decode cX0_choose 42 = .ok (.iload_n 2, 1) := dk_28 (dk_at dksX0_choose_1 18 rfl rfl)
theorem dX0_choose_43 : decode cX0_choose 43 = .ok (.iastore, 1) := dk_79 (dk_at dksX0_choose_1 19 rfl rfl)
theorem dX0_choose_44 : decode cX0_choose 44 = .ok (.iload_n 3, 1) := dk_29 (dk_at dksX0_choose_1 20 rfl rfl)
theorem dX0_choose_45 : decode cX0_choose 45 = .ok (.ireturn, 1) := dk_172 (dk_at dksX0_choose_1 21 rfl rfl)
theorem dX0_choose_46 : decode cX0_choose 46 = .ok (.astore_n 3, 1) := dk_78 (dk_at dksX0_choose_1 22 rfl rfl)
theorem dX0_choose_47 : decode cX0_choose 47 = .ok (.aload_n 0, 1) := dk_42 (dk_at dksX0_choose_1 23 rfl rfl)
theorem dX0_choose_48 : decode cX0_choose 48 = .ok (.aload_n 3, 1) := dk_45 (dk_at dksX0_choose_2 0 rfl rfl)
theorem dX0_choose_49 : decode cX0_choose 49 = .ok (.invokevirtual 136, 3) := dk_182 0 136 (dk_at dksX0_choose_2 1 rfl rfl)
theorem dX0_choose_52 : decode cX0_choose 52 = .ok (.ireturn, 1) := dk_172 (dk_at dksX0_choose_2 4 rfl rfl)
abbrev cX0_isChoice : ByteArray := prog_1_method_16_code
def yX0_isChoice : MethodName := ⟨RX0, "isChoice", "(I)Z"⟩
def dkwX0_isChoice_0 : List UInt8 := [26, 4, 6, 184, 0, 108, 172]
abbrev dktX0_isChoice_0 : List UInt8 := dkwX0_isChoice_0 ++ []
theorem dksX0_isChoice_0 : cX0_isChoice.data.toList.drop 0 = dktX0_isChoice_0 := by decide +kernel
theorem dX0_isChoice_0 : decode cX0_isChoice 0 = .ok (.iload_n 0, 1) := dk_26 (dk_at dksX0_isChoice_0 0 rfl rfl)
theorem dX0_isChoice_1 : decode cX0_isChoice 1 = .ok (.iconst 1, 1) := dk_4 (dk_at dksX0_isChoice_0 1 rfl rfl)
theorem dX0_isChoice_2 : decode cX0_isChoice 2 = .ok (.iconst 3, 1) := dk_6 (dk_at dksX0_isChoice_0 2 rfl rfl)
theorem dX0_isChoice_3 : decode cX0_isChoice 3 = .ok (.invokestatic 108, 3) := dk_184 0 108 (dk_at dksX0_isChoice_0 3 rfl rfl)
theorem dX0_isChoice_6 : decode cX0_isChoice 6 = .ok (.ireturn, 1) := dk_172 (dk_at dksX0_isChoice_0 6 rfl rfl)
abbrev cX0_chosen : ByteArray := prog_1_method_25_code
def yX0_chosen : MethodName := ⟨RX0, "chosen", "(I)I"⟩
def dkwX0_chosen_1 : List UInt8 := [182, 0, 136, 172]
abbrev dktX0_chosen_1 : List UInt8 := dkwX0_chosen_1 ++ []
def dkwX0_chosen_0 : List UInt8 := [42, 27, 184, 0, 132, 4, 182, 0, 126, 42, 180, 0, 57, 180, 0, 146, 27, 46, 172, 77, 42, 44]
abbrev dktX0_chosen_0 : List UInt8 := dkwX0_chosen_0 ++ dktX0_chosen_1
theorem dksX0_chosen_0 : cX0_chosen.data.toList.drop 0 = dktX0_chosen_0 := by decide +kernel
theorem dksX0_chosen_1 : cX0_chosen.data.toList.drop 22 = dktX0_chosen_1 := dk_seg dksX0_chosen_0 22 rfl rfl
theorem dX0_chosen_0 : decode cX0_chosen 0 = .ok (.aload_n 0, 1) := dk_42 (dk_at dksX0_chosen_0 0 rfl rfl)
theorem dX0_chosen_1 : decode cX0_chosen 1 = .ok (.iload_n 1, 1) := dk_27 (dk_at dksX0_chosen_0 1 rfl rfl)
theorem dX0_chosen_2 : decode cX0_chosen 2 = .ok (.invokestatic 132, 3) := dk_184 0 132 (dk_at dksX0_chosen_0 2 rfl rfl)
theorem dX0_chosen_5 : decode cX0_chosen 5 = .ok (.iconst 1, 1) := dk_4 (dk_at dksX0_chosen_0 5 rfl rfl)
theorem dX0_chosen_6 : decode cX0_chosen 6 = .ok (.invokevirtual 126, 3) := dk_182 0 126 (dk_at dksX0_chosen_0 6 rfl rfl)
theorem dX0_chosen_9 : decode cX0_chosen 9 = .ok (.aload_n 0, 1) := dk_42 (dk_at dksX0_chosen_0 9 rfl rfl)
theorem dX0_chosen_10 : decode cX0_chosen 10 = .ok (.getfield 57, 3) := dk_180 0 57 (dk_at dksX0_chosen_0 10 rfl rfl)
theorem dX0_chosen_13 : decode cX0_chosen 13 = .ok (.getfield 146, 3) := dk_180 0 146 (dk_at dksX0_chosen_0 13 rfl rfl)
theorem dX0_chosen_16 : decode cX0_chosen 16 = .ok (.iload_n 1, 1) := dk_27 (dk_at dksX0_chosen_0 16 rfl rfl)
theorem dX0_chosen_17 : decode cX0_chosen 17 = .ok (.iaload, 1) := dk_46 (dk_at dksX0_chosen_0 17 rfl rfl)
theorem dX0_chosen_18 : decode cX0_chosen 18 = .ok (.ireturn, 1) := dk_172 (dk_at dksX0_chosen_0 18 rfl rfl)
theorem dX0_chosen_19 : decode cX0_chosen 19 = .ok (.astore_n 2, 1) := dk_77 (dk_at dksX0_chosen_0 19 rfl rfl)
theorem dX0_chosen_20 : decode cX0_chosen 20 = .ok (.aload_n 0, 1) := dk_42 (dk_at dksX0_chosen_0 20 rfl rfl)
theorem dX0_chosen_21 : decode cX0_chosen 21 = .ok (.aload_n 2, 1) := dk_44 (dk_at dksX0_chosen_0 21 rfl rfl)
theorem dX0_chosen_22 : decode cX0_chosen 22 = .ok (.invokevirtual 136, 3) := dk_182 0 136 (dk_at dksX0_chosen_1 0 rfl rfl)
theorem dX0_chosen_25 : decode cX0_chosen 25 = .ok (.ireturn, 1) := dk_172 (dk_at dksX0_chosen_1 3 rfl rfl)
abbrev cX0_block : ByteArray := prog_1_method_26_code
def yX0_block : MethodName := ⟨RX0, "block", "(I)I"⟩
def dkwX0_block_4 : List UInt8 := [167, 255, 231, 29, 172, 77, 42, 44, 182, 0, 136, 172]
abbrev dktX0_block_4 : List UInt8 := dkwX0_block_4 ++ []
def dkwX0_block_3 : List UInt8 := [162, 0, 25, 42, 180, 0, 57, 180, 0, 146, 21, 5, 44, 21, 5, 182, 0, 162, 79, 132, 5, 1]
abbrev dktX0_block_3 : List UInt8 := dkwX0_block_3 ++ dktX0_block_4
def dkwX0_block_2 : List UInt8 := [184, 0, 143, 54, 4, 132, 5, 1, 167, 255, 231, 42, 21, 4, 8, 182, 0, 126, 3, 54, 5, 21, 5, 29]
abbrev dktX0_block_2 : List UInt8 := dkwX0_block_2 ++ dktX0_block_3
def dkwX0_block_1 : List UInt8 := [62, 4, 54, 4, 3, 54, 5, 21, 5, 29, 162, 0, 25, 21, 4, 153, 0, 20, 44, 21, 5, 182, 0, 162]
abbrev dktX0_block_1 : List UInt8 := dkwX0_block_1 ++ dktX0_block_2
def dkwX0_block_0 : List UInt8 := [42, 27, 184, 0, 149, 4, 182, 0, 126, 42, 27, 182, 0, 152, 77, 16, 12, 44, 182, 0, 156, 184, 0, 157]
abbrev dktX0_block_0 : List UInt8 := dkwX0_block_0 ++ dktX0_block_1
theorem dksX0_block_0 : cX0_block.data.toList.drop 0 = dktX0_block_0 := by decide +kernel
theorem dksX0_block_1 : cX0_block.data.toList.drop 24 = dktX0_block_1 := dk_seg dksX0_block_0 24 rfl rfl
theorem dksX0_block_2 : cX0_block.data.toList.drop 48 = dktX0_block_2 := dk_seg dksX0_block_1 24 rfl rfl
theorem dksX0_block_3 : cX0_block.data.toList.drop 72 = dktX0_block_3 := dk_seg dksX0_block_2 24 rfl rfl
theorem dksX0_block_4 : cX0_block.data.toList.drop 94 = dktX0_block_4 := dk_seg dksX0_block_3 22 rfl rfl
theorem dX0_block_0 : decode cX0_block 0 = .ok (.aload_n 0, 1) := dk_42 (dk_at dksX0_block_0 0 rfl rfl)
theorem dX0_block_1 : decode cX0_block 1 = .ok (.iload_n 1, 1) := dk_27 (dk_at dksX0_block_0 1 rfl rfl)
theorem dX0_block_2 : decode cX0_block 2 = .ok (.invokestatic 149, 3) := dk_184 0 149 (dk_at dksX0_block_0 2 rfl rfl)
theorem dX0_block_5 : decode cX0_block 5 = .ok (.iconst 1, 1) := dk_4 (dk_at dksX0_block_0 5 rfl rfl)
theorem dX0_block_6 : decode cX0_block 6 = .ok (.invokevirtual 126, 3) := dk_182 0 126 (dk_at dksX0_block_0 6 rfl rfl)
theorem dX0_block_9 : decode cX0_block 9 = .ok (.aload_n 0, 1) := dk_42 (dk_at dksX0_block_0 9 rfl rfl)
theorem dX0_block_10 : decode cX0_block 10 = .ok (.iload_n 1, 1) := dk_27 (dk_at dksX0_block_0 10 rfl rfl)
theorem dX0_block_11 : decode cX0_block 11 = .ok (.invokevirtual 152, 3) := dk_182 0 152 (dk_at dksX0_block_0 11 rfl rfl)
theorem dX0_block_14 : decode cX0_block 14 = .ok (.astore_n 2, 1) := dk_77 (dk_at dksX0_block_0 14 rfl rfl)
theorem dX0_block_15 : decode cX0_block 15 = .ok (.bipush 12, 2) := dk_16 12 (dk_at dksX0_block_0 15 rfl rfl)
theorem dX0_block_17 : decode cX0_block 17 = .ok (.aload_n 2, 1) := dk_44 (dk_at dksX0_block_0 17 rfl rfl)
theorem dX0_block_18 : decode cX0_block 18 = .ok (.invokevirtual 156, 3) := dk_182 0 156 (dk_at dksX0_block_0 18 rfl rfl)
theorem dX0_block_21 : decode cX0_block 21 = .ok (.invokestatic 157, 3) := dk_184 0 157 (dk_at dksX0_block_0 21 rfl rfl)
theorem dX0_block_24 : decode cX0_block 24 = .ok (.istore_n 3, 1) := dk_62 (dk_at dksX0_block_1 0 rfl rfl)
theorem dX0_block_25 : decode cX0_block 25 = .ok (.iconst 1, 1) := dk_4 (dk_at dksX0_block_1 1 rfl rfl)
theorem dX0_block_26 : decode cX0_block 26 = .ok (.istore 4, 2) := dk_54 4 (dk_at dksX0_block_1 2 rfl rfl)
theorem dX0_block_28 : decode cX0_block 28 = .ok (.iconst 0, 1) := dk_3 (dk_at dksX0_block_1 4 rfl rfl)
theorem dX0_block_29 : decode cX0_block 29 = .ok (.istore 5, 2) := dk_54 5 (dk_at dksX0_block_1 5 rfl rfl)
theorem dX0_block_31 : decode cX0_block 31 = .ok (.iload 5, 2) := dk_21 5 (dk_at dksX0_block_1 7 rfl rfl)
theorem dX0_block_33 : decode cX0_block 33 = .ok (.iload_n 3, 1) := dk_29 (dk_at dksX0_block_1 9 rfl rfl)
theorem dX0_block_34 : decode cX0_block 34 = .ok (.if_icmp .ge 25, 3) := dk_162 0 25 (dk_at dksX0_block_1 10 rfl rfl)
theorem dX0_block_37 : decode cX0_block 37 = .ok (.iload 4, 2) := dk_21 4 (dk_at dksX0_block_1 13 rfl rfl)
theorem dX0_block_39 : decode cX0_block 39 = .ok (.ifCond .eq 20, 3) := dk_153 0 20 (dk_at dksX0_block_1 15 rfl rfl)
theorem dX0_block_42 : decode cX0_block 42 = .ok (.aload_n 2, 1) := dk_44 (dk_at dksX0_block_1 18 rfl rfl)
theorem dX0_block_43 : decode cX0_block 43 = .ok (.iload 5, 2) := dk_21 5 (dk_at dksX0_block_1 19 rfl rfl)
theorem dX0_block_45 : decode cX0_block 45 = .ok (.invokevirtual 162, 3) := dk_182 0 162 (dk_at dksX0_block_1 21 rfl rfl)
theorem dX0_block_48 : decode cX0_block 48 = .ok (.invokestatic 143, 3) := dk_184 0 143 (dk_at dksX0_block_2 0 rfl rfl)
theorem dX0_block_51 : decode cX0_block 51 = .ok (.istore 4, 2) := dk_54 4 (dk_at dksX0_block_2 3 rfl rfl)
theorem dX0_block_53 : decode cX0_block 53 = .ok (.iinc 5 1, 3) := dk_132 5 1 (dk_at dksX0_block_2 5 rfl rfl)
theorem dX0_block_56 : decode cX0_block 56 = .ok (.goto (-25), 3) := dk_167 255 231 (dk_at dksX0_block_2 8 rfl rfl)
theorem dX0_block_59 : decode cX0_block 59 = .ok (.aload_n 0, 1) := dk_42 (dk_at dksX0_block_2 11 rfl rfl)
theorem dX0_block_60 : decode cX0_block 60 = .ok (.iload 4, 2) := dk_21 4 (dk_at dksX0_block_2 12 rfl rfl)
theorem dX0_block_62 : decode cX0_block 62 = .ok (.iconst 5, 1) := dk_8 (dk_at dksX0_block_2 14 rfl rfl)
theorem dX0_block_63 : decode cX0_block 63 = .ok (.invokevirtual 126, 3) := dk_182 0 126 (dk_at dksX0_block_2 15 rfl rfl)
theorem dX0_block_66 : decode cX0_block 66 = .ok (.iconst 0, 1) := dk_3 (dk_at dksX0_block_2 18 rfl rfl)
theorem dX0_block_67 : decode cX0_block 67 = .ok (.istore 5, 2) := dk_54 5 (dk_at dksX0_block_2 19 rfl rfl)
theorem dX0_block_69 : decode cX0_block 69 = .ok (.iload 5, 2) := dk_21 5 (dk_at dksX0_block_2 21 rfl rfl)
theorem dX0_block_71 : decode cX0_block 71 = .ok (.iload_n 3, 1) := dk_29 (dk_at dksX0_block_2 23 rfl rfl)
theorem dX0_block_72 : decode cX0_block 72 = .ok (.if_icmp .ge 25, 3) := dk_162 0 25 (dk_at dksX0_block_3 0 rfl rfl)
theorem dX0_block_75 : decode cX0_block 75 = .ok (.aload_n 0, 1) := dk_42 (dk_at dksX0_block_3 3 rfl rfl)
theorem dX0_block_76 : decode cX0_block 76 = .ok (.getfield 57, 3) := dk_180 0 57 (dk_at dksX0_block_3 4 rfl rfl)
theorem dX0_block_79 : decode cX0_block 79 = .ok (.getfield 146, 3) := dk_180 0 146 (dk_at dksX0_block_3 7 rfl rfl)
theorem dX0_block_82 : decode cX0_block 82 = .ok (.iload 5, 2) := dk_21 5 (dk_at dksX0_block_3 10 rfl rfl)
theorem dX0_block_84 : decode cX0_block 84 = .ok (.aload_n 2, 1) := dk_44 (dk_at dksX0_block_3 12 rfl rfl)
theorem dX0_block_85 : decode cX0_block 85 = .ok (.iload 5, 2) := dk_21 5 (dk_at dksX0_block_3 13 rfl rfl)
theorem dX0_block_87 : decode cX0_block 87 = .ok (.invokevirtual 162, 3) := dk_182 0 162 (dk_at dksX0_block_3 15 rfl rfl)
theorem dX0_block_90 : decode cX0_block 90 = .ok (.iastore, 1) := dk_79 (dk_at dksX0_block_3 18 rfl rfl)
theorem dX0_block_91 : decode cX0_block 91 = .ok (.iinc 5 1, 3) := dk_132 5 1 (dk_at dksX0_block_3 19 rfl rfl)
theorem dX0_block_94 : decode cX0_block 94 = .ok (.goto (-25), 3) := dk_167 255 231 (dk_at dksX0_block_4 0 rfl rfl)
theorem dX0_block_97 : decode cX0_block 97 = .ok (.iload_n 3, 1) := dk_29 (dk_at dksX0_block_4 3 rfl rfl)
theorem dX0_block_98 : decode cX0_block 98 = .ok (.ireturn, 1) := dk_172 (dk_at dksX0_block_4 4 rfl rfl)
theorem dX0_block_99 : decode cX0_block 99 = .ok (.astore_n 2, 1) := dk_77 (dk_at dksX0_block_4 5 rfl rfl)
theorem dX0_block_100 : decode cX0_block 100 = .ok (.aload_n 0, 1) := dk_42 (dk_at dksX0_block_4 6 rfl rfl)
theorem dX0_block_101 : decode cX0_block 101 = .ok (.aload_n 2, 1) := dk_44 (dk_at dksX0_block_4 7 rfl rfl)
theorem dX0_block_102 : decode cX0_block 102 = .ok (.invokevirtual 136, 3) := dk_182 0 136 (dk_at dksX0_block_4 8 rfl rfl)
theorem dX0_block_105 : decode cX0_block 105 = .ok (.ireturn, 1) := dk_172 (dk_at dksX0_block_4 11 rfl rfl)
abbrev cX0_isSheet : ByteArray := prog_1_method_17_code
def yX0_isSheet : MethodName := ⟨RX0, "isSheet", "(I)Z"⟩
def dkwX0_isSheet_0 : List UInt8 := [26, 3, 6, 184, 0, 108, 172]
abbrev dktX0_isSheet_0 : List UInt8 := dkwX0_isSheet_0 ++ []
theorem dksX0_isSheet_0 : cX0_isSheet.data.toList.drop 0 = dktX0_isSheet_0 := by decide +kernel
theorem dX0_isSheet_0 : decode cX0_isSheet 0 = .ok (.iload_n 0, 1) := dk_26 (dk_at dksX0_isSheet_0 0 rfl rfl)
theorem dX0_isSheet_1 : decode cX0_isSheet 1 = .ok (.iconst 0, 1) := dk_3 (dk_at dksX0_isSheet_0 1 rfl rfl)
theorem dX0_isSheet_2 : decode cX0_isSheet 2 = .ok (.iconst 3, 1) := dk_6 (dk_at dksX0_isSheet_0 2 rfl rfl)
theorem dX0_isSheet_3 : decode cX0_isSheet 3 = .ok (.invokestatic 108, 3) := dk_184 0 108 (dk_at dksX0_isSheet_0 3 rfl rfl)
theorem dX0_isSheet_6 : decode cX0_isSheet 6 = .ok (.ireturn, 1) := dk_172 (dk_at dksX0_isSheet_0 6 rfl rfl)
abbrev cX0_sheetAt : ByteArray := prog_1_method_21_code
def yX0_sheetAt : MethodName := ⟨RX0, "sheetAt", "(I)LNineDemands$Sheet;"⟩
def dkwX0_sheetAt_1 : List UInt8 := [180, 0, 98, 27, 50, 180, 0, 122, 192, 0, 130, 176]
abbrev dktX0_sheetAt_1 : List UInt8 := dkwX0_sheetAt_1 ++ []
def dkwX0_sheetAt_0 : List UInt8 := [42, 42, 180, 0, 98, 27, 50, 180, 0, 122, 198, 0, 7, 4, 167, 0, 4, 3, 5, 182, 0, 126, 42]
abbrev dktX0_sheetAt_0 : List UInt8 := dkwX0_sheetAt_0 ++ dktX0_sheetAt_1
theorem dksX0_sheetAt_0 : cX0_sheetAt.data.toList.drop 0 = dktX0_sheetAt_0 := by decide +kernel
theorem dksX0_sheetAt_1 : cX0_sheetAt.data.toList.drop 23 = dktX0_sheetAt_1 := dk_seg dksX0_sheetAt_0 23 rfl rfl
theorem dX0_sheetAt_0 : decode cX0_sheetAt 0 = .ok (.aload_n 0, 1) := dk_42 (dk_at dksX0_sheetAt_0 0 rfl rfl)
theorem dX0_sheetAt_1 : decode cX0_sheetAt 1 = .ok (.aload_n 0, 1) := dk_42 (dk_at dksX0_sheetAt_0 1 rfl rfl)
theorem dX0_sheetAt_2 : decode cX0_sheetAt 2 = .ok (.getfield 98, 3) := dk_180 0 98 (dk_at dksX0_sheetAt_0 2 rfl rfl)
theorem dX0_sheetAt_5 : decode cX0_sheetAt 5 = .ok (.iload_n 1, 1) := dk_27 (dk_at dksX0_sheetAt_0 5 rfl rfl)
theorem dX0_sheetAt_6 : decode cX0_sheetAt 6 = .ok (.aaload, 1) := dk_50 (dk_at dksX0_sheetAt_0 6 rfl rfl)
theorem dX0_sheetAt_7 : decode cX0_sheetAt 7 = .ok (.getfield 122, 3) := dk_180 0 122 (dk_at dksX0_sheetAt_0 7 rfl rfl)
theorem dX0_sheetAt_10 : decode cX0_sheetAt 10 = .ok (.ifnull 7, 3) := dk_198 0 7 (dk_at dksX0_sheetAt_0 10 rfl rfl)
theorem dX0_sheetAt_13 : decode cX0_sheetAt 13 = .ok (.iconst 1, 1) := dk_4 (dk_at dksX0_sheetAt_0 13 rfl rfl)
theorem dX0_sheetAt_14 : decode cX0_sheetAt 14 = .ok (.goto 4, 3) := dk_167 0 4 (dk_at dksX0_sheetAt_0 14 rfl rfl)
theorem dX0_sheetAt_17 : decode cX0_sheetAt 17 = .ok (.iconst 0, 1) := dk_3 (dk_at dksX0_sheetAt_0 17 rfl rfl)
theorem dX0_sheetAt_18 : decode cX0_sheetAt 18 = .ok (.iconst 2, 1) := dk_5 (dk_at dksX0_sheetAt_0 18 rfl rfl)
theorem dX0_sheetAt_19 : decode cX0_sheetAt 19 = .ok (.invokevirtual 126, 3) := dk_182 0 126 (dk_at dksX0_sheetAt_0 19 rfl rfl)
theorem dX0_sheetAt_22 : decode cX0_sheetAt 22 = .ok (.aload_n 0, 1) := dk_42 (dk_at dksX0_sheetAt_0 22 rfl rfl)
theorem dX0_sheetAt_23 : decode cX0_sheetAt 23 = .ok (.getfield 98, 3) := dk_180 0 98 (dk_at dksX0_sheetAt_1 0 rfl rfl)
theorem dX0_sheetAt_26 : decode cX0_sheetAt 26 = .ok (.iload_n 1, 1) := dk_27 (dk_at dksX0_sheetAt_1 3 rfl rfl)
theorem dX0_sheetAt_27 : decode cX0_sheetAt 27 = .ok (.aaload, 1) := dk_50 (dk_at dksX0_sheetAt_1 4 rfl rfl)
theorem dX0_sheetAt_28 : decode cX0_sheetAt 28 = .ok (.getfield 122, 3) := dk_180 0 122 (dk_at dksX0_sheetAt_1 5 rfl rfl)
theorem dX0_sheetAt_31 : decode cX0_sheetAt 31 = .ok (.checkcast 130, 3) := dk_192 0 130 (dk_at dksX0_sheetAt_1 8 rfl rfl)
theorem dX0_sheetAt_34 : decode cX0_sheetAt 34 = .ok (.areturn, 1) := dk_176 (dk_at dksX0_sheetAt_1 11 rfl rfl)
abbrev cX0_form : ByteArray := prog_1_method_27_code
def yX0_form : MethodName := ⟨RX0, "form", "(I)I"⟩
def dkwX0_form_3 : List UInt8 := [182, 0, 136, 172]
abbrev dktX0_form_3 : List UInt8 := dkwX0_form_3 ++ []
def dkwX0_form_2 : List UInt8 := [180, 0, 57, 180, 0, 146, 29, 27, 29, 184, 0, 165, 79, 132, 3, 1, 167, 255, 208, 28, 172, 77, 42, 44]
abbrev dktX0_form_2 : List UInt8 := dkwX0_form_2 ++ dktX0_form_3
def dkwX0_form_1 : List UInt8 := [180, 0, 57, 180, 0, 146, 29, 46, 27, 29, 184, 0, 165, 159, 0, 7, 4, 167, 0, 4, 3, 96, 61, 42]
abbrev dktX0_form_1 : List UInt8 := dkwX0_form_1 ++ dktX0_form_2
def dkwX0_form_0 : List UInt8 := [42, 27, 3, 16, 11, 184, 0, 108, 4, 182, 0, 126, 3, 61, 3, 62, 29, 16, 12, 162, 0, 48, 28, 42]
abbrev dktX0_form_0 : List UInt8 := dkwX0_form_0 ++ dktX0_form_1
theorem dksX0_form_0 : cX0_form.data.toList.drop 0 = dktX0_form_0 := by decide +kernel
theorem dksX0_form_1 : cX0_form.data.toList.drop 24 = dktX0_form_1 := dk_seg dksX0_form_0 24 rfl rfl
theorem dksX0_form_2 : cX0_form.data.toList.drop 48 = dktX0_form_2 := dk_seg dksX0_form_1 24 rfl rfl
theorem dksX0_form_3 : cX0_form.data.toList.drop 72 = dktX0_form_3 := dk_seg dksX0_form_2 24 rfl rfl
theorem dX0_form_0 : decode cX0_form 0 = .ok (.aload_n 0, 1) := dk_42 (dk_at dksX0_form_0 0 rfl rfl)
theorem dX0_form_1 : decode cX0_form 1 = .ok (.iload_n 1, 1) := dk_27 (dk_at dksX0_form_0 1 rfl rfl)
theorem dX0_form_2 : decode cX0_form 2 = .ok (.iconst 0, 1) := dk_3 (dk_at dksX0_form_0 2 rfl rfl)
theorem dX0_form_3 : decode cX0_form 3 = .ok (.bipush 11, 2) := dk_16 11 (dk_at dksX0_form_0 3 rfl rfl)
theorem dX0_form_5 : decode cX0_form 5 = .ok (.invokestatic 108, 3) := dk_184 0 108 (dk_at dksX0_form_0 5 rfl rfl)
theorem dX0_form_8 : decode cX0_form 8 = .ok (.iconst 1, 1) := dk_4 (dk_at dksX0_form_0 8 rfl rfl)
theorem dX0_form_9 : decode cX0_form 9 = .ok (.invokevirtual 126, 3) := dk_182 0 126 (dk_at dksX0_form_0 9 rfl rfl)
theorem dX0_form_12 : decode cX0_form 12 = .ok (.iconst 0, 1) := dk_3 (dk_at dksX0_form_0 12 rfl rfl)
theorem dX0_form_13 : decode cX0_form 13 = .ok (.istore_n 2, 1) := dk_61 (dk_at dksX0_form_0 13 rfl rfl)
theorem dX0_form_14 : decode cX0_form 14 = .ok (.iconst 0, 1) := dk_3 (dk_at dksX0_form_0 14 rfl rfl)
theorem dX0_form_15 : decode cX0_form 15 = .ok (.istore_n 3, 1) := dk_62 (dk_at dksX0_form_0 15 rfl rfl)
theorem dX0_form_16 : decode cX0_form 16 = .ok (.iload_n 3, 1) := dk_29 (dk_at dksX0_form_0 16 rfl rfl)
theorem dX0_form_17 : decode cX0_form 17 = .ok (.bipush 12, 2) := dk_16 12 (dk_at dksX0_form_0 17 rfl rfl)
theorem dX0_form_19 : decode cX0_form 19 = .ok (.if_icmp .ge 48, 3) := dk_162 0 48 (dk_at dksX0_form_0 19 rfl rfl)
theorem dX0_form_22 : decode cX0_form 22 = .ok (.iload_n 2, 1) := dk_28 (dk_at dksX0_form_0 22 rfl rfl)
theorem dX0_form_23 : decode cX0_form 23 = .ok (.aload_n 0, 1) := dk_42 (dk_at dksX0_form_0 23 rfl rfl)
theorem dX0_form_24 : decode cX0_form 24 = .ok (.getfield 57, 3) := dk_180 0 57 (dk_at dksX0_form_1 0 rfl rfl)
theorem dX0_form_27 : decode cX0_form 27 = .ok (.getfield 146, 3) := dk_180 0 146 (dk_at dksX0_form_1 3 rfl rfl)
theorem dX0_form_30 : decode cX0_form 30 = .ok (.iload_n 3, 1) := dk_29 (dk_at dksX0_form_1 6 rfl rfl)
theorem dX0_form_31 : decode cX0_form 31 = .ok (.iaload, 1) := dk_46 (dk_at dksX0_form_1 7 rfl rfl)
theorem dX0_form_32 : decode cX0_form 32 = .ok (.iload_n 1, 1) := dk_27 (dk_at dksX0_form_1 8 rfl rfl)
theorem dX0_form_33 : decode cX0_form 33 = .ok (.iload_n 3, 1) := dk_29 (dk_at dksX0_form_1 9 rfl rfl)
theorem dX0_form_34 : decode cX0_form 34 = .ok (.invokestatic 165, 3) := dk_184 0 165 (dk_at dksX0_form_1 10 rfl rfl)
theorem dX0_form_37 : decode cX0_form 37 = .ok (.if_icmp .eq 7, 3) := dk_159 0 7 (dk_at dksX0_form_1 13 rfl rfl)
theorem dX0_form_40 : decode cX0_form 40 = .ok (.iconst 1, 1) := dk_4 (dk_at dksX0_form_1 16 rfl rfl)
theorem dX0_form_41 : decode cX0_form 41 = .ok (.goto 4, 3) := dk_167 0 4 (dk_at dksX0_form_1 17 rfl rfl)
theorem dX0_form_44 : decode cX0_form 44 = .ok (.iconst 0, 1) := dk_3 (dk_at dksX0_form_1 20 rfl rfl)
theorem dX0_form_45 : decode cX0_form 45 = .ok (.iadd, 1) := dk_96 (dk_at dksX0_form_1 21 rfl rfl)
theorem dX0_form_46 : decode cX0_form 46 = .ok (.istore_n 2, 1) := dk_61 (dk_at dksX0_form_1 22 rfl rfl)
theorem dX0_form_47 : decode cX0_form 47 = .ok (.aload_n 0, 1) := dk_42 (dk_at dksX0_form_1 23 rfl rfl)
theorem dX0_form_48 : decode cX0_form 48 = .ok (.getfield 57, 3) := dk_180 0 57 (dk_at dksX0_form_2 0 rfl rfl)
theorem dX0_form_51 : decode cX0_form 51 = .ok (.getfield 146, 3) := dk_180 0 146 (dk_at dksX0_form_2 3 rfl rfl)
theorem dX0_form_54 : decode cX0_form 54 = .ok (.iload_n 3, 1) := dk_29 (dk_at dksX0_form_2 6 rfl rfl)
theorem dX0_form_55 : decode cX0_form 55 = .ok (.iload_n 1, 1) := dk_27 (dk_at dksX0_form_2 7 rfl rfl)
theorem dX0_form_56 : decode cX0_form 56 = .ok (.iload_n 3, 1) := dk_29 (dk_at dksX0_form_2 8 rfl rfl)
theorem dX0_form_57 : decode cX0_form 57 = .ok (.invokestatic 165, 3) := dk_184 0 165 (dk_at dksX0_form_2 9 rfl rfl)
theorem dX0_form_60 : decode cX0_form 60 = .ok (.iastore, 1) := dk_79 (dk_at dksX0_form_2 12 rfl rfl)
theorem dX0_form_61 : decode cX0_form 61 = .ok (.iinc 3 1, 3) := dk_132 3 1 (dk_at dksX0_form_2 13 rfl rfl)
theorem dX0_form_64 : decode cX0_form 64 = .ok (.goto (-48), 3) := dk_167 255 208 (dk_at dksX0_form_2 16 rfl rfl)
theorem dX0_form_67 : decode cX0_form 67 = .ok (.iload_n 2, 1) := dk_28 (dk_at dksX0_form_2 19 rfl rfl)
theorem dX0_form_68 : decode cX0_form 68 = .ok (.ireturn, 1) := dk_172 (dk_at dksX0_form_2 20 rfl rfl)
theorem dX0_form_69 : decode cX0_form 69 = .ok (.astore_n 2, 1) := dk_77 (dk_at dksX0_form_2 21 rfl rfl)
theorem dX0_form_70 : decode cX0_form 70 = .ok (.aload_n 0, 1) := dk_42 (dk_at dksX0_form_2 22 rfl rfl)
theorem dX0_form_71 : decode cX0_form 71 = .ok (.aload_n 2, 1) := dk_44 (dk_at dksX0_form_2 23 rfl rfl)
theorem dX0_form_72 : decode cX0_form 72 = .ok (.invokevirtual 136, 3) := dk_182 0 136 (dk_at dksX0_form_3 0 rfl rfl)
theorem dX0_form_75 : decode cX0_form 75 = .ok (.ireturn, 1) := dk_172 (dk_at dksX0_form_3 3 rfl rfl)
abbrev cX0_formed : ByteArray := prog_1_method_9_code
def yX0_formed : MethodName := ⟨RX0, "formed", "(II)I"⟩
def dkwX0_formed_5 : List UInt8 := [28, 29, 162, 0, 7, 5, 167, 0, 8, 26, 27, 184, 0, 24, 172]
abbrev dktX0_formed_5 : List UInt8 := dkwX0_formed_5 ++ []
def dkwX0_formed_4 : List UInt8 := [167, 0, 4, 4, 172, 28, 158, 0, 7, 4, 167, 0, 4, 5, 172, 28, 29, 164, 0, 7, 4, 167, 0, 17]
abbrev dktX0_formed_4 : List UInt8 := dkwX0_formed_4 ++ dktX0_formed_5
def dkwX0_formed_3 : List UInt8 := [154, 0, 7, 4, 167, 0, 12, 28, 154, 0, 7, 5, 167, 0, 4, 6, 172, 29, 158, 0, 7, 5]
abbrev dktX0_formed_3 : List UInt8 := dkwX0_formed_3 ++ dktX0_formed_4
def dkwX0_formed_2 : List UInt8 := [4, 172, 5, 172, 6, 172, 4, 27, 3, 184, 0, 17, 96, 172, 4, 27, 4, 184, 0, 17, 96, 172, 29]
abbrev dktX0_formed_2 : List UInt8 := dkwX0_formed_2 ++ dktX0_formed_3
def dkwX0_formed_1 : List UInt8 := [170, 0, 0, 0, 0, 0, 123, 0, 0, 0, 0, 0, 0, 0, 11, 0, 0, 0, 63, 0, 0, 0, 65, 0, 0, 0, 67, 0, 0, 0, 69, 0, 0, 0, 77, 0, 0, 0, 123, 0, 0, 0, 123, 0, 0, 0, 123, 0, 0, 0, 123, 0, 0, 0, 85, 0, 0, 0, 103, 0, 0, 0, 113]
abbrev dktX0_formed_1 : List UInt8 := dkwX0_formed_1 ++ dktX0_formed_2
def dkwX0_formed_0 : List UInt8 := [27, 3, 184, 0, 21, 61, 27, 4, 184, 0, 21, 62, 26]
abbrev dktX0_formed_0 : List UInt8 := dkwX0_formed_0 ++ dktX0_formed_1
theorem dksX0_formed_0 : cX0_formed.data.toList.drop 0 = dktX0_formed_0 := by decide +kernel
theorem dksX0_formed_1 : cX0_formed.data.toList.drop 13 = dktX0_formed_1 := dk_seg dksX0_formed_0 13 rfl rfl
theorem dksX0_formed_2 : cX0_formed.data.toList.drop 76 = dktX0_formed_2 := dk_seg dksX0_formed_1 63 rfl rfl
theorem dksX0_formed_3 : cX0_formed.data.toList.drop 99 = dktX0_formed_3 := dk_seg dksX0_formed_2 23 rfl rfl
theorem dksX0_formed_4 : cX0_formed.data.toList.drop 121 = dktX0_formed_4 := dk_seg dksX0_formed_3 22 rfl rfl
theorem dksX0_formed_5 : cX0_formed.data.toList.drop 145 = dktX0_formed_5 := dk_seg dksX0_formed_4 24 rfl rfl
theorem dX0_formed_0 : decode cX0_formed 0 = .ok (.iload_n 1, 1) := dk_27 (dk_at dksX0_formed_0 0 rfl rfl)
theorem dX0_formed_1 : decode cX0_formed 1 = .ok (.iconst 0, 1) := dk_3 (dk_at dksX0_formed_0 1 rfl rfl)
theorem dX0_formed_2 : decode cX0_formed 2 = .ok (.invokestatic 21, 3) := dk_184 0 21 (dk_at dksX0_formed_0 2 rfl rfl)
theorem dX0_formed_5 : decode cX0_formed 5 = .ok (.istore_n 2, 1) := dk_61 (dk_at dksX0_formed_0 5 rfl rfl)
theorem dX0_formed_6 : decode cX0_formed 6 = .ok (.iload_n 1, 1) := dk_27 (dk_at dksX0_formed_0 6 rfl rfl)
theorem dX0_formed_7 : decode cX0_formed 7 = .ok (.iconst 1, 1) := dk_4 (dk_at dksX0_formed_0 7 rfl rfl)
theorem dX0_formed_8 : decode cX0_formed 8 = .ok (.invokestatic 21, 3) := dk_184 0 21 (dk_at dksX0_formed_0 8 rfl rfl)
theorem dX0_formed_11 : decode cX0_formed 11 = .ok (.istore_n 3, 1) := dk_62 (dk_at dksX0_formed_0 11 rfl rfl)
theorem dX0_formed_12 : decode cX0_formed 12 = .ok (.iload_n 0, 1) := dk_26 (dk_at dksX0_formed_0 12 rfl rfl)
theorem dX0_formed_13 : decode cX0_formed 13 = .ok (.tableswitch 123 0 11 #[63, 65, 67, 69, 77, 123, 123, 123, 123, 85, 103, 113], 63) := by decide +kernel
theorem dX0_formed_76 : decode cX0_formed 76 = .ok (.iconst 1, 1) := dk_4 (dk_at dksX0_formed_2 0 rfl rfl)
theorem dX0_formed_77 : decode cX0_formed 77 = .ok (.ireturn, 1) := dk_172 (dk_at dksX0_formed_2 1 rfl rfl)
theorem dX0_formed_78 : decode cX0_formed 78 = .ok (.iconst 2, 1) := dk_5 (dk_at dksX0_formed_2 2 rfl rfl)
theorem dX0_formed_79 : decode cX0_formed 79 = .ok (.ireturn, 1) := dk_172 (dk_at dksX0_formed_2 3 rfl rfl)
theorem dX0_formed_80 : decode cX0_formed 80 = .ok (.iconst 3, 1) := dk_6 (dk_at dksX0_formed_2 4 rfl rfl)
theorem dX0_formed_81 : decode cX0_formed 81 = .ok (.ireturn, 1) := dk_172 (dk_at dksX0_formed_2 5 rfl rfl)
theorem dX0_formed_82 : decode cX0_formed 82 = .ok (.iconst 1, 1) := dk_4 (dk_at dksX0_formed_2 6 rfl rfl)
theorem dX0_formed_83 : decode cX0_formed 83 = .ok (.iload_n 1, 1) := dk_27 (dk_at dksX0_formed_2 7 rfl rfl)
theorem dX0_formed_84 : decode cX0_formed 84 = .ok (.iconst 0, 1) := dk_3 (dk_at dksX0_formed_2 8 rfl rfl)
theorem dX0_formed_85 : decode cX0_formed 85 = .ok (.invokestatic 17, 3) := dk_184 0 17 (dk_at dksX0_formed_2 9 rfl rfl)
theorem dX0_formed_88 : decode cX0_formed 88 = .ok (.iadd, 1) := dk_96 (dk_at dksX0_formed_2 12 rfl rfl)
theorem dX0_formed_89 : decode cX0_formed 89 = .ok (.ireturn, 1) := dk_172 (dk_at dksX0_formed_2 13 rfl rfl)
theorem dX0_formed_90 : decode cX0_formed 90 = .ok (.iconst 1, 1) := dk_4 (dk_at dksX0_formed_2 14 rfl rfl)
theorem dX0_formed_91 : decode cX0_formed 91 = .ok (.iload_n 1, 1) := dk_27 (dk_at dksX0_formed_2 15 rfl rfl)
theorem dX0_formed_92 : decode cX0_formed 92 = .ok (.iconst 1, 1) := dk_4 (dk_at dksX0_formed_2 16 rfl rfl)
theorem dX0_formed_93 : decode cX0_formed 93 = .ok (.invokestatic 17, 3) := dk_184 0 17 (dk_at dksX0_formed_2 17 rfl rfl)
theorem dX0_formed_96 : decode cX0_formed 96 = .ok (.iadd, 1) := dk_96 (dk_at dksX0_formed_2 20 rfl rfl)
theorem dX0_formed_97 : decode cX0_formed 97 = .ok (.ireturn, 1) := dk_172 (dk_at dksX0_formed_2 21 rfl rfl)
theorem dX0_formed_98 : decode cX0_formed 98 = .ok (.iload_n 3, 1) := dk_29 (dk_at dksX0_formed_2 22 rfl rfl)
theorem dX0_formed_99 : decode cX0_formed 99 = .ok (.ifCond .ne 7, 3) := dk_154 0 7 (dk_at dksX0_formed_3 0 rfl rfl)
theorem dX0_formed_102 : decode cX0_formed 102 = .ok (.iconst 1, 1) := dk_4 (dk_at dksX0_formed_3 3 rfl rfl)
theorem dX0_formed_103 : decode cX0_formed 103 = .ok (.goto 12, 3) := dk_167 0 12 (dk_at dksX0_formed_3 4 rfl rfl)
theorem dX0_formed_106 : decode cX0_formed 106 = .ok (.iload_n 2, 1) := dk_28 (dk_at dksX0_formed_3 7 rfl rfl)
theorem dX0_formed_107 : decode cX0_formed 107 = .ok (.ifCond .ne 7, 3) := dk_154 0 7 (dk_at dksX0_formed_3 8 rfl rfl)
theorem dX0_formed_110 : decode cX0_formed 110 = .ok (.iconst 2, 1) := dk_5 (dk_at dksX0_formed_3 11 rfl rfl)
theorem dX0_formed_111 : decode cX0_formed 111 = .ok (.goto 4, 3) := dk_167 0 4 (dk_at dksX0_formed_3 12 rfl rfl)
theorem dX0_formed_114 : decode cX0_formed 114 = .ok (.iconst 3, 1) := dk_6 (dk_at dksX0_formed_3 15 rfl rfl)
theorem dX0_formed_115 : decode cX0_formed 115 = .ok (.ireturn, 1) := dk_172 (dk_at dksX0_formed_3 16 rfl rfl)
theorem dX0_formed_116 : decode cX0_formed 116 = .ok (.iload_n 3, 1) := dk_29 (dk_at dksX0_formed_3 17 rfl rfl)
theorem dX0_formed_117 : decode cX0_formed 117 = .ok (.ifCond .le 7, 3) := dk_158 0 7 (dk_at dksX0_formed_3 18 rfl rfl)
theorem dX0_formed_120 : decode cX0_formed 120 = .ok (.iconst 2, 1) := dk_5 (dk_at dksX0_formed_3 21 rfl rfl)
theorem dX0_formed_121 : decode cX0_formed 121 = .ok (.goto 4, 3) := dk_167 0 4 (dk_at dksX0_formed_4 0 rfl rfl)
theorem dX0_formed_124 : decode cX0_formed 124 = .ok (.iconst 1, 1) := dk_4 (dk_at dksX0_formed_4 3 rfl rfl)
theorem dX0_formed_125 : decode cX0_formed 125 = .ok (.ireturn, 1) := dk_172 (dk_at dksX0_formed_4 4 rfl rfl)
theorem dX0_formed_126 : decode cX0_formed 126 = .ok (.iload_n 2, 1) := dk_28 (dk_at dksX0_formed_4 5 rfl rfl)
theorem dX0_formed_127 : decode cX0_formed 127 = .ok (.ifCond .le 7, 3) := dk_158 0 7 (dk_at dksX0_formed_4 6 rfl rfl)
theorem dX0_formed_130 : decode cX0_formed 130 = .ok (.iconst 1, 1) := dk_4 (dk_at dksX0_formed_4 9 rfl rfl)
theorem dX0_formed_131 : decode cX0_formed 131 = .ok (.goto 4, 3) := dk_167 0 4 (dk_at dksX0_formed_4 10 rfl rfl)
theorem dX0_formed_134 : decode cX0_formed 134 = .ok (.iconst 2, 1) := dk_5 (dk_at dksX0_formed_4 13 rfl rfl)
theorem dX0_formed_135 : decode cX0_formed 135 = .ok (.ireturn, 1) := dk_172 (dk_at dksX0_formed_4 14 rfl rfl)
theorem dX0_formed_136 : decode cX0_formed 136 = .ok (.iload_n 2, 1) := dk_28 (dk_at dksX0_formed_4 15 rfl rfl)
theorem dX0_formed_137 : decode cX0_formed 137 = .ok (.iload_n 3, 1) := dk_29 (dk_at dksX0_formed_4 16 rfl rfl)
theorem dX0_formed_138 : decode cX0_formed 138 = .ok (.if_icmp .le 7, 3) := dk_164 0 7 (dk_at dksX0_formed_4 17 rfl rfl)
theorem dX0_formed_141 : decode cX0_formed 141 = .ok (.iconst 1, 1) := dk_4 (dk_at dksX0_formed_4 20 rfl rfl)
theorem dX0_formed_142 : decode cX0_formed 142 = .ok (.goto 17, 3) := dk_167 0 17 (dk_at dksX0_formed_4 21 rfl rfl)
theorem dX0_formed_145 : decode cX0_formed 145 = .ok (.iload_n 2, 1) := dk_28 (dk_at dksX0_formed_5 0 rfl rfl)
theorem dX0_formed_146 : decode cX0_formed 146 = .ok (.iload_n 3, 1) := dk_29 (dk_at dksX0_formed_5 1 rfl rfl)
theorem dX0_formed_147 : decode cX0_formed 147 = .ok (.if_icmp .ge 7, 3) := dk_162 0 7 (dk_at dksX0_formed_5 2 rfl rfl)
theorem dX0_formed_150 : decode cX0_formed 150 = .ok (.iconst 2, 1) := dk_5 (dk_at dksX0_formed_5 5 rfl rfl)
theorem dX0_formed_151 : decode cX0_formed 151 = .ok (.goto 8, 3) := dk_167 0 8 (dk_at dksX0_formed_5 6 rfl rfl)
theorem dX0_formed_154 : decode cX0_formed 154 = .ok (.iload_n 0, 1) := dk_26 (dk_at dksX0_formed_5 9 rfl rfl)
theorem dX0_formed_155 : decode cX0_formed 155 = .ok (.iload_n 1, 1) := dk_27 (dk_at dksX0_formed_5 10 rfl rfl)
theorem dX0_formed_156 : decode cX0_formed 156 = .ok (.invokestatic 24, 3) := dk_184 0 24 (dk_at dksX0_formed_5 11 rfl rfl)
theorem dX0_formed_159 : decode cX0_formed 159 = .ok (.ireturn, 1) := dk_172 (dk_at dksX0_formed_5 14 rfl rfl)
abbrev cX0_evenly : ByteArray := prog_1_method_10_code
def yX0_evenly : MethodName := ⟨RX0, "evenly", "(II)I"⟩
def dkwX0_evenly_2 : List UInt8 := [6, 172, 4, 172, 5, 172, 4, 27, 3, 184, 0, 17, 96, 172]
abbrev dktX0_evenly_2 : List UInt8 := dkwX0_evenly_2 ++ []
def dkwX0_evenly_1 : List UInt8 := [170, 0, 0, 0, 0, 0, 33, 0, 0, 0, 5, 0, 0, 0, 7, 0, 0, 0, 27, 0, 0, 0, 29, 0, 0, 0, 31]
abbrev dktX0_evenly_1 : List UInt8 := dkwX0_evenly_1 ++ dktX0_evenly_2
def dkwX0_evenly_0 : List UInt8 := [26]
abbrev dktX0_evenly_0 : List UInt8 := dkwX0_evenly_0 ++ dktX0_evenly_1
theorem dksX0_evenly_0 : cX0_evenly.data.toList.drop 0 = dktX0_evenly_0 := by decide +kernel
theorem dksX0_evenly_1 : cX0_evenly.data.toList.drop 1 = dktX0_evenly_1 := dk_seg dksX0_evenly_0 1 rfl rfl
theorem dksX0_evenly_2 : cX0_evenly.data.toList.drop 28 = dktX0_evenly_2 := dk_seg dksX0_evenly_1 27 rfl rfl
theorem dX0_evenly_0 : decode cX0_evenly 0 = .ok (.iload_n 0, 1) := dk_26 (dk_at dksX0_evenly_0 0 rfl rfl)
theorem dX0_evenly_1 : decode cX0_evenly 1 = .ok (.tableswitch 33 5 7 #[27, 29, 31], 27) := by decide +kernel
theorem dX0_evenly_28 : decode cX0_evenly 28 = .ok (.iconst 3, 1) := dk_6 (dk_at dksX0_evenly_2 0 rfl rfl)
theorem dX0_evenly_29 : decode cX0_evenly 29 = .ok (.ireturn, 1) := dk_172 (dk_at dksX0_evenly_2 1 rfl rfl)
theorem dX0_evenly_30 : decode cX0_evenly 30 = .ok (.iconst 1, 1) := dk_4 (dk_at dksX0_evenly_2 2 rfl rfl)
theorem dX0_evenly_31 : decode cX0_evenly 31 = .ok (.ireturn, 1) := dk_172 (dk_at dksX0_evenly_2 3 rfl rfl)
theorem dX0_evenly_32 : decode cX0_evenly 32 = .ok (.iconst 2, 1) := dk_5 (dk_at dksX0_evenly_2 4 rfl rfl)
theorem dX0_evenly_33 : decode cX0_evenly 33 = .ok (.ireturn, 1) := dk_172 (dk_at dksX0_evenly_2 5 rfl rfl)
theorem dX0_evenly_34 : decode cX0_evenly 34 = .ok (.iconst 1, 1) := dk_4 (dk_at dksX0_evenly_2 6 rfl rfl)
theorem dX0_evenly_35 : decode cX0_evenly 35 = .ok (.iload_n 1, 1) := dk_27 (dk_at dksX0_evenly_2 7 rfl rfl)
theorem dX0_evenly_36 : decode cX0_evenly 36 = .ok (.iconst 0, 1) := dk_3 (dk_at dksX0_evenly_2 8 rfl rfl)
theorem dX0_evenly_37 : decode cX0_evenly 37 = .ok (.invokestatic 17, 3) := dk_184 0 17 (dk_at dksX0_evenly_2 9 rfl rfl)
theorem dX0_evenly_40 : decode cX0_evenly 40 = .ok (.iadd, 1) := dk_96 (dk_at dksX0_evenly_2 12 rfl rfl)
theorem dX0_evenly_41 : decode cX0_evenly 41 = .ok (.ireturn, 1) := dk_172 (dk_at dksX0_evenly_2 13 rfl rfl)
abbrev cX0_feed : ByteArray := prog_1_method_28_code
def yX0_feed : MethodName := ⟨RX0, "feed", "(JI)I"⟩
def dkwX0_feed_4 : List UInt8 := [180, 0, 168, 172, 58, 4, 42, 25, 4, 182, 0, 136, 172]
abbrev dktX0_feed_4 : List UInt8 := dkwX0_feed_4 ++ []
def dkwX0_feed_3 : List UInt8 := [180, 0, 57, 89, 180, 0, 168, 4, 96, 181, 0, 168, 132, 4, 1, 167, 255, 210, 42, 180, 0, 57]
abbrev dktX0_feed_3 : List UInt8 := dkwX0_feed_3 ++ dktX0_feed_4
def dkwX0_feed_2 : List UInt8 := [180, 0, 57, 180, 0, 171, 42, 180, 0, 57, 180, 0, 168, 31, 16, 8, 21, 4, 104, 123, 136, 145, 84, 42]
abbrev dktX0_feed_2 : List UInt8 := dkwX0_feed_2 ++ dktX0_feed_3
def dkwX0_feed_1 : List UInt8 := [163, 0, 7, 4, 167, 0, 4, 3, 7, 182, 0, 126, 3, 54, 4, 21, 4, 29, 162, 0, 46, 42]
abbrev dktX0_feed_1 : List UInt8 := dkwX0_feed_1 ++ dktX0_feed_2
def dkwX0_feed_0 : List UInt8 := [42, 29, 4, 16, 8, 184, 0, 108, 4, 182, 0, 126, 42, 42, 180, 0, 57, 180, 0, 168, 29, 96, 16, 50]
abbrev dktX0_feed_0 : List UInt8 := dkwX0_feed_0 ++ dktX0_feed_1
theorem dksX0_feed_0 : cX0_feed.data.toList.drop 0 = dktX0_feed_0 := by decide +kernel
theorem dksX0_feed_1 : cX0_feed.data.toList.drop 24 = dktX0_feed_1 := dk_seg dksX0_feed_0 24 rfl rfl
theorem dksX0_feed_2 : cX0_feed.data.toList.drop 46 = dktX0_feed_2 := dk_seg dksX0_feed_1 22 rfl rfl
theorem dksX0_feed_3 : cX0_feed.data.toList.drop 70 = dktX0_feed_3 := dk_seg dksX0_feed_2 24 rfl rfl
theorem dksX0_feed_4 : cX0_feed.data.toList.drop 92 = dktX0_feed_4 := dk_seg dksX0_feed_3 22 rfl rfl
theorem dX0_feed_0 : decode cX0_feed 0 = .ok (.aload_n 0, 1) := dk_42 (dk_at dksX0_feed_0 0 rfl rfl)
theorem dX0_feed_1 : decode cX0_feed 1 = .ok (.iload_n 3, 1) := dk_29 (dk_at dksX0_feed_0 1 rfl rfl)
theorem dX0_feed_2 : decode cX0_feed 2 = .ok (.iconst 1, 1) := dk_4 (dk_at dksX0_feed_0 2 rfl rfl)
theorem dX0_feed_3 : decode cX0_feed 3 = .ok (.bipush 8, 2) := dk_16 8 (dk_at dksX0_feed_0 3 rfl rfl)
theorem dX0_feed_5 : decode cX0_feed 5 = .ok (.invokestatic 108, 3) := dk_184 0 108 (dk_at dksX0_feed_0 5 rfl rfl)
theorem dX0_feed_8 : decode cX0_feed 8 = .ok (.iconst 1, 1) := dk_4 (dk_at dksX0_feed_0 8 rfl rfl)
theorem dX0_feed_9 : decode cX0_feed 9 = .ok (.invokevirtual 126, 3) := dk_182 0 126 (dk_at dksX0_feed_0 9 rfl rfl)
theorem dX0_feed_12 : decode cX0_feed 12 = .ok (.aload_n 0, 1) := dk_42 (dk_at dksX0_feed_0 12 rfl rfl)
theorem dX0_feed_13 : decode cX0_feed 13 = .ok (.aload_n 0, 1) := dk_42 (dk_at dksX0_feed_0 13 rfl rfl)
theorem dX0_feed_14 : decode cX0_feed 14 = .ok (.getfield 57, 3) := dk_180 0 57 (dk_at dksX0_feed_0 14 rfl rfl)
theorem dX0_feed_17 : decode cX0_feed 17 = .ok (.getfield 168, 3) := dk_180 0 168 (dk_at dksX0_feed_0 17 rfl rfl)
theorem dX0_feed_20 : decode cX0_feed 20 = .ok (.iload_n 3, 1) := dk_29 (dk_at dksX0_feed_0 20 rfl rfl)
theorem dX0_feed_21 : decode cX0_feed 21 = .ok (.iadd, 1) := dk_96 (dk_at dksX0_feed_0 21 rfl rfl)
theorem dX0_feed_22 : decode cX0_feed 22 = .ok (.bipush 50, 2) := dk_16 50 (dk_at dksX0_feed_0 22 rfl rfl)
theorem dX0_feed_24 : decode cX0_feed 24 = .ok (.if_icmp .gt 7, 3) := dk_163 0 7 (dk_at dksX0_feed_1 0 rfl rfl)
theorem dX0_feed_27 : decode cX0_feed 27 = .ok (.iconst 1, 1) := dk_4 (dk_at dksX0_feed_1 3 rfl rfl)
theorem dX0_feed_28 : decode cX0_feed 28 = .ok (.goto 4, 3) := dk_167 0 4 (dk_at dksX0_feed_1 4 rfl rfl)
theorem dX0_feed_31 : decode cX0_feed 31 = .ok (.iconst 0, 1) := dk_3 (dk_at dksX0_feed_1 7 rfl rfl)
theorem dX0_feed_32 : decode cX0_feed 32 = .ok (.iconst 4, 1) := dk_7 (dk_at dksX0_feed_1 8 rfl rfl)
theorem dX0_feed_33 : decode cX0_feed 33 = .ok (.invokevirtual 126, 3) := dk_182 0 126 (dk_at dksX0_feed_1 9 rfl rfl)
theorem dX0_feed_36 : decode cX0_feed 36 = .ok (.iconst 0, 1) := dk_3 (dk_at dksX0_feed_1 12 rfl rfl)
theorem dX0_feed_37 : decode cX0_feed 37 = .ok (.istore 4, 2) := dk_54 4 (dk_at dksX0_feed_1 13 rfl rfl)
theorem dX0_feed_39 : decode cX0_feed 39 = .ok (.iload 4, 2) := dk_21 4 (dk_at dksX0_feed_1 15 rfl rfl)
theorem dX0_feed_41 : decode cX0_feed 41 = .ok (.iload_n 3, 1) := dk_29 (dk_at dksX0_feed_1 17 rfl rfl)
theorem dX0_feed_42 : decode cX0_feed 42 = .ok (.if_icmp .ge 46, 3) := dk_162 0 46 (dk_at dksX0_feed_1 18 rfl rfl)
theorem dX0_feed_45 : decode cX0_feed 45 = .ok (.aload_n 0, 1) := dk_42 (dk_at dksX0_feed_1 21 rfl rfl)
theorem dX0_feed_46 : decode cX0_feed 46 = .ok (.getfield 57, 3) := dk_180 0 57 (dk_at dksX0_feed_2 0 rfl rfl)
theorem dX0_feed_49 : decode cX0_feed 49 = .ok (.getfield 171, 3) := dk_180 0 171 (dk_at dksX0_feed_2 3 rfl rfl)
theorem dX0_feed_52 : decode cX0_feed 52 = .ok (.aload_n 0, 1) := dk_42 (dk_at dksX0_feed_2 6 rfl rfl)
theorem dX0_feed_53 : decode cX0_feed 53 = .ok (.getfield 57, 3) := dk_180 0 57 (dk_at dksX0_feed_2 7 rfl rfl)
theorem dX0_feed_56 : decode cX0_feed 56 = .ok (.getfield 168, 3) := dk_180 0 168 (dk_at dksX0_feed_2 10 rfl rfl)
theorem dX0_feed_59 : decode cX0_feed 59 = .ok (.lload_n 1, 1) := dk_31 (dk_at dksX0_feed_2 13 rfl rfl)
theorem dX0_feed_60 : decode cX0_feed 60 = .ok (.bipush 8, 2) := dk_16 8 (dk_at dksX0_feed_2 14 rfl rfl)
theorem dX0_feed_62 : decode cX0_feed 62 = .ok (.iload 4, 2) := dk_21 4 (dk_at dksX0_feed_2 16 rfl rfl)
theorem dX0_feed_64 : decode cX0_feed 64 = .ok (.imul, 1) := dk_104 (dk_at dksX0_feed_2 18 rfl rfl)
theorem dX0_feed_65 : decode cX0_feed 65 = .ok (.lshr, 1) := dk_123 (dk_at dksX0_feed_2 19 rfl rfl)
theorem dX0_feed_66 : decode cX0_feed 66 = .ok (.l2i, 1) := dk_136 (dk_at dksX0_feed_2 20 rfl rfl)
theorem dX0_feed_67 : decode cX0_feed 67 = .ok (.i2b, 1) := dk_145 (dk_at dksX0_feed_2 21 rfl rfl)
theorem dX0_feed_68 : decode cX0_feed 68 = .ok (.bastore, 1) := dk_84 (dk_at dksX0_feed_2 22 rfl rfl)
theorem dX0_feed_69 : decode cX0_feed 69 = .ok (.aload_n 0, 1) := dk_42 (dk_at dksX0_feed_2 23 rfl rfl)
theorem dX0_feed_70 : decode cX0_feed 70 = .ok (.getfield 57, 3) := dk_180 0 57 (dk_at dksX0_feed_3 0 rfl rfl)
theorem dX0_feed_73 : decode cX0_feed 73 = .ok (.dup, 1) := dk_89 (dk_at dksX0_feed_3 3 rfl rfl)
theorem dX0_feed_74 : decode cX0_feed 74 = .ok (.getfield 168, 3) := dk_180 0 168 (dk_at dksX0_feed_3 4 rfl rfl)
theorem dX0_feed_77 : decode cX0_feed 77 = .ok (.iconst 1, 1) := dk_4 (dk_at dksX0_feed_3 7 rfl rfl)
theorem dX0_feed_78 : decode cX0_feed 78 = .ok (.iadd, 1) := dk_96 (dk_at dksX0_feed_3 8 rfl rfl)
theorem dX0_feed_79 : decode cX0_feed 79 = .ok (.putfield 168, 3) := dk_181 0 168 (dk_at dksX0_feed_3 9 rfl rfl)
theorem dX0_feed_82 : decode cX0_feed 82 = .ok (.iinc 4 1, 3) := dk_132 4 1 (dk_at dksX0_feed_3 12 rfl rfl)
theorem dX0_feed_85 : decode cX0_feed 85 = .ok (.goto (-46), 3) := dk_167 255 210 (dk_at dksX0_feed_3 15 rfl rfl)
theorem dX0_feed_88 : decode cX0_feed 88 = .ok (.aload_n 0, 1) := dk_42 (dk_at dksX0_feed_3 18 rfl rfl)
theorem dX0_feed_89 : decode cX0_feed 89 = .ok (.getfield 57, 3) := dk_180 0 57 (dk_at dksX0_feed_3 19 rfl rfl)
theorem dX0_feed_92 : decode cX0_feed 92 = .ok (.getfield 168, 3) := dk_180 0 168 (dk_at dksX0_feed_4 0 rfl rfl)
theorem dX0_feed_95 : decode cX0_feed 95 = .ok (.ireturn, 1) := dk_172 (dk_at dksX0_feed_4 3 rfl rfl)
theorem dX0_feed_96 : decode cX0_feed 96 = .ok (.astore 4, 2) := dk_58 4 (dk_at dksX0_feed_4 4 rfl rfl)
theorem dX0_feed_98 : decode cX0_feed 98 = .ok (.aload_n 0, 1) := dk_42 (dk_at dksX0_feed_4 6 rfl rfl)
theorem dX0_feed_99 : decode cX0_feed 99 = .ok (.aload 4, 2) := dk_25 4 (dk_at dksX0_feed_4 7 rfl rfl)
theorem dX0_feed_101 : decode cX0_feed 101 = .ok (.invokevirtual 136, 3) := dk_182 0 136 (dk_at dksX0_feed_4 9 rfl rfl)
theorem dX0_feed_104 : decode cX0_feed 104 = .ok (.ireturn, 1) := dk_172 (dk_at dksX0_feed_4 12 rfl rfl)
abbrev cX0_law : ByteArray := prog_1_method_30_code
def yX0_law : MethodName := ⟨RX0, "law", "(II)I"⟩
def dkwX0_law_5 : List UInt8 := [172]
abbrev dktX0_law_5 : List UInt8 := dkwX0_law_5 ++ []
def dkwX0_law_4 : List UInt8 := [180, 0, 112, 182, 0, 116, 4, 100, 172, 78, 16, 246, 45, 180, 0, 213, 100, 172, 78, 42, 45, 182, 0, 136]
abbrev dktX0_law_4 : List UInt8 := dkwX0_law_4 ++ dktX0_law_5
def dkwX0_law_3 : List UInt8 := [180, 0, 57, 180, 0, 112, 182, 0, 116, 28, 184, 0, 200, 182, 0, 204, 182, 0, 207, 87, 42, 180, 0, 57]
abbrev dktX0_law_3 : List UInt8 := dkwX0_law_3 ++ dktX0_law_4
def dkwX0_law_2 : List UInt8 := [167, 0, 4, 3, 7, 182, 0, 126, 42, 180, 0, 57, 180, 0, 112, 42, 27, 42, 180, 0, 64, 42]
abbrev dktX0_law_2 : List UInt8 := dkwX0_law_2 ++ dktX0_law_3
def dkwX0_law_1 : List UInt8 := [3, 4, 182, 0, 126, 42, 42, 180, 0, 57, 180, 0, 112, 182, 0, 116, 16, 8, 162, 0, 7, 4]
abbrev dktX0_law_1 : List UInt8 := dkwX0_law_1 ++ dktX0_law_2
def dkwX0_law_0 : List UInt8 := [42, 27, 3, 8, 184, 0, 108, 153, 0, 17, 28, 3, 16, 99, 184, 0, 108, 153, 0, 7, 4, 167, 0, 4]
abbrev dktX0_law_0 : List UInt8 := dkwX0_law_0 ++ dktX0_law_1
theorem dksX0_law_0 : cX0_law.data.toList.drop 0 = dktX0_law_0 := by decide +kernel
theorem dksX0_law_1 : cX0_law.data.toList.drop 24 = dktX0_law_1 := dk_seg dksX0_law_0 24 rfl rfl
theorem dksX0_law_2 : cX0_law.data.toList.drop 46 = dktX0_law_2 := dk_seg dksX0_law_1 22 rfl rfl
theorem dksX0_law_3 : cX0_law.data.toList.drop 68 = dktX0_law_3 := dk_seg dksX0_law_2 22 rfl rfl
theorem dksX0_law_4 : cX0_law.data.toList.drop 92 = dktX0_law_4 := dk_seg dksX0_law_3 24 rfl rfl
theorem dksX0_law_5 : cX0_law.data.toList.drop 116 = dktX0_law_5 := dk_seg dksX0_law_4 24 rfl rfl
theorem dX0_law_0 : decode cX0_law 0 = .ok (.aload_n 0, 1) := dk_42 (dk_at dksX0_law_0 0 rfl rfl)
theorem dX0_law_1 : decode cX0_law 1 = .ok (.iload_n 1, 1) := dk_27 (dk_at dksX0_law_0 1 rfl rfl)
theorem dX0_law_2 : decode cX0_law 2 = .ok (.iconst 0, 1) := dk_3 (dk_at dksX0_law_0 2 rfl rfl)
theorem dX0_law_3 : decode cX0_law 3 = .ok (.iconst 5, 1) := dk_8 (dk_at dksX0_law_0 3 rfl rfl)
theorem dX0_law_4 : decode cX0_law 4 = .ok (.invokestatic 108, 3) := dk_184 0 108 (dk_at dksX0_law_0 4 rfl rfl)
theorem dX0_law_7 : decode cX0_law 7 = .ok (.ifCond .eq 17, 3) := dk_153 0 17 (dk_at dksX0_law_0 7 rfl rfl)
theorem dX0_law_10 : decode cX0_law 10 = .ok (.iload_n 2, 1) := dk_28 (dk_at dksX0_law_0 10 rfl rfl)
theorem dX0_law_11 : decode cX0_law 11 = .ok (.iconst 0, 1) := dk_3 (dk_at dksX0_law_0 11 rfl rfl)
theorem dX0_law_12 : decode cX0_law 12 = .ok (.bipush 99, 2) := dk_16 99 (dk_at dksX0_law_0 12 rfl rfl)
theorem dX0_law_14 : decode cX0_law 14 = .ok (.invokestatic 108, 3) := dk_184 0 108 (dk_at dksX0_law_0 14 rfl rfl)
theorem dX0_law_17 : decode cX0_law 17 = .ok (.ifCond .eq 7, 3) := dk_153 0 7 (dk_at dksX0_law_0 17 rfl rfl)
theorem dX0_law_20 : decode cX0_law 20 = .ok (.iconst 1, 1) := dk_4 (dk_at dksX0_law_0 20 rfl rfl)
theorem dX0_law_21 : decode cX0_law 21 = .ok (.goto 4, 3) := dk_167 0 4 (dk_at dksX0_law_0 21 rfl rfl)
theorem dX0_law_24 : decode cX0_law 24 = .ok (.iconst 0, 1) := dk_3 (dk_at dksX0_law_1 0 rfl rfl)
theorem dX0_law_25 : decode cX0_law 25 = .ok (.iconst 1, 1) := dk_4 (dk_at dksX0_law_1 1 rfl rfl)
theorem dX0_law_26 : decode cX0_law 26 = .ok (.invokevirtual 126, 3) := dk_182 0 126 (dk_at dksX0_law_1 2 rfl rfl)
theorem dX0_law_29 : decode cX0_law 29 = .ok (.aload_n 0, 1) := dk_42 (dk_at dksX0_law_1 5 rfl rfl)
theorem dX0_law_30 : decode cX0_law 30 = .ok (.aload_n 0, 1) := dk_42 (dk_at dksX0_law_1 6 rfl rfl)
theorem dX0_law_31 : decode cX0_law 31 = .ok (.getfield 57, 3) := dk_180 0 57 (dk_at dksX0_law_1 7 rfl rfl)
theorem dX0_law_34 : decode cX0_law 34 = .ok (.getfield 112, 3) := dk_180 0 112 (dk_at dksX0_law_1 10 rfl rfl)
theorem dX0_law_37 : decode cX0_law 37 = .ok (.invokevirtual 116, 3) := dk_182 0 116 (dk_at dksX0_law_1 13 rfl rfl)
theorem dX0_law_40 : decode cX0_law 40 = .ok (.bipush 8, 2) := dk_16 8 (dk_at dksX0_law_1 16 rfl rfl)
theorem dX0_law_42 : decode cX0_law 42 = .ok (.if_icmp .ge 7, 3) := dk_162 0 7 (dk_at dksX0_law_1 18 rfl rfl)
theorem dX0_law_45 : decode cX0_law 45 = .ok (.iconst 1, 1) := dk_4 (dk_at dksX0_law_1 21 rfl rfl)
theorem dX0_law_46 : decode cX0_law 46 = .ok (.goto 4, 3) := dk_167 0 4 (dk_at dksX0_law_2 0 rfl rfl)
theorem dX0_law_49 : decode cX0_law 49 = .ok (.iconst 0, 1) := dk_3 (dk_at dksX0_law_2 3 rfl rfl)
theorem dX0_law_50 : decode cX0_law 50 = .ok (.iconst 4, 1) := dk_7 (dk_at dksX0_law_2 4 rfl rfl)
theorem dX0_law_51 : decode cX0_law 51 = .ok (.invokevirtual 126, 3) := dk_182 0 126 (dk_at dksX0_law_2 5 rfl rfl)
theorem dX0_law_54 : decode cX0_law 54 = .ok (.aload_n 0, 1) := dk_42 (dk_at dksX0_law_2 8 rfl rfl)
theorem dX0_law_55 : decode cX0_law 55 = .ok (.getfield 57, 3) := dk_180 0 57 (dk_at dksX0_law_2 9 rfl rfl)
theorem dX0_law_58 : decode cX0_law 58 = .ok (.getfield 112, 3) := dk_180 0 112 (dk_at dksX0_law_2 12 rfl rfl)
theorem dX0_law_61 : decode cX0_law 61 = .ok (.aload_n 0, 1) := dk_42 (dk_at dksX0_law_2 15 rfl rfl)
theorem dX0_law_62 : decode cX0_law 62 = .ok (.iload_n 1, 1) := dk_27 (dk_at dksX0_law_2 16 rfl rfl)
theorem dX0_law_63 : decode cX0_law 63 = .ok (.aload_n 0, 1) := dk_42 (dk_at dksX0_law_2 17 rfl rfl)
theorem dX0_law_64 : decode cX0_law 64 = .ok (.getfield 64, 3) := dk_180 0 64 (dk_at dksX0_law_2 18 rfl rfl)
theorem dX0_law_67 : decode cX0_law 67 = .ok (.aload_n 0, 1) := dk_42 (dk_at dksX0_law_2 21 rfl rfl)
theorem dX0_law_68 : decode cX0_law 68 = .ok (.getfield 57, 3) := dk_180 0 57 (dk_at dksX0_law_3 0 rfl rfl)
theorem dX0_law_71 : decode cX0_law 71 = .ok (.getfield 112, 3) := dk_180 0 112 (dk_at dksX0_law_3 3 rfl rfl)
theorem dX0_law_74 : decode cX0_law 74 = .ok (.invokevirtual 116, 3) := dk_182 0 116 (dk_at dksX0_law_3 6 rfl rfl)
theorem dX0_law_77 : decode cX0_law 77 = .ok (.iload_n 2, 1) := dk_28 (dk_at dksX0_law_3 9 rfl rfl)
theorem dX0_law_78 : decode cX0_law 78 = .ok (.invokestatic 200, 3) := dk_184 0 200 (dk_at dksX0_law_3 10 rfl rfl)
theorem dX0_law_81 : decode cX0_law 81 = .ok (.invokevirtual 204, 3) := dk_182 0 204 (dk_at dksX0_law_3 13 rfl rfl)
theorem dX0_law_84 : decode cX0_law 84 = .ok (.invokevirtual 207, 3) := dk_182 0 207 (dk_at dksX0_law_3 16 rfl rfl)
theorem dX0_law_87 : decode cX0_law 87 = .ok (.pop, 1) := dk_87 (dk_at dksX0_law_3 19 rfl rfl)
theorem dX0_law_88 : decode cX0_law 88 = .ok (.aload_n 0, 1) := dk_42 (dk_at dksX0_law_3 20 rfl rfl)
theorem dX0_law_89 : decode cX0_law 89 = .ok (.getfield 57, 3) := dk_180 0 57 (dk_at dksX0_law_3 21 rfl rfl)
theorem dX0_law_92 : decode cX0_law 92 = .ok (.getfield 112, 3) := dk_180 0 112 (dk_at dksX0_law_4 0 rfl rfl)
theorem dX0_law_95 : decode cX0_law 95 = .ok (.invokevirtual 116, 3) := dk_182 0 116 (dk_at dksX0_law_4 3 rfl rfl)
theorem dX0_law_98 : decode cX0_law 98 = .ok (.iconst 1, 1) := dk_4 (dk_at dksX0_law_4 6 rfl rfl)
theorem dX0_law_99 : decode cX0_law 99 = .ok (.isub, 1) := dk_100 (dk_at dksX0_law_4 7 rfl rfl)
theorem dX0_law_100 : decode cX0_law 100 = .ok (.ireturn, 1) := dk_172 (dk_at dksX0_law_4 8 rfl rfl)
theorem dX0_law_101 : decode cX0_law 101 = .ok (.astore_n 3, 1) := dk_78 (dk_at dksX0_law_4 9 rfl rfl)
theorem dX0_law_102 : decode cX0_law 102 = .ok (.bipush (-10), 2) := dk_16 246 (dk_at dksX0_law_4 10 rfl rfl)
theorem dX0_law_104 : decode cX0_law 104 = .ok (.aload_n 3, 1) := dk_45 (dk_at dksX0_law_4 12 rfl rfl)
theorem dX0_law_105 : decode cX0_law 105 = .ok (.getfield 213, 3) := dk_180 0 213 (dk_at dksX0_law_4 13 rfl rfl)
theorem dX0_law_108 : decode cX0_law 108 = .ok (.isub, 1) := dk_100 (dk_at dksX0_law_4 16 rfl rfl)
theorem dX0_law_109 : decode cX0_law 109 = .ok (.ireturn, 1) := dk_172 (dk_at dksX0_law_4 17 rfl rfl)
theorem dX0_law_110 : decode cX0_law 110 = .ok (.astore_n 3, 1) := dk_78 (dk_at dksX0_law_4 18 rfl rfl)
theorem dX0_law_111 : decode cX0_law 111 = .ok (.aload_n 0, 1) := dk_42 (dk_at dksX0_law_4 19 rfl rfl)
theorem dX0_law_112 : decode cX0_law 112 = .ok (.aload_n 3, 1) := dk_45 (dk_at dksX0_law_4 20 rfl rfl)
theorem dX0_law_113 : decode cX0_law 113 = .ok (.invokevirtual 136, 3) := dk_182 0 136 (dk_at dksX0_law_4 21 rfl rfl)
theorem dX0_law_116 : decode cX0_law 116 = .ok (.ireturn, 1) := dk_172 (dk_at dksX0_law_5 0 rfl rfl)
abbrev cX0_demand : ByteArray := prog_1_method_12_code
def yX0_demand : MethodName := ⟨RX0, "demand", "(ILNineDemands$Trace;II)LNineDemands$Demand;"⟩
def dkwX0_demand_4 : List UInt8 := [187, 0, 42, 89, 43, 28, 29, 183, 0, 44, 176, 187, 0, 45, 89, 43, 28, 29, 183, 0, 47, 176]
abbrev dktX0_demand_4 : List UInt8 := dkwX0_demand_4 ++ []
def dkwX0_demand_3 : List UInt8 := [187, 0, 36, 89, 43, 28, 29, 183, 0, 38, 176, 187, 0, 39, 89, 43, 28, 29, 183, 0, 41, 176]
abbrev dktX0_demand_3 : List UInt8 := dkwX0_demand_3 ++ dktX0_demand_4
def dkwX0_demand_2 : List UInt8 := [187, 0, 27, 89, 43, 28, 29, 183, 0, 29, 176, 187, 0, 33, 89, 43, 28, 29, 183, 0, 35, 176]
abbrev dktX0_demand_2 : List UInt8 := dkwX0_demand_2 ++ dktX0_demand_3
def dkwX0_demand_1 : List UInt8 := [170, 0, 0, 0, 0, 0, 90, 0, 0, 0, 1, 0, 0, 0, 5, 0, 0, 0, 35, 0, 0, 0, 46, 0, 0, 0, 57, 0, 0, 0, 68, 0, 0, 0, 79]
abbrev dktX0_demand_1 : List UInt8 := dkwX0_demand_1 ++ dktX0_demand_2
def dkwX0_demand_0 : List UInt8 := [26]
abbrev dktX0_demand_0 : List UInt8 := dkwX0_demand_0 ++ dktX0_demand_1
theorem dksX0_demand_0 : cX0_demand.data.toList.drop 0 = dktX0_demand_0 := by decide +kernel
theorem dksX0_demand_1 : cX0_demand.data.toList.drop 1 = dktX0_demand_1 := dk_seg dksX0_demand_0 1 rfl rfl
theorem dksX0_demand_2 : cX0_demand.data.toList.drop 36 = dktX0_demand_2 := dk_seg dksX0_demand_1 35 rfl rfl
theorem dksX0_demand_3 : cX0_demand.data.toList.drop 58 = dktX0_demand_3 := dk_seg dksX0_demand_2 22 rfl rfl
theorem dksX0_demand_4 : cX0_demand.data.toList.drop 80 = dktX0_demand_4 := dk_seg dksX0_demand_3 22 rfl rfl
theorem dX0_demand_0 : decode cX0_demand 0 = .ok (.iload_n 0, 1) := dk_26 (dk_at dksX0_demand_0 0 rfl rfl)
theorem dX0_demand_1 : decode cX0_demand 1 = .ok (.tableswitch 90 1 5 #[35, 46, 57, 68, 79], 35) := by decide +kernel
theorem dX0_demand_36 : decode cX0_demand 36 = .ok (.new 27, 3) := dk_187 0 27 (dk_at dksX0_demand_2 0 rfl rfl)
theorem dX0_demand_39 : decode cX0_demand 39 = .ok (.dup, 1) := dk_89 (dk_at dksX0_demand_2 3 rfl rfl)
theorem dX0_demand_40 : decode cX0_demand 40 = .ok (.aload_n 1, 1) := dk_43 (dk_at dksX0_demand_2 4 rfl rfl)
theorem dX0_demand_41 : decode cX0_demand 41 = .ok (.iload_n 2, 1) := dk_28 (dk_at dksX0_demand_2 5 rfl rfl)
theorem dX0_demand_42 : decode cX0_demand 42 = .ok (.iload_n 3, 1) := dk_29 (dk_at dksX0_demand_2 6 rfl rfl)
theorem dX0_demand_43 : decode cX0_demand 43 = .ok (.invokespecial 29, 3) := dk_183 0 29 (dk_at dksX0_demand_2 7 rfl rfl)
theorem dX0_demand_46 : decode cX0_demand 46 = .ok (.areturn, 1) := dk_176 (dk_at dksX0_demand_2 10 rfl rfl)
theorem dX0_demand_47 : decode cX0_demand 47 = .ok (.new 33, 3) := dk_187 0 33 (dk_at dksX0_demand_2 11 rfl rfl)
theorem dX0_demand_50 : decode cX0_demand 50 = .ok (.dup, 1) := dk_89 (dk_at dksX0_demand_2 14 rfl rfl)
theorem dX0_demand_51 : decode cX0_demand 51 = .ok (.aload_n 1, 1) := dk_43 (dk_at dksX0_demand_2 15 rfl rfl)
theorem dX0_demand_52 : decode cX0_demand 52 = .ok (.iload_n 2, 1) := dk_28 (dk_at dksX0_demand_2 16 rfl rfl)
theorem dX0_demand_53 : decode cX0_demand 53 = .ok (.iload_n 3, 1) := dk_29 (dk_at dksX0_demand_2 17 rfl rfl)
theorem dX0_demand_54 : decode cX0_demand 54 = .ok (.invokespecial 35, 3) := dk_183 0 35 (dk_at dksX0_demand_2 18 rfl rfl)
theorem dX0_demand_57 : decode cX0_demand 57 = .ok (.areturn, 1) := dk_176 (dk_at dksX0_demand_2 21 rfl rfl)
theorem dX0_demand_58 : decode cX0_demand 58 = .ok (.new 36, 3) := dk_187 0 36 (dk_at dksX0_demand_3 0 rfl rfl)
theorem dX0_demand_61 : decode cX0_demand 61 = .ok (.dup, 1) := dk_89 (dk_at dksX0_demand_3 3 rfl rfl)
theorem dX0_demand_62 : decode cX0_demand 62 = .ok (.aload_n 1, 1) := dk_43 (dk_at dksX0_demand_3 4 rfl rfl)
theorem dX0_demand_63 : decode cX0_demand 63 = .ok (.iload_n 2, 1) := dk_28 (dk_at dksX0_demand_3 5 rfl rfl)
theorem dX0_demand_64 : decode cX0_demand 64 = .ok (.iload_n 3, 1) := dk_29 (dk_at dksX0_demand_3 6 rfl rfl)
theorem dX0_demand_65 : decode cX0_demand 65 = .ok (.invokespecial 38, 3) := dk_183 0 38 (dk_at dksX0_demand_3 7 rfl rfl)
theorem dX0_demand_68 : decode cX0_demand 68 = .ok (.areturn, 1) := dk_176 (dk_at dksX0_demand_3 10 rfl rfl)
theorem dX0_demand_69 : decode cX0_demand 69 = .ok (.new 39, 3) := dk_187 0 39 (dk_at dksX0_demand_3 11 rfl rfl)
theorem dX0_demand_72 : decode cX0_demand 72 = .ok (.dup, 1) := dk_89 (dk_at dksX0_demand_3 14 rfl rfl)
theorem dX0_demand_73 : decode cX0_demand 73 = .ok (.aload_n 1, 1) := dk_43 (dk_at dksX0_demand_3 15 rfl rfl)
theorem dX0_demand_74 : decode cX0_demand 74 = .ok (.iload_n 2, 1) := dk_28 (dk_at dksX0_demand_3 16 rfl rfl)
theorem dX0_demand_75 : decode cX0_demand 75 = .ok (.iload_n 3, 1) := dk_29 (dk_at dksX0_demand_3 17 rfl rfl)
theorem dX0_demand_76 : decode cX0_demand 76 = .ok (.invokespecial 41, 3) := dk_183 0 41 (dk_at dksX0_demand_3 18 rfl rfl)
theorem dX0_demand_79 : decode cX0_demand 79 = .ok (.areturn, 1) := dk_176 (dk_at dksX0_demand_3 21 rfl rfl)
theorem dX0_demand_80 : decode cX0_demand 80 = .ok (.new 42, 3) := dk_187 0 42 (dk_at dksX0_demand_4 0 rfl rfl)
theorem dX0_demand_83 : decode cX0_demand 83 = .ok (.dup, 1) := dk_89 (dk_at dksX0_demand_4 3 rfl rfl)
theorem dX0_demand_84 : decode cX0_demand 84 = .ok (.aload_n 1, 1) := dk_43 (dk_at dksX0_demand_4 4 rfl rfl)
theorem dX0_demand_85 : decode cX0_demand 85 = .ok (.iload_n 2, 1) := dk_28 (dk_at dksX0_demand_4 5 rfl rfl)
theorem dX0_demand_86 : decode cX0_demand 86 = .ok (.iload_n 3, 1) := dk_29 (dk_at dksX0_demand_4 6 rfl rfl)
theorem dX0_demand_87 : decode cX0_demand 87 = .ok (.invokespecial 44, 3) := dk_183 0 44 (dk_at dksX0_demand_4 7 rfl rfl)
theorem dX0_demand_90 : decode cX0_demand 90 = .ok (.areturn, 1) := dk_176 (dk_at dksX0_demand_4 10 rfl rfl)
theorem dX0_demand_91 : decode cX0_demand 91 = .ok (.new 45, 3) := dk_187 0 45 (dk_at dksX0_demand_4 11 rfl rfl)
theorem dX0_demand_94 : decode cX0_demand 94 = .ok (.dup, 1) := dk_89 (dk_at dksX0_demand_4 14 rfl rfl)
theorem dX0_demand_95 : decode cX0_demand 95 = .ok (.aload_n 1, 1) := dk_43 (dk_at dksX0_demand_4 15 rfl rfl)
theorem dX0_demand_96 : decode cX0_demand 96 = .ok (.iload_n 2, 1) := dk_28 (dk_at dksX0_demand_4 16 rfl rfl)
theorem dX0_demand_97 : decode cX0_demand 97 = .ok (.iload_n 3, 1) := dk_29 (dk_at dksX0_demand_4 17 rfl rfl)
theorem dX0_demand_98 : decode cX0_demand 98 = .ok (.invokespecial 47, 3) := dk_183 0 47 (dk_at dksX0_demand_4 18 rfl rfl)
theorem dX0_demand_101 : decode cX0_demand 101 = .ok (.areturn, 1) := dk_176 (dk_at dksX0_demand_4 21 rfl rfl)
abbrev cX0_read : ByteArray := prog_1_method_29_code
def yX0_read : MethodName := ⟨RX0, "read", "(LNineDemands$Demand;)LNineDemands$Demand;"⟩
def dkwX0_read_2 : List UInt8 := [181, 0, 192, 43, 42, 180, 0, 71, 182, 0, 196, 43, 176]
abbrev dktX0_read_2 : List UInt8 := dkwX0_read_2 ++ []
def dkwX0_read_1 : List UInt8 := [187, 0, 179, 89, 43, 182, 0, 181, 42, 180, 0, 57, 180, 0, 171, 28, 183, 0, 185, 182, 0, 188]
abbrev dktX0_read_1 : List UInt8 := dkwX0_read_1 ++ dktX0_read_2
def dkwX0_read_0 : List UInt8 := [43, 182, 0, 175, 153, 0, 45, 42, 180, 0, 57, 180, 0, 168, 61, 42, 180, 0, 57, 3, 181, 0, 168, 43]
abbrev dktX0_read_0 : List UInt8 := dkwX0_read_0 ++ dktX0_read_1
theorem dksX0_read_0 : cX0_read.data.toList.drop 0 = dktX0_read_0 := by decide +kernel
theorem dksX0_read_1 : cX0_read.data.toList.drop 24 = dktX0_read_1 := dk_seg dksX0_read_0 24 rfl rfl
theorem dksX0_read_2 : cX0_read.data.toList.drop 46 = dktX0_read_2 := dk_seg dksX0_read_1 22 rfl rfl
theorem dX0_read_0 : decode cX0_read 0 = .ok (.aload_n 1, 1) := dk_43 (dk_at dksX0_read_0 0 rfl rfl)
theorem dX0_read_1 : decode cX0_read 1 = .ok (.invokevirtual 175, 3) := dk_182 0 175 (dk_at dksX0_read_0 1 rfl rfl)
theorem dX0_read_4 : decode cX0_read 4 = .ok (.ifCond .eq 45, 3) := dk_153 0 45 (dk_at dksX0_read_0 4 rfl rfl)
theorem dX0_read_7 : decode cX0_read 7 = .ok (.aload_n 0, 1) := dk_42 (dk_at dksX0_read_0 7 rfl rfl)
theorem dX0_read_8 : decode cX0_read 8 = .ok (.getfield 57, 3) := dk_180 0 57 (dk_at dksX0_read_0 8 rfl rfl)
theorem dX0_read_11 : decode cX0_read 11 = .ok (.getfield 168, 3) := dk_180 0 168 (dk_at dksX0_read_0 11 rfl rfl)
theorem dX0_read_14 : decode cX0_read 14 = .ok (.istore_n 2, 1) := dk_61 (dk_at dksX0_read_0 14 rfl rfl)
theorem dX0_read_15 : decode cX0_read 15 = .ok (.aload_n 0, 1) := dk_42 (dk_at dksX0_read_0 15 rfl rfl)
theorem dX0_read_16 : decode cX0_read 16 = .ok (.getfield 57, 3) := dk_180 0 57 (dk_at dksX0_read_0 16 rfl rfl)
theorem dX0_read_19 : decode cX0_read 19 = .ok (.iconst 0, 1) := dk_3 (dk_at dksX0_read_0 19 rfl rfl)
theorem dX0_read_20 : decode cX0_read 20 = .ok (.putfield 168, 3) := dk_181 0 168 (dk_at dksX0_read_0 20 rfl rfl)
theorem dX0_read_23 : decode cX0_read 23 = .ok (.aload_n 1, 1) := dk_43 (dk_at dksX0_read_0 23 rfl rfl)
theorem dX0_read_24 : decode cX0_read 24 = .ok (.new 179, 3) := dk_187 0 179 (dk_at dksX0_read_1 0 rfl rfl)
theorem dX0_read_27 : decode cX0_read 27 = .ok (.dup, 1) := dk_89 (dk_at dksX0_read_1 3 rfl rfl)
theorem dX0_read_28 : decode cX0_read 28 = .ok (.aload_n 1, 1) := dk_43 (dk_at dksX0_read_1 4 rfl rfl)
theorem dX0_read_29 : decode cX0_read 29 = .ok (.invokevirtual 181, 3) := dk_182 0 181 (dk_at dksX0_read_1 5 rfl rfl)
theorem dX0_read_32 : decode cX0_read 32 = .ok (.aload_n 0, 1) := dk_42 (dk_at dksX0_read_1 8 rfl rfl)
theorem dX0_read_33 : decode cX0_read 33 = .ok (.getfield 57, 3) := dk_180 0 57 (dk_at dksX0_read_1 9 rfl rfl)
theorem dX0_read_36 : decode cX0_read 36 = .ok (.getfield 171, 3) := dk_180 0 171 (dk_at dksX0_read_1 12 rfl rfl)
theorem dX0_read_39 : decode cX0_read 39 = .ok (.iload_n 2, 1) := dk_28 (dk_at dksX0_read_1 15 rfl rfl)
theorem dX0_read_40 : decode cX0_read 40 = .ok (.invokespecial 185, 3) := dk_183 0 185 (dk_at dksX0_read_1 16 rfl rfl)
theorem dX0_read_43 : decode cX0_read 43 = .ok (.invokevirtual 188, 3) := dk_182 0 188 (dk_at dksX0_read_1 19 rfl rfl)
theorem dX0_read_46 : decode cX0_read 46 = .ok (.putfield 192, 3) := dk_181 0 192 (dk_at dksX0_read_2 0 rfl rfl)
theorem dX0_read_49 : decode cX0_read 49 = .ok (.aload_n 1, 1) := dk_43 (dk_at dksX0_read_2 3 rfl rfl)
theorem dX0_read_50 : decode cX0_read 50 = .ok (.aload_n 0, 1) := dk_42 (dk_at dksX0_read_2 4 rfl rfl)
theorem dX0_read_51 : decode cX0_read 51 = .ok (.getfield 71, 3) := dk_180 0 71 (dk_at dksX0_read_2 5 rfl rfl)
theorem dX0_read_54 : decode cX0_read 54 = .ok (.invokevirtual 196, 3) := dk_182 0 196 (dk_at dksX0_read_2 8 rfl rfl)
theorem dX0_read_57 : decode cX0_read 57 = .ok (.aload_n 1, 1) := dk_43 (dk_at dksX0_read_2 11 rfl rfl)
theorem dX0_read_58 : decode cX0_read 58 = .ok (.areturn, 1) := dk_176 (dk_at dksX0_read_2 12 rfl rfl)
abbrev cX0_turnedChoice : ByteArray := prog_1_method_8_code
def yX0_turnedChoice : MethodName := ⟨RX0, "turnedChoice", "(I)I"⟩
def dkwX0_turnedChoice_0 : List UInt8 := [26, 6, 160, 0, 7, 6, 167, 0, 6, 6, 26, 100, 172]
abbrev dktX0_turnedChoice_0 : List UInt8 := dkwX0_turnedChoice_0 ++ []
theorem dksX0_turnedChoice_0 : cX0_turnedChoice.data.toList.drop 0 = dktX0_turnedChoice_0 := by decide +kernel
theorem dX0_turnedChoice_0 : decode cX0_turnedChoice 0 = .ok (.iload_n 0, 1) := dk_26 (dk_at dksX0_turnedChoice_0 0 rfl rfl)
theorem dX0_turnedChoice_1 : decode cX0_turnedChoice 1 = .ok (.iconst 3, 1) := dk_6 (dk_at dksX0_turnedChoice_0 1 rfl rfl)
theorem dX0_turnedChoice_2 : decode cX0_turnedChoice 2 = .ok (.if_icmp .ne 7, 3) := dk_160 0 7 (dk_at dksX0_turnedChoice_0 2 rfl rfl)
theorem dX0_turnedChoice_5 : decode cX0_turnedChoice 5 = .ok (.iconst 3, 1) := dk_6 (dk_at dksX0_turnedChoice_0 5 rfl rfl)
theorem dX0_turnedChoice_6 : decode cX0_turnedChoice 6 = .ok (.goto 6, 3) := dk_167 0 6 (dk_at dksX0_turnedChoice_0 6 rfl rfl)
theorem dX0_turnedChoice_9 : decode cX0_turnedChoice 9 = .ok (.iconst 3, 1) := dk_6 (dk_at dksX0_turnedChoice_0 9 rfl rfl)
theorem dX0_turnedChoice_10 : decode cX0_turnedChoice 10 = .ok (.iload_n 0, 1) := dk_26 (dk_at dksX0_turnedChoice_0 10 rfl rfl)
theorem dX0_turnedChoice_11 : decode cX0_turnedChoice 11 = .ok (.isub, 1) := dk_100 (dk_at dksX0_turnedChoice_0 11 rfl rfl)
theorem dX0_turnedChoice_12 : decode cX0_turnedChoice 12 = .ok (.ireturn, 1) := dk_172 (dk_at dksX0_turnedChoice_0 12 rfl rfl)
abbrev cX0_bitOf : ByteArray := prog_1_method_11_code
def yX0_bitOf : MethodName := ⟨RX0, "bitOf", "(II)I"⟩
def dkwX0_bitOf_0 : List UInt8 := [4, 6, 26, 104, 27, 96, 7, 100, 120, 172]
abbrev dktX0_bitOf_0 : List UInt8 := dkwX0_bitOf_0 ++ []
theorem dksX0_bitOf_0 : cX0_bitOf.data.toList.drop 0 = dktX0_bitOf_0 := by decide +kernel
theorem dX0_bitOf_0 : decode cX0_bitOf 0 = .ok (.iconst 1, 1) := dk_4 (dk_at dksX0_bitOf_0 0 rfl rfl)
theorem dX0_bitOf_1 : decode cX0_bitOf 1 = .ok (.iconst 3, 1) := dk_6 (dk_at dksX0_bitOf_0 1 rfl rfl)
theorem dX0_bitOf_2 : decode cX0_bitOf 2 = .ok (.iload_n 0, 1) := dk_26 (dk_at dksX0_bitOf_0 2 rfl rfl)
theorem dX0_bitOf_3 : decode cX0_bitOf 3 = .ok (.imul, 1) := dk_104 (dk_at dksX0_bitOf_0 3 rfl rfl)
theorem dX0_bitOf_4 : decode cX0_bitOf 4 = .ok (.iload_n 1, 1) := dk_27 (dk_at dksX0_bitOf_0 4 rfl rfl)
theorem dX0_bitOf_5 : decode cX0_bitOf 5 = .ok (.iadd, 1) := dk_96 (dk_at dksX0_bitOf_0 5 rfl rfl)
theorem dX0_bitOf_6 : decode cX0_bitOf 6 = .ok (.iconst 4, 1) := dk_7 (dk_at dksX0_bitOf_0 6 rfl rfl)
theorem dX0_bitOf_7 : decode cX0_bitOf 7 = .ok (.isub, 1) := dk_100 (dk_at dksX0_bitOf_0 7 rfl rfl)
theorem dX0_bitOf_8 : decode cX0_bitOf 8 = .ok (.ishl, 1) := dk_120 (dk_at dksX0_bitOf_0 8 rfl rfl)
theorem dX0_bitOf_9 : decode cX0_bitOf 9 = .ok (.ireturn, 1) := dk_172 (dk_at dksX0_bitOf_0 9 rfl rfl)
abbrev cX0_price : ByteArray := prog_1_method_31_code
def yX0_price : MethodName := ⟨RX0, "price", "(II)I"⟩
def dkwX0_price_2 : List UInt8 := [54, 4, 45, 28, 181, 0, 222, 21, 4, 172, 78, 42, 45, 182, 0, 136, 172]
abbrev dktX0_price_2 : List UInt8 := dkwX0_price_2 ++ []
def dkwX0_price_1 : List UInt8 := [4, 182, 0, 126, 42, 180, 0, 57, 180, 0, 112, 27, 182, 0, 219, 192, 0, 45, 78, 45, 180, 0, 222]
abbrev dktX0_price_1 : List UInt8 := dkwX0_price_1 ++ dktX0_price_2
def dkwX0_price_0 : List UInt8 := [42, 42, 27, 182, 0, 216, 153, 0, 17, 28, 3, 16, 99, 184, 0, 108, 153, 0, 7, 4, 167, 0, 4, 3]
abbrev dktX0_price_0 : List UInt8 := dkwX0_price_0 ++ dktX0_price_1
theorem dksX0_price_0 : cX0_price.data.toList.drop 0 = dktX0_price_0 := by decide +kernel
theorem dksX0_price_1 : cX0_price.data.toList.drop 24 = dktX0_price_1 := dk_seg dksX0_price_0 24 rfl rfl
theorem dksX0_price_2 : cX0_price.data.toList.drop 47 = dktX0_price_2 := dk_seg dksX0_price_1 23 rfl rfl
theorem dX0_price_0 : decode cX0_price 0 = .ok (.aload_n 0, 1) := dk_42 (dk_at dksX0_price_0 0 rfl rfl)
theorem dX0_price_1 : decode cX0_price 1 = .ok (.aload_n 0, 1) := dk_42 (dk_at dksX0_price_0 1 rfl rfl)
theorem dX0_price_2 : decode cX0_price 2 = .ok (.iload_n 1, 1) := dk_27 (dk_at dksX0_price_0 2 rfl rfl)
theorem dX0_price_3 : decode cX0_price 3 = .ok (.invokevirtual 216, 3) := dk_182 0 216 (dk_at dksX0_price_0 3 rfl rfl)
theorem dX0_price_6 : decode cX0_price 6 = .ok (.ifCond .eq 17, 3) := dk_153 0 17 (dk_at dksX0_price_0 6 rfl rfl)
theorem dX0_price_9 : decode cX0_price 9 = .ok (.iload_n 2, 1) := dk_28 (dk_at dksX0_price_0 9 rfl rfl)
theorem dX0_price_10 : decode cX0_price 10 = .ok (.iconst 0, 1) := dk_3 (dk_at dksX0_price_0 10 rfl rfl)
theorem dX0_price_11 : decode cX0_price 11 = .ok (.bipush 99, 2) := dk_16 99 (dk_at dksX0_price_0 11 rfl rfl)
theorem dX0_price_13 : decode cX0_price 13 = .ok (.invokestatic 108, 3) := dk_184 0 108 (dk_at dksX0_price_0 13 rfl rfl)
theorem dX0_price_16 : decode cX0_price 16 = .ok (.ifCond .eq 7, 3) := dk_153 0 7 (dk_at dksX0_price_0 16 rfl rfl)
theorem dX0_price_19 : decode cX0_price 19 = .ok (.iconst 1, 1) := dk_4 (dk_at dksX0_price_0 19 rfl rfl)
theorem dX0_price_20 : decode cX0_price 20 = .ok (.goto 4, 3) := dk_167 0 4 (dk_at dksX0_price_0 20 rfl rfl)
theorem dX0_price_23 : decode cX0_price 23 = .ok (.iconst 0, 1) := dk_3 (dk_at dksX0_price_0 23 rfl rfl)
theorem dX0_price_24 : decode cX0_price 24 = .ok (.iconst 1, 1) := dk_4 (dk_at dksX0_price_1 0 rfl rfl)
theorem dX0_price_25 : decode cX0_price 25 = .ok (.invokevirtual 126, 3) := dk_182 0 126 (dk_at dksX0_price_1 1 rfl rfl)
theorem dX0_price_28 : decode cX0_price 28 = .ok (.aload_n 0, 1) := dk_42 (dk_at dksX0_price_1 4 rfl rfl)
theorem dX0_price_29 : decode cX0_price 29 = .ok (.getfield 57, 3) := dk_180 0 57 (dk_at dksX0_price_1 5 rfl rfl)
theorem dX0_price_32 : decode cX0_price 32 = .ok (.getfield 112, 3) := dk_180 0 112 (dk_at dksX0_price_1 8 rfl rfl)
theorem dX0_price_35 : decode cX0_price 35 = .ok (.iload_n 1, 1) := dk_27 (dk_at dksX0_price_1 11 rfl rfl)
theorem dX0_price_36 : decode cX0_price 36 = .ok (.invokevirtual 219, 3) := dk_182 0 219 (dk_at dksX0_price_1 12 rfl rfl)
theorem dX0_price_39 : decode cX0_price 39 = .ok (.checkcast 45, 3) := dk_192 0 45 (dk_at dksX0_price_1 15 rfl rfl)
theorem dX0_price_42 : decode cX0_price 42 = .ok (.astore_n 3, 1) := dk_78 (dk_at dksX0_price_1 18 rfl rfl)
theorem dX0_price_43 : decode cX0_price 43 = .ok (.aload_n 3, 1) := dk_45 (dk_at dksX0_price_1 19 rfl rfl)
theorem dX0_price_44 : decode cX0_price 44 = .ok (.getfield 222, 3) := dk_180 0 222 (dk_at dksX0_price_1 20 rfl rfl)
theorem dX0_price_47 : decode cX0_price 47 = .ok (.istore 4, 2) := dk_54 4 (dk_at dksX0_price_2 0 rfl rfl)
theorem dX0_price_49 : decode cX0_price 49 = .ok (.aload_n 3, 1) := dk_45 (dk_at dksX0_price_2 2 rfl rfl)
theorem dX0_price_50 : decode cX0_price 50 = .ok (.iload_n 2, 1) := dk_28 (dk_at dksX0_price_2 3 rfl rfl)
theorem dX0_price_51 : decode cX0_price 51 = .ok (.putfield 222, 3) := dk_181 0 222 (dk_at dksX0_price_2 4 rfl rfl)
theorem dX0_price_54 : decode cX0_price 54 = .ok (.iload 4, 2) := dk_21 4 (dk_at dksX0_price_2 7 rfl rfl)
theorem dX0_price_56 : decode cX0_price 56 = .ok (.ireturn, 1) := dk_172 (dk_at dksX0_price_2 9 rfl rfl)
theorem dX0_price_57 : decode cX0_price 57 = .ok (.astore_n 3, 1) := dk_78 (dk_at dksX0_price_2 10 rfl rfl)
theorem dX0_price_58 : decode cX0_price 58 = .ok (.aload_n 0, 1) := dk_42 (dk_at dksX0_price_2 11 rfl rfl)
theorem dX0_price_59 : decode cX0_price 59 = .ok (.aload_n 3, 1) := dk_45 (dk_at dksX0_price_2 12 rfl rfl)
theorem dX0_price_60 : decode cX0_price 60 = .ok (.invokevirtual 136, 3) := dk_182 0 136 (dk_at dksX0_price_2 13 rfl rfl)
theorem dX0_price_63 : decode cX0_price 63 = .ok (.ireturn, 1) := dk_172 (dk_at dksX0_price_2 16 rfl rfl)
abbrev cX0_isLaw : ByteArray := prog_1_method_19_code
def yX0_isLaw : MethodName := ⟨RX0, "isLaw", "(I)Z"⟩
def dkwX0_isLaw_0 : List UInt8 := [27, 3, 42, 180, 0, 57, 180, 0, 112, 182, 0, 116, 4, 100, 184, 0, 108, 172]
abbrev dktX0_isLaw_0 : List UInt8 := dkwX0_isLaw_0 ++ []
theorem dksX0_isLaw_0 : cX0_isLaw.data.toList.drop 0 = dktX0_isLaw_0 := by decide +kernel
theorem dX0_isLaw_0 : decode cX0_isLaw 0 = .ok (.iload_n 1, 1) := dk_27 (dk_at dksX0_isLaw_0 0 rfl rfl)
theorem dX0_isLaw_1 : decode cX0_isLaw 1 = .ok (.iconst 0, 1) := dk_3 (dk_at dksX0_isLaw_0 1 rfl rfl)
theorem dX0_isLaw_2 : decode cX0_isLaw 2 = .ok (.aload_n 0, 1) := dk_42 (dk_at dksX0_isLaw_0 2 rfl rfl)
theorem dX0_isLaw_3 : decode cX0_isLaw 3 = .ok (.getfield 57, 3) := dk_180 0 57 (dk_at dksX0_isLaw_0 3 rfl rfl)
theorem dX0_isLaw_6 : decode cX0_isLaw 6 = .ok (.getfield 112, 3) := dk_180 0 112 (dk_at dksX0_isLaw_0 6 rfl rfl)
theorem dX0_isLaw_9 : decode cX0_isLaw 9 = .ok (.invokevirtual 116, 3) := dk_182 0 116 (dk_at dksX0_isLaw_0 9 rfl rfl)
theorem dX0_isLaw_12 : decode cX0_isLaw 12 = .ok (.iconst 1, 1) := dk_4 (dk_at dksX0_isLaw_0 12 rfl rfl)
theorem dX0_isLaw_13 : decode cX0_isLaw 13 = .ok (.isub, 1) := dk_100 (dk_at dksX0_isLaw_0 13 rfl rfl)
theorem dX0_isLaw_14 : decode cX0_isLaw 14 = .ok (.invokestatic 108, 3) := dk_184 0 108 (dk_at dksX0_isLaw_0 14 rfl rfl)
theorem dX0_isLaw_17 : decode cX0_isLaw 17 = .ok (.ireturn, 1) := dk_172 (dk_at dksX0_isLaw_0 17 rfl rfl)
abbrev cX0_as : ByteArray := prog_1_method_32_code
def yX0_as : MethodName := ⟨RX0, "as", "(II)I"⟩
def dkwX0_as_2 : List UInt8 := [8, 182, 0, 126, 45, 180, 0, 228, 180, 0, 232, 172, 78, 42, 45, 182, 0, 136, 172]
abbrev dktX0_as_2 : List UInt8 := dkwX0_as_2 ++ []
def dkwX0_as_1 : List UInt8 := [182, 0, 126, 42, 180, 0, 57, 180, 0, 112, 27, 182, 0, 219, 192, 0, 45, 78, 42, 45, 28, 182, 0, 225]
abbrev dktX0_as_1 : List UInt8 := dkwX0_as_1 ++ dktX0_as_2
def dkwX0_as_0 : List UInt8 := [42, 42, 27, 182, 0, 216, 153, 0, 16, 28, 3, 8, 184, 0, 108, 153, 0, 7, 4, 167, 0, 4, 3, 4]
abbrev dktX0_as_0 : List UInt8 := dkwX0_as_0 ++ dktX0_as_1
theorem dksX0_as_0 : cX0_as.data.toList.drop 0 = dktX0_as_0 := by decide +kernel
theorem dksX0_as_1 : cX0_as.data.toList.drop 24 = dktX0_as_1 := dk_seg dksX0_as_0 24 rfl rfl
theorem dksX0_as_2 : cX0_as.data.toList.drop 48 = dktX0_as_2 := dk_seg dksX0_as_1 24 rfl rfl
theorem dX0_as_0 : decode cX0_as 0 = .ok (.aload_n 0, 1) := dk_42 (dk_at dksX0_as_0 0 rfl rfl)
theorem dX0_as_1 : decode cX0_as 1 = .ok (.aload_n 0, 1) := dk_42 (dk_at dksX0_as_0 1 rfl rfl)
theorem dX0_as_2 : decode cX0_as 2 = .ok (.iload_n 1, 1) := dk_27 (dk_at dksX0_as_0 2 rfl rfl)
theorem dX0_as_3 : decode cX0_as 3 = .ok (.invokevirtual 216, 3) := dk_182 0 216 (dk_at dksX0_as_0 3 rfl rfl)
theorem dX0_as_6 : decode cX0_as 6 = .ok (.ifCond .eq 16, 3) := dk_153 0 16 (dk_at dksX0_as_0 6 rfl rfl)
theorem dX0_as_9 : decode cX0_as 9 = .ok (.iload_n 2, 1) := dk_28 (dk_at dksX0_as_0 9 rfl rfl)
theorem dX0_as_10 : decode cX0_as 10 = .ok (.iconst 0, 1) := dk_3 (dk_at dksX0_as_0 10 rfl rfl)
theorem dX0_as_11 : decode cX0_as 11 = .ok (.iconst 5, 1) := dk_8 (dk_at dksX0_as_0 11 rfl rfl)
theorem dX0_as_12 : decode cX0_as 12 = .ok (.invokestatic 108, 3) := dk_184 0 108 (dk_at dksX0_as_0 12 rfl rfl)
theorem dX0_as_15 : decode cX0_as 15 = .ok (.ifCond .eq 7, 3) := dk_153 0 7 (dk_at dksX0_as_0 15 rfl rfl)
theorem dX0_as_18 : decode cX0_as 18 = .ok (.iconst 1, 1) := dk_4 (dk_at dksX0_as_0 18 rfl rfl)
theorem dX0_as_19 : decode cX0_as 19 = .ok (.goto 4, 3) := dk_167 0 4 (dk_at dksX0_as_0 19 rfl rfl)
theorem dX0_as_22 : decode cX0_as 22 = .ok (.iconst 0, 1) := dk_3 (dk_at dksX0_as_0 22 rfl rfl)
theorem dX0_as_23 : decode cX0_as 23 = .ok (.iconst 1, 1) := dk_4 (dk_at dksX0_as_0 23 rfl rfl)
theorem dX0_as_24 : decode cX0_as 24 = .ok (.invokevirtual 126, 3) := dk_182 0 126 (dk_at dksX0_as_1 0 rfl rfl)
theorem dX0_as_27 : decode cX0_as 27 = .ok (.aload_n 0, 1) := dk_42 (dk_at dksX0_as_1 3 rfl rfl)
theorem dX0_as_28 : decode cX0_as 28 = .ok (.getfield 57, 3) := dk_180 0 57 (dk_at dksX0_as_1 4 rfl rfl)
theorem dX0_as_31 : decode cX0_as 31 = .ok (.getfield 112, 3) := dk_180 0 112 (dk_at dksX0_as_1 7 rfl rfl)
theorem dX0_as_34 : decode cX0_as 34 = .ok (.iload_n 1, 1) := dk_27 (dk_at dksX0_as_1 10 rfl rfl)
theorem dX0_as_35 : decode cX0_as 35 = .ok (.invokevirtual 219, 3) := dk_182 0 219 (dk_at dksX0_as_1 11 rfl rfl)
theorem dX0_as_38 : decode cX0_as 38 = .ok (.checkcast 45, 3) := dk_192 0 45 (dk_at dksX0_as_1 14 rfl rfl)
theorem dX0_as_41 : decode cX0_as 41 = .ok (.astore_n 3, 1) := dk_78 (dk_at dksX0_as_1 17 rfl rfl)
theorem dX0_as_42 : decode cX0_as 42 = .ok (.aload_n 0, 1) := dk_42 (dk_at dksX0_as_1 18 rfl rfl)
theorem dX0_as_43 : decode cX0_as 43 = .ok (.aload_n 3, 1) := dk_45 (dk_at dksX0_as_1 19 rfl rfl)
theorem dX0_as_44 : decode cX0_as 44 = .ok (.iload_n 2, 1) := dk_28 (dk_at dksX0_as_1 20 rfl rfl)
theorem dX0_as_45 : decode cX0_as 45 = .ok (.invokevirtual 225, 3) := dk_182 0 225 (dk_at dksX0_as_1 21 rfl rfl)
theorem dX0_as_48 : decode cX0_as 48 = .ok (.iconst 5, 1) := dk_8 (dk_at dksX0_as_2 0 rfl rfl)
theorem dX0_as_49 : decode cX0_as 49 = .ok (.invokevirtual 126, 3) := dk_182 0 126 (dk_at dksX0_as_2 1 rfl rfl)
theorem dX0_as_52 : decode cX0_as 52 = .ok (.aload_n 3, 1) := dk_45 (dk_at dksX0_as_2 4 rfl rfl)
theorem dX0_as_53 : decode cX0_as 53 = .ok (.getfield 228, 3) := dk_180 0 228 (dk_at dksX0_as_2 5 rfl rfl)
theorem dX0_as_56 : decode cX0_as 56 = .ok (.getfield 232, 3) := dk_180 0 232 (dk_at dksX0_as_2 8 rfl rfl)
theorem dX0_as_59 : decode cX0_as 59 = .ok (.ireturn, 1) := dk_172 (dk_at dksX0_as_2 11 rfl rfl)
theorem dX0_as_60 : decode cX0_as 60 = .ok (.astore_n 3, 1) := dk_78 (dk_at dksX0_as_2 12 rfl rfl)
theorem dX0_as_61 : decode cX0_as 61 = .ok (.aload_n 0, 1) := dk_42 (dk_at dksX0_as_2 13 rfl rfl)
theorem dX0_as_62 : decode cX0_as 62 = .ok (.aload_n 3, 1) := dk_45 (dk_at dksX0_as_2 14 rfl rfl)
theorem dX0_as_63 : decode cX0_as 63 = .ok (.invokevirtual 136, 3) := dk_182 0 136 (dk_at dksX0_as_2 15 rfl rfl)
theorem dX0_as_66 : decode cX0_as 66 = .ok (.ireturn, 1) := dk_172 (dk_at dksX0_as_2 18 rfl rfl)
abbrev cX0_part : ByteArray := prog_1_method_34_code
def yX0_part : MethodName := ⟨RX0, "part", "(III)I"⟩
def dkwX0_part_3 : List UInt8 := [172]
abbrev dktX0_part_3 : List UInt8 := dkwX0_part_3 ++ []
def dkwX0_part_2 : List UInt8 := [180, 0, 244, 28, 46, 167, 0, 10, 25, 4, 180, 0, 247, 28, 46, 172, 58, 4, 42, 25, 4, 182, 0, 136]
abbrev dktX0_part_2 : List UInt8 := dkwX0_part_2 ++ dktX0_part_3
def dkwX0_part_1 : List UInt8 := [25, 4, 28, 182, 0, 241, 153, 0, 7, 4, 167, 0, 4, 3, 5, 182, 0, 126, 29, 154, 0, 13, 25, 4]
abbrev dktX0_part_1 : List UInt8 := dkwX0_part_1 ++ dktX0_part_2
def dkwX0_part_0 : List UInt8 := [42, 27, 28, 182, 0, 237, 58, 4, 42, 29, 3, 4, 184, 0, 108, 4, 182, 0, 126, 42, 29, 153, 0, 12]
abbrev dktX0_part_0 : List UInt8 := dkwX0_part_0 ++ dktX0_part_1
theorem dksX0_part_0 : cX0_part.data.toList.drop 0 = dktX0_part_0 := by decide +kernel
theorem dksX0_part_1 : cX0_part.data.toList.drop 24 = dktX0_part_1 := dk_seg dksX0_part_0 24 rfl rfl
theorem dksX0_part_2 : cX0_part.data.toList.drop 48 = dktX0_part_2 := dk_seg dksX0_part_1 24 rfl rfl
theorem dksX0_part_3 : cX0_part.data.toList.drop 72 = dktX0_part_3 := dk_seg dksX0_part_2 24 rfl rfl
theorem dX0_part_0 : decode cX0_part 0 = .ok (.aload_n 0, 1) := dk_42 (dk_at dksX0_part_0 0 rfl rfl)
theorem dX0_part_1 : decode cX0_part 1 = .ok (.iload_n 1, 1) := dk_27 (dk_at dksX0_part_0 1 rfl rfl)
theorem dX0_part_2 : decode cX0_part 2 = .ok (.iload_n 2, 1) := dk_28 (dk_at dksX0_part_0 2 rfl rfl)
theorem dX0_part_3 : decode cX0_part 3 = .ok (.invokevirtual 237, 3) := dk_182 0 237 (dk_at dksX0_part_0 3 rfl rfl)
theorem dX0_part_6 : decode cX0_part 6 = .ok (.astore 4, 2) := dk_58 4 (dk_at dksX0_part_0 6 rfl rfl)
theorem dX0_part_8 : decode cX0_part 8 = .ok (.aload_n 0, 1) := dk_42 (dk_at dksX0_part_0 8 rfl rfl)
theorem dX0_part_9 : decode cX0_part 9 = .ok (.iload_n 3, 1) := dk_29 (dk_at dksX0_part_0 9 rfl rfl)
theorem dX0_part_10 : decode cX0_part 10 = .ok (.iconst 0, 1) := dk_3 (dk_at dksX0_part_0 10 rfl rfl)
theorem dX0_part_11 : decode cX0_part 11 = .ok (.iconst 1, 1) := dk_4 (dk_at dksX0_part_0 11 rfl rfl)
theorem dX0_part_12 : decode cX0_part 12 = .ok (.invokestatic 108, 3) := dk_184 0 108 (dk_at dksX0_part_0 12 rfl rfl)
theorem dX0_part_15 : decode cX0_part 15 = .ok (.iconst 1, 1) := dk_4 (dk_at dksX0_part_0 15 rfl rfl)
theorem dX0_part_16 : decode cX0_part 16 = .ok (.invokevirtual 126, 3) := dk_182 0 126 (dk_at dksX0_part_0 16 rfl rfl)
theorem dX0_part_19 : decode cX0_part 19 = .ok (.aload_n 0, 1) := dk_42 (dk_at dksX0_part_0 19 rfl rfl)
theorem dX0_part_20 : decode cX0_part 20 = .ok (.iload_n 3, 1) := dk_29 (dk_at dksX0_part_0 20 rfl rfl)
theorem dX0_part_21 : decode cX0_part 21 = .ok (.ifCond .eq 12, 3) := dk_153 0 12 (dk_at dksX0_part_0 21 rfl rfl)
theorem dX0_part_24 : decode cX0_part 24 = .ok (.aload 4, 2) := dk_25 4 (dk_at dksX0_part_1 0 rfl rfl)
theorem dX0_part_26 : decode cX0_part 26 = .ok (.iload_n 2, 1) := dk_28 (dk_at dksX0_part_1 2 rfl rfl)
theorem dX0_part_27 : decode cX0_part 27 = .ok (.invokevirtual 241, 3) := dk_182 0 241 (dk_at dksX0_part_1 3 rfl rfl)
theorem dX0_part_30 : decode cX0_part 30 = .ok (.ifCond .eq 7, 3) := dk_153 0 7 (dk_at dksX0_part_1 6 rfl rfl)
theorem dX0_part_33 : decode cX0_part 33 = .ok (.iconst 1, 1) := dk_4 (dk_at dksX0_part_1 9 rfl rfl)
theorem dX0_part_34 : decode cX0_part 34 = .ok (.goto 4, 3) := dk_167 0 4 (dk_at dksX0_part_1 10 rfl rfl)
theorem dX0_part_37 : decode cX0_part 37 = .ok (.iconst 0, 1) := dk_3 (dk_at dksX0_part_1 13 rfl rfl)
theorem dX0_part_38 : decode cX0_part 38 = .ok (.iconst 2, 1) := dk_5 (dk_at dksX0_part_1 14 rfl rfl)
theorem dX0_part_39 : decode cX0_part 39 = .ok (.invokevirtual 126, 3) := dk_182 0 126 (dk_at dksX0_part_1 15 rfl rfl)
theorem dX0_part_42 : decode cX0_part 42 = .ok (.iload_n 3, 1) := dk_29 (dk_at dksX0_part_1 18 rfl rfl)
theorem dX0_part_43 : decode cX0_part 43 = .ok (.ifCond .ne 13, 3) := dk_154 0 13 (dk_at dksX0_part_1 19 rfl rfl)
theorem dX0_part_46 : decode cX0_part 46 = .ok (.aload 4, 2) := dk_25 4 (dk_at dksX0_part_1 22 rfl rfl)
theorem dX0_part_48 : decode cX0_part 48 = .ok (.getfield 244, 3) := dk_180 0 244 (dk_at dksX0_part_2 0 rfl rfl)
theorem dX0_part_51 : decode cX0_part 51 = .ok (.iload_n 2, 1) := dk_28 (dk_at dksX0_part_2 3 rfl rfl)
theorem dX0_part_52 : decode cX0_part 52 = .ok (.iaload, 1) := dk_46 (dk_at dksX0_part_2 4 rfl rfl)
theorem dX0_part_53 : decode cX0_part 53 = .ok (.goto 10, 3) := dk_167 0 10 (dk_at dksX0_part_2 5 rfl rfl)
theorem dX0_part_56 : decode cX0_part 56 = .ok (.aload 4, 2) := dk_25 4 (dk_at dksX0_part_2 8 rfl rfl)
theorem dX0_part_58 : decode cX0_part 58 = .ok (.getfield 247, 3) := dk_180 0 247 (dk_at dksX0_part_2 10 rfl rfl)
theorem dX0_part_61 : decode cX0_part 61 = .ok (.iload_n 2, 1) := dk_28 (dk_at dksX0_part_2 13 rfl rfl)
theorem dX0_part_62 : decode cX0_part 62 = .ok (.iaload, 1) := dk_46 (dk_at dksX0_part_2 14 rfl rfl)
theorem dX0_part_63 : decode cX0_part 63 = .ok (.ireturn, 1) := dk_172 (dk_at dksX0_part_2 15 rfl rfl)
theorem dX0_part_64 : decode cX0_part 64 = .ok (.astore 4, 2) := dk_58 4 (dk_at dksX0_part_2 16 rfl rfl)
theorem dX0_part_66 : decode cX0_part 66 = .ok (.aload_n 0, 1) := dk_42 (dk_at dksX0_part_2 18 rfl rfl)
theorem dX0_part_67 : decode cX0_part 67 = .ok (.aload 4, 2) := dk_25 4 (dk_at dksX0_part_2 19 rfl rfl)
theorem dX0_part_69 : decode cX0_part 69 = .ok (.invokevirtual 136, 3) := dk_182 0 136 (dk_at dksX0_part_2 21 rfl rfl)
theorem dX0_part_72 : decode cX0_part 72 = .ok (.ireturn, 1) := dk_172 (dk_at dksX0_part_3 0 rfl rfl)
abbrev cX0_casesOf : ByteArray := prog_1_method_33_code
def yX0_casesOf : MethodName := ⟨RX0, "casesOf", "(II)LNineDemands$Cases;"⟩
def dkwX0_casesOf_1 : List UInt8 := [180, 0, 228, 78, 42, 28, 3, 45, 180, 0, 232, 4, 100, 184, 0, 108, 4, 182, 0, 126, 45, 176]
abbrev dktX0_casesOf_1 : List UInt8 := dkwX0_casesOf_1 ++ []
def dkwX0_casesOf_0 : List UInt8 := [42, 42, 27, 182, 0, 216, 4, 182, 0, 126, 42, 180, 0, 57, 180, 0, 112, 27, 182, 0, 219, 192, 0, 45]
abbrev dktX0_casesOf_0 : List UInt8 := dkwX0_casesOf_0 ++ dktX0_casesOf_1
theorem dksX0_casesOf_0 : cX0_casesOf.data.toList.drop 0 = dktX0_casesOf_0 := by decide +kernel
theorem dksX0_casesOf_1 : cX0_casesOf.data.toList.drop 24 = dktX0_casesOf_1 := dk_seg dksX0_casesOf_0 24 rfl rfl
theorem dX0_casesOf_0 : decode cX0_casesOf 0 = .ok (.aload_n 0, 1) := dk_42 (dk_at dksX0_casesOf_0 0 rfl rfl)
theorem dX0_casesOf_1 : decode cX0_casesOf 1 = .ok (.aload_n 0, 1) := dk_42 (dk_at dksX0_casesOf_0 1 rfl rfl)
theorem dX0_casesOf_2 : decode cX0_casesOf 2 = .ok (.iload_n 1, 1) := dk_27 (dk_at dksX0_casesOf_0 2 rfl rfl)
theorem dX0_casesOf_3 : decode cX0_casesOf 3 = .ok (.invokevirtual 216, 3) := dk_182 0 216 (dk_at dksX0_casesOf_0 3 rfl rfl)
theorem dX0_casesOf_6 : decode cX0_casesOf 6 = .ok (.iconst 1, 1) := dk_4 (dk_at dksX0_casesOf_0 6 rfl rfl)
theorem dX0_casesOf_7 : decode cX0_casesOf 7 = .ok (.invokevirtual 126, 3) := dk_182 0 126 (dk_at dksX0_casesOf_0 7 rfl rfl)
theorem dX0_casesOf_10 : decode cX0_casesOf 10 = .ok (.aload_n 0, 1) := dk_42 (dk_at dksX0_casesOf_0 10 rfl rfl)
theorem dX0_casesOf_11 : decode cX0_casesOf 11 = .ok (.getfield 57, 3) := dk_180 0 57 (dk_at dksX0_casesOf_0 11 rfl rfl)
theorem dX0_casesOf_14 : decode cX0_casesOf 14 = .ok (.getfield 112, 3) := dk_180 0 112 (dk_at dksX0_casesOf_0 14 rfl rfl)
theorem dX0_casesOf_17 : decode cX0_casesOf 17 = .ok (.iload_n 1, 1) := dk_27 (dk_at dksX0_casesOf_0 17 rfl rfl)
theorem dX0_casesOf_18 : decode cX0_casesOf 18 = .ok (.invokevirtual 219, 3) := dk_182 0 219 (dk_at dksX0_casesOf_0 18 rfl rfl)
theorem dX0_casesOf_21 : decode cX0_casesOf 21 = .ok (.checkcast 45, 3) := dk_192 0 45 (dk_at dksX0_casesOf_0 21 rfl rfl)
theorem dX0_casesOf_24 : decode cX0_casesOf 24 = .ok (.getfield 228, 3) := dk_180 0 228 (dk_at dksX0_casesOf_1 0 rfl rfl)
theorem dX0_casesOf_27 : decode cX0_casesOf 27 = .ok (.astore_n 3, 1) := dk_78 (dk_at dksX0_casesOf_1 3 rfl rfl)
theorem dX0_casesOf_28 : decode cX0_casesOf 28 = .ok (.aload_n 0, 1) := dk_42 (dk_at dksX0_casesOf_1 4 rfl rfl)
theorem dX0_casesOf_29 : decode cX0_casesOf 29 = .ok (.iload_n 2, 1) := dk_28 (dk_at dksX0_casesOf_1 5 rfl rfl)
theorem dX0_casesOf_30 : decode cX0_casesOf 30 = .ok (.iconst 0, 1) := dk_3 (dk_at dksX0_casesOf_1 6 rfl rfl)
theorem dX0_casesOf_31 : decode cX0_casesOf 31 = .ok (.aload_n 3, 1) := dk_45 (dk_at dksX0_casesOf_1 7 rfl rfl)
theorem dX0_casesOf_32 : decode cX0_casesOf 32 = .ok (.getfield 232, 3) := dk_180 0 232 (dk_at dksX0_casesOf_1 8 rfl rfl)
theorem dX0_casesOf_35 : decode cX0_casesOf 35 = .ok (.iconst 1, 1) := dk_4 (dk_at dksX0_casesOf_1 11 rfl rfl)
theorem dX0_casesOf_36 : decode cX0_casesOf 36 = .ok (.isub, 1) := dk_100 (dk_at dksX0_casesOf_1 12 rfl rfl)
theorem dX0_casesOf_37 : decode cX0_casesOf 37 = .ok (.invokestatic 108, 3) := dk_184 0 108 (dk_at dksX0_casesOf_1 13 rfl rfl)
theorem dX0_casesOf_40 : decode cX0_casesOf 40 = .ok (.iconst 1, 1) := dk_4 (dk_at dksX0_casesOf_1 16 rfl rfl)
theorem dX0_casesOf_41 : decode cX0_casesOf 41 = .ok (.invokevirtual 126, 3) := dk_182 0 126 (dk_at dksX0_casesOf_1 17 rfl rfl)
theorem dX0_casesOf_44 : decode cX0_casesOf 44 = .ok (.aload_n 3, 1) := dk_45 (dk_at dksX0_casesOf_1 20 rfl rfl)
theorem dX0_casesOf_45 : decode cX0_casesOf 45 = .ok (.areturn, 1) := dk_176 (dk_at dksX0_casesOf_1 21 rfl rfl)
abbrev cX0_so : ByteArray := prog_1_method_35_code
def yX0_so : MethodName := ⟨RX0, "so", "(IIII)I"⟩
def dkwX0_so_4 : List UInt8 := [172]
abbrev dktX0_so_4 : List UInt8 := dkwX0_so_4 ++ []
def dkwX0_so_3 : List UInt8 := [167, 0, 4, 4, 182, 0, 250, 153, 0, 7, 4, 167, 0, 4, 3, 172, 58, 5, 42, 25, 5, 182, 0, 136]
abbrev dktX0_so_3 : List UInt8 := dkwX0_so_3 ++ dktX0_so_4
def dkwX0_so_2 : List UInt8 := [180, 0, 112, 27, 182, 0, 219, 192, 0, 45, 28, 29, 25, 5, 28, 182, 0, 241, 153, 0, 8, 21, 4]
abbrev dktX0_so_2 : List UInt8 := dkwX0_so_2 ++ dktX0_so_3
def dkwX0_so_1 : List UInt8 := [153, 0, 11, 21, 4, 184, 0, 143, 153, 0, 7, 4, 167, 0, 4, 3, 4, 182, 0, 126, 42, 180, 0, 57]
abbrev dktX0_so_1 : List UInt8 := dkwX0_so_1 ++ dktX0_so_2
def dkwX0_so_0 : List UInt8 := [42, 27, 28, 182, 0, 237, 58, 5, 42, 29, 184, 0, 143, 153, 0, 24, 25, 5, 28, 182, 0, 241]
abbrev dktX0_so_0 : List UInt8 := dkwX0_so_0 ++ dktX0_so_1
theorem dksX0_so_0 : cX0_so.data.toList.drop 0 = dktX0_so_0 := by decide +kernel
theorem dksX0_so_1 : cX0_so.data.toList.drop 22 = dktX0_so_1 := dk_seg dksX0_so_0 22 rfl rfl
theorem dksX0_so_2 : cX0_so.data.toList.drop 46 = dktX0_so_2 := dk_seg dksX0_so_1 24 rfl rfl
theorem dksX0_so_3 : cX0_so.data.toList.drop 69 = dktX0_so_3 := dk_seg dksX0_so_2 23 rfl rfl
theorem dksX0_so_4 : cX0_so.data.toList.drop 93 = dktX0_so_4 := dk_seg dksX0_so_3 24 rfl rfl
theorem dX0_so_0 : decode cX0_so 0 = .ok (.aload_n 0, 1) := dk_42 (dk_at dksX0_so_0 0 rfl rfl)
theorem dX0_so_1 : decode cX0_so 1 = .ok (.iload_n 1, 1) := dk_27 (dk_at dksX0_so_0 1 rfl rfl)
theorem dX0_so_2 : decode cX0_so 2 = .ok (.iload_n 2, 1) := dk_28 (dk_at dksX0_so_0 2 rfl rfl)
theorem dX0_so_3 : decode cX0_so 3 = .ok (.invokevirtual 237, 3) := dk_182 0 237 (dk_at dksX0_so_0 3 rfl rfl)
theorem dX0_so_6 : decode cX0_so 6 = .ok (.astore 5, 2) := dk_58 5 (dk_at dksX0_so_0 6 rfl rfl)
theorem dX0_so_8 : decode cX0_so 8 = .ok (.aload_n 0, 1) := dk_42 (dk_at dksX0_so_0 8 rfl rfl)
theorem dX0_so_9 : decode cX0_so 9 = .ok (.iload_n 3, 1) := dk_29 (dk_at dksX0_so_0 9 rfl rfl)
theorem dX0_so_10 : decode cX0_so 10 = .ok (.invokestatic 143, 3) := dk_184 0 143 (dk_at dksX0_so_0 10 rfl rfl)
theorem dX0_so_13 : decode cX0_so 13 = .ok (.ifCond .eq 24, 3) := dk_153 0 24 (dk_at dksX0_so_0 13 rfl rfl)
theorem dX0_so_16 : decode cX0_so 16 = .ok (.aload 5, 2) := dk_25 5 (dk_at dksX0_so_0 16 rfl rfl)
theorem dX0_so_18 : decode cX0_so 18 = .ok (.iload_n 2, 1) := dk_28 (dk_at dksX0_so_0 18 rfl rfl)
theorem dX0_so_19 : decode cX0_so 19 = .ok (.invokevirtual 241, 3) := dk_182 0 241 (dk_at dksX0_so_0 19 rfl rfl)
theorem dX0_so_22 : decode cX0_so 22 = .ok (.ifCond .eq 11, 3) := dk_153 0 11 (dk_at dksX0_so_1 0 rfl rfl)
theorem dX0_so_25 : decode cX0_so 25 = .ok (.iload 4, 2) := dk_21 4 (dk_at dksX0_so_1 3 rfl rfl)
theorem dX0_so_27 : decode cX0_so 27 = .ok (.invokestatic 143, 3) := dk_184 0 143 (dk_at dksX0_so_1 5 rfl rfl)
theorem dX0_so_30 : decode cX0_so 30 = .ok (.ifCond .eq 7, 3) := dk_153 0 7 (dk_at dksX0_so_1 8 rfl rfl)
theorem dX0_so_33 : decode cX0_so 33 = .ok (.iconst 1, 1) := dk_4 (dk_at dksX0_so_1 11 rfl rfl)
theorem dX0_so_34 : decode cX0_so 34 = .ok (.goto 4, 3) := dk_167 0 4 (dk_at dksX0_so_1 12 rfl rfl)
theorem dX0_so_37 : decode cX0_so 37 = .ok (.iconst 0, 1) := dk_3 (dk_at dksX0_so_1 15 rfl rfl)
theorem dX0_so_38 : decode cX0_so 38 = .ok (.iconst 1, 1) := dk_4 (dk_at dksX0_so_1 16 rfl rfl)
theorem dX0_so_39 : decode cX0_so 39 = .ok (.invokevirtual 126, 3) := dk_182 0 126 (dk_at dksX0_so_1 17 rfl rfl)
theorem dX0_so_42 : decode cX0_so 42 = .ok (.aload_n 0, 1) := dk_42 (dk_at dksX0_so_1 20 rfl rfl)
theorem dX0_so_43 : decode cX0_so 43 = .ok (.getfield 57, 3) := dk_180 0 57 (dk_at dksX0_so_1 21 rfl rfl)
theorem dX0_so_46 : decode cX0_so 46 = .ok (.getfield 112, 3) := dk_180 0 112 (dk_at dksX0_so_2 0 rfl rfl)
theorem dX0_so_49 : decode cX0_so 49 = .ok (.iload_n 1, 1) := dk_27 (dk_at dksX0_so_2 3 rfl rfl)
theorem dX0_so_50 : decode cX0_so 50 = .ok (.invokevirtual 219, 3) := dk_182 0 219 (dk_at dksX0_so_2 4 rfl rfl)
theorem dX0_so_53 : decode cX0_so 53 = .ok (.checkcast 45, 3) := dk_192 0 45 (dk_at dksX0_so_2 7 rfl rfl)
theorem dX0_so_56 : decode cX0_so 56 = .ok (.iload_n 2, 1) := dk_28 (dk_at dksX0_so_2 10 rfl rfl)
theorem dX0_so_57 : decode cX0_so 57 = .ok (.iload_n 3, 1) := dk_29 (dk_at dksX0_so_2 11 rfl rfl)
theorem dX0_so_58 : decode cX0_so 58 = .ok (.aload 5, 2) := dk_25 5 (dk_at dksX0_so_2 12 rfl rfl)
theorem dX0_so_60 : decode cX0_so 60 = .ok (.iload_n 2, 1) := dk_28 (dk_at dksX0_so_2 14 rfl rfl)
theorem dX0_so_61 : decode cX0_so 61 = .ok (.invokevirtual 241, 3) := dk_182 0 241 (dk_at dksX0_so_2 15 rfl rfl)
theorem dX0_so_64 : decode cX0_so 64 = .ok (.ifCond .eq 8, 3) := dk_153 0 8 (dk_at dksX0_so_2 18 rfl rfl)
theorem dX0_so_67 : decode cX0_so 67 = .ok (.iload 4, 2) := dk_21 4 (dk_at dksX0_so_2 21 rfl rfl)
theorem dX0_so_69 : decode cX0_so 69 = .ok (.goto 4, 3) := dk_167 0 4 (dk_at dksX0_so_3 0 rfl rfl)
theorem dX0_so_72 : decode cX0_so 72 = .ok (.iconst 1, 1) := dk_4 (dk_at dksX0_so_3 3 rfl rfl)
theorem dX0_so_73 : decode cX0_so 73 = .ok (.invokevirtual 250, 3) := dk_182 0 250 (dk_at dksX0_so_3 4 rfl rfl)
theorem dX0_so_76 : decode cX0_so 76 = .ok (.ifCond .eq 7, 3) := dk_153 0 7 (dk_at dksX0_so_3 7 rfl rfl)
theorem dX0_so_79 : decode cX0_so 79 = .ok (.iconst 1, 1) := dk_4 (dk_at dksX0_so_3 10 rfl rfl)
theorem dX0_so_80 : decode cX0_so 80 = .ok (.goto 4, 3) := dk_167 0 4 (dk_at dksX0_so_3 11 rfl rfl)
theorem dX0_so_83 : decode cX0_so 83 = .ok (.iconst 0, 1) := dk_3 (dk_at dksX0_so_3 14 rfl rfl)
theorem dX0_so_84 : decode cX0_so 84 = .ok (.ireturn, 1) := dk_172 (dk_at dksX0_so_3 15 rfl rfl)
theorem dX0_so_85 : decode cX0_so 85 = .ok (.astore 5, 2) := dk_58 5 (dk_at dksX0_so_3 16 rfl rfl)
theorem dX0_so_87 : decode cX0_so 87 = .ok (.aload_n 0, 1) := dk_42 (dk_at dksX0_so_3 18 rfl rfl)
theorem dX0_so_88 : decode cX0_so 88 = .ok (.aload 5, 2) := dk_25 5 (dk_at dksX0_so_3 19 rfl rfl)
theorem dX0_so_90 : decode cX0_so 90 = .ok (.invokevirtual 136, 3) := dk_182 0 136 (dk_at dksX0_so_3 21 rfl rfl)
theorem dX0_so_93 : decode cX0_so 93 = .ok (.ireturn, 1) := dk_172 (dk_at dksX0_so_4 0 rfl rfl)
abbrev cX0_breach : ByteArray := prog_1_method_36_code
def yX0_breach : MethodName := ⟨RX0, "breach", "(I)I"⟩
def dkwX0_breach_2 : List UInt8 := [182, 0, 126, 28, 172, 77, 42, 44, 182, 0, 136, 172]
abbrev dktX0_breach_2 : List UInt8 := dkwX0_breach_2 ++ []
def dkwX0_breach_1 : List UInt8 := [42, 180, 0, 57, 180, 0, 146, 184, 0, 253, 61, 42, 28, 2, 159, 0, 7, 4, 167, 0, 4, 3, 5]
abbrev dktX0_breach_1 : List UInt8 := dkwX0_breach_1 ++ dktX0_breach_2
def dkwX0_breach_0 : List UInt8 := [42, 42, 27, 182, 0, 216, 4, 182, 0, 126, 42, 180, 0, 57, 180, 0, 112, 27, 182, 0, 219, 192, 0, 45]
abbrev dktX0_breach_0 : List UInt8 := dkwX0_breach_0 ++ dktX0_breach_1
theorem dksX0_breach_0 : cX0_breach.data.toList.drop 0 = dktX0_breach_0 := by decide +kernel
theorem dksX0_breach_1 : cX0_breach.data.toList.drop 24 = dktX0_breach_1 := dk_seg dksX0_breach_0 24 rfl rfl
theorem dksX0_breach_2 : cX0_breach.data.toList.drop 47 = dktX0_breach_2 := dk_seg dksX0_breach_1 23 rfl rfl
theorem dX0_breach_0 : decode cX0_breach 0 = .ok (.aload_n 0, 1) := dk_42 (dk_at dksX0_breach_0 0 rfl rfl)
theorem dX0_breach_1 : decode cX0_breach 1 = .ok (.aload_n 0, 1) := dk_42 (dk_at dksX0_breach_0 1 rfl rfl)
theorem dX0_breach_2 : decode cX0_breach 2 = .ok (.iload_n 1, 1) := dk_27 (dk_at dksX0_breach_0 2 rfl rfl)
theorem dX0_breach_3 : decode cX0_breach 3 = .ok (.invokevirtual 216, 3) := dk_182 0 216 (dk_at dksX0_breach_0 3 rfl rfl)
theorem dX0_breach_6 : decode cX0_breach 6 = .ok (.iconst 1, 1) := dk_4 (dk_at dksX0_breach_0 6 rfl rfl)
theorem dX0_breach_7 : decode cX0_breach 7 = .ok (.invokevirtual 126, 3) := dk_182 0 126 (dk_at dksX0_breach_0 7 rfl rfl)
theorem dX0_breach_10 : decode cX0_breach 10 = .ok (.aload_n 0, 1) := dk_42 (dk_at dksX0_breach_0 10 rfl rfl)
theorem dX0_breach_11 : decode cX0_breach 11 = .ok (.getfield 57, 3) := dk_180 0 57 (dk_at dksX0_breach_0 11 rfl rfl)
theorem dX0_breach_14 : decode cX0_breach 14 = .ok (.getfield 112, 3) := dk_180 0 112 (dk_at dksX0_breach_0 14 rfl rfl)
theorem dX0_breach_17 : decode cX0_breach 17 = .ok (.iload_n 1, 1) := dk_27 (dk_at dksX0_breach_0 17 rfl rfl)
theorem dX0_breach_18 : decode cX0_breach 18 = .ok (.invokevirtual 219, 3) := dk_182 0 219 (dk_at dksX0_breach_0 18 rfl rfl)
theorem dX0_breach_21 : decode cX0_breach 21 = .ok (.checkcast 45, 3) := dk_192 0 45 (dk_at dksX0_breach_0 21 rfl rfl)
theorem dX0_breach_24 : decode cX0_breach 24 = .ok (.aload_n 0, 1) := dk_42 (dk_at dksX0_breach_1 0 rfl rfl)
theorem dX0_breach_25 : decode cX0_breach 25 = .ok (.getfield 57, 3) := dk_180 0 57 (dk_at dksX0_breach_1 1 rfl rfl)
theorem dX0_breach_28 : decode cX0_breach 28 = .ok (.getfield 146, 3) := dk_180 0 146 (dk_at dksX0_breach_1 4 rfl rfl)
theorem dX0_breach_31 : decode cX0_breach 31 = .ok (.invokestatic 253, 3) := dk_184 0 253 (dk_at dksX0_breach_1 7 rfl rfl)
theorem dX0_breach_34 : decode cX0_breach 34 = .ok (.istore_n 2, 1) := dk_61 (dk_at dksX0_breach_1 10 rfl rfl)
theorem dX0_breach_35 : decode cX0_breach 35 = .ok (.aload_n 0, 1) := dk_42 (dk_at dksX0_breach_1 11 rfl rfl)
theorem dX0_breach_36 : decode cX0_breach 36 = .ok (.iload_n 2, 1) := dk_28 (dk_at dksX0_breach_1 12 rfl rfl)
theorem dX0_breach_37 : decode cX0_breach 37 = .ok (.iconst (-1), 1) := dk_2 (dk_at dksX0_breach_1 13 rfl rfl)
theorem dX0_breach_38 : decode cX0_breach 38 = .ok (.if_icmp .eq 7, 3) := dk_159 0 7 (dk_at dksX0_breach_1 14 rfl rfl)
theorem dX0_breach_41 : decode cX0_breach 41 = .ok (.iconst 1, 1) := dk_4 (dk_at dksX0_breach_1 17 rfl rfl)
theorem dX0_breach_42 : decode cX0_breach 42 = .ok (.goto 4, 3) := dk_167 0 4 (dk_at dksX0_breach_1 18 rfl rfl)
theorem dX0_breach_45 : decode cX0_breach 45 = .ok (.iconst 0, 1) := dk_3 (dk_at dksX0_breach_1 21 rfl rfl)
theorem dX0_breach_46 : decode cX0_breach 46 = .ok (.iconst 2, 1) := dk_5 (dk_at dksX0_breach_1 22 rfl rfl)
theorem dX0_breach_47 : decode cX0_breach 47 = .ok (.invokevirtual 126, 3) := dk_182 0 126 (dk_at dksX0_breach_2 0 rfl rfl)
theorem dX0_breach_50 : decode cX0_breach 50 = .ok (.iload_n 2, 1) := dk_28 (dk_at dksX0_breach_2 3 rfl rfl)
theorem dX0_breach_51 : decode cX0_breach 51 = .ok (.ireturn, 1) := dk_172 (dk_at dksX0_breach_2 4 rfl rfl)
theorem dX0_breach_52 : decode cX0_breach 52 = .ok (.astore_n 2, 1) := dk_77 (dk_at dksX0_breach_2 5 rfl rfl)
theorem dX0_breach_53 : decode cX0_breach 53 = .ok (.aload_n 0, 1) := dk_42 (dk_at dksX0_breach_2 6 rfl rfl)
theorem dX0_breach_54 : decode cX0_breach 54 = .ok (.aload_n 2, 1) := dk_44 (dk_at dksX0_breach_2 7 rfl rfl)
theorem dX0_breach_55 : decode cX0_breach 55 = .ok (.invokevirtual 136, 3) := dk_182 0 136 (dk_at dksX0_breach_2 8 rfl rfl)
theorem dX0_breach_58 : decode cX0_breach 58 = .ok (.ireturn, 1) := dk_172 (dk_at dksX0_breach_2 11 rfl rfl)
abbrev cX0_kept : ByteArray := prog_1_method_37_code
def yX0_kept : MethodName := ⟨RX0, "kept", "()I"⟩
def dkwX0_kept_2 : List UInt8 := [4, 28, 120, 167, 0, 4, 3, 128, 60, 132, 2, 1, 167, 255, 201, 27, 172]
abbrev dktX0_kept_2 : List UInt8 := dkwX0_kept_2 ++ []
def dkwX0_kept_1 : List UInt8 := [180, 0, 112, 28, 182, 0, 219, 192, 0, 45, 42, 180, 0, 57, 180, 0, 146, 184, 0, 253, 2, 160, 0, 9]
abbrev dktX0_kept_1 : List UInt8 := dkwX0_kept_1 ++ dktX0_kept_2
def dkwX0_kept_0 : List UInt8 := [3, 60, 3, 61, 28, 42, 180, 0, 57, 180, 0, 112, 182, 0, 116, 162, 0, 47, 27, 42, 180, 0, 57]
abbrev dktX0_kept_0 : List UInt8 := dkwX0_kept_0 ++ dktX0_kept_1
theorem dksX0_kept_0 : cX0_kept.data.toList.drop 0 = dktX0_kept_0 := by decide +kernel
theorem dksX0_kept_1 : cX0_kept.data.toList.drop 23 = dktX0_kept_1 := dk_seg dksX0_kept_0 23 rfl rfl
theorem dksX0_kept_2 : cX0_kept.data.toList.drop 47 = dktX0_kept_2 := dk_seg dksX0_kept_1 24 rfl rfl
theorem dX0_kept_0 : decode cX0_kept 0 = .ok (.iconst 0, 1) := dk_3 (dk_at dksX0_kept_0 0 rfl rfl)
theorem dX0_kept_1 : decode cX0_kept 1 = .ok (.istore_n 1, 1) := dk_60 (dk_at dksX0_kept_0 1 rfl rfl)
theorem dX0_kept_2 : decode cX0_kept 2 = .ok (.iconst 0, 1) := dk_3 (dk_at dksX0_kept_0 2 rfl rfl)
theorem dX0_kept_3 : decode cX0_kept 3 = .ok (.istore_n 2, 1) := dk_61 (dk_at dksX0_kept_0 3 rfl rfl)
theorem dX0_kept_4 : decode cX0_kept 4 = .ok (.iload_n 2, 1) := dk_28 (dk_at dksX0_kept_0 4 rfl rfl)
theorem dX0_kept_5 : decode cX0_kept 5 = .ok (.aload_n 0, 1) := dk_42 (dk_at dksX0_kept_0 5 rfl rfl)
theorem dX0_kept_6 : decode cX0_kept 6 = .ok (.getfield 57, 3) := dk_180 0 57 (dk_at dksX0_kept_0 6 rfl rfl)
theorem dX0_kept_9 : decode cX0_kept 9 = .ok (.getfield 112, 3) := dk_180 0 112 (dk_at dksX0_kept_0 9 rfl rfl)
theorem dX0_kept_12 : decode cX0_kept 12 = .ok (.invokevirtual 116, 3) := dk_182 0 116 (dk_at dksX0_kept_0 12 rfl rfl)
theorem dX0_kept_15 : decode cX0_kept 15 = .ok (.if_icmp .ge 47, 3) := dk_162 0 47 (dk_at dksX0_kept_0 15 rfl rfl)
theorem dX0_kept_18 : decode cX0_kept 18 = .ok (.iload_n 1, 1) := dk_27 (dk_at dksX0_kept_0 18 rfl rfl)
theorem dX0_kept_19 : decode cX0_kept 19 = .ok (.aload_n 0, 1) := dk_42 (dk_at dksX0_kept_0 19 rfl rfl)
theorem dX0_kept_20 : decode cX0_kept 20 = .ok (.getfield 57, 3) := dk_180 0 57 (dk_at dksX0_kept_0 20 rfl rfl)
theorem dX0_kept_23 : decode cX0_kept 23 = .ok (.getfield 112, 3) := dk_180 0 112 (dk_at dksX0_kept_1 0 rfl rfl)
theorem dX0_kept_26 : decode cX0_kept 26 = .ok (.iload_n 2, 1) := dk_28 (dk_at dksX0_kept_1 3 rfl rfl)
theorem dX0_kept_27 : decode cX0_kept 27 = .ok (.invokevirtual 219, 3) := dk_182 0 219 (dk_at dksX0_kept_1 4 rfl rfl)
theorem dX0_kept_30 : decode cX0_kept 30 = .ok (.checkcast 45, 3) := dk_192 0 45 (dk_at dksX0_kept_1 7 rfl rfl)
theorem dX0_kept_33 : decode cX0_kept 33 = .ok (.aload_n 0, 1) := dk_42 (dk_at dksX0_kept_1 10 rfl rfl)
theorem dX0_kept_34 : decode cX0_kept 34 = .ok (.getfield 57, 3) := dk_180 0 57 (dk_at dksX0_kept_1 11 rfl rfl)
theorem dX0_kept_37 : decode cX0_kept 37 = .ok (.getfield 146, 3) := dk_180 0 146 (dk_at dksX0_kept_1 14 rfl rfl)
theorem dX0_kept_40 : decode cX0_kept 40 = .ok (.invokestatic 253, 3) := dk_184 0 253 (dk_at dksX0_kept_1 17 rfl rfl)
theorem dX0_kept_43 : decode cX0_kept 43 = .ok (.iconst (-1), 1) := dk_2 (dk_at dksX0_kept_1 20 rfl rfl)
theorem dX0_kept_44 : decode cX0_kept 44 = .ok (.if_icmp .ne 9, 3) := dk_160 0 9 (dk_at dksX0_kept_1 21 rfl rfl)
theorem dX0_kept_47 : decode cX0_kept 47 = .ok (.iconst 1, 1) := dk_4 (dk_at dksX0_kept_2 0 rfl rfl)
theorem dX0_kept_48 : decode cX0_kept 48 = .ok (.iload_n 2, 1) := dk_28 (dk_at dksX0_kept_2 1 rfl rfl)
theorem dX0_kept_49 : decode cX0_kept 49 = .ok (.ishl, 1) := dk_120 (dk_at dksX0_kept_2 2 rfl rfl)
theorem dX0_kept_50 : decode cX0_kept 50 = .ok (.goto 4, 3) := dk_167 0 4 (dk_at dksX0_kept_2 3 rfl rfl)
theorem dX0_kept_53 : decode cX0_kept 53 = .ok (.iconst 0, 1) := dk_3 (dk_at dksX0_kept_2 6 rfl rfl)
theorem dX0_kept_54 : decode cX0_kept 54 = .ok (.ior, 1) := dk_128 (dk_at dksX0_kept_2 7 rfl rfl)
theorem dX0_kept_55 : decode cX0_kept 55 = .ok (.istore_n 1, 1) := dk_60 (dk_at dksX0_kept_2 8 rfl rfl)
theorem dX0_kept_56 : decode cX0_kept 56 = .ok (.iinc 2 1, 3) := dk_132 2 1 (dk_at dksX0_kept_2 9 rfl rfl)
theorem dX0_kept_59 : decode cX0_kept 59 = .ok (.goto (-55), 3) := dk_167 255 201 (dk_at dksX0_kept_2 12 rfl rfl)
theorem dX0_kept_62 : decode cX0_kept 62 = .ok (.iload_n 1, 1) := dk_27 (dk_at dksX0_kept_2 15 rfl rfl)
theorem dX0_kept_63 : decode cX0_kept 63 = .ok (.ireturn, 1) := dk_172 (dk_at dksX0_kept_2 16 rfl rfl)
abbrev cX0_find : ByteArray := prog_1_method_40_code
def yX0_find : MethodName := ⟨RX0, "find", "(II)I"⟩
def dkwX0_find_2 : List UInt8 := [180, 0, 78, 180, 1, 32, 28, 46, 172, 78, 42, 45, 182, 0, 136, 172]
abbrev dktX0_find_2 : List UInt8 := dkwX0_find_2 ++ []
def dkwX0_find_1 : List UInt8 := [182, 0, 126, 42, 42, 27, 182, 1, 29, 154, 0, 7, 4, 167, 0, 4, 3, 5, 182, 0, 126, 42]
abbrev dktX0_find_1 : List UInt8 := dkwX0_find_1 ++ dktX0_find_2
def dkwX0_find_0 : List UInt8 := [42, 42, 27, 182, 1, 26, 153, 0, 14, 28, 184, 0, 132, 153, 0, 7, 4, 167, 0, 4, 3, 4]
abbrev dktX0_find_0 : List UInt8 := dkwX0_find_0 ++ dktX0_find_1
theorem dksX0_find_0 : cX0_find.data.toList.drop 0 = dktX0_find_0 := by decide +kernel
theorem dksX0_find_1 : cX0_find.data.toList.drop 22 = dktX0_find_1 := dk_seg dksX0_find_0 22 rfl rfl
theorem dksX0_find_2 : cX0_find.data.toList.drop 44 = dktX0_find_2 := dk_seg dksX0_find_1 22 rfl rfl
theorem dX0_find_0 : decode cX0_find 0 = .ok (.aload_n 0, 1) := dk_42 (dk_at dksX0_find_0 0 rfl rfl)
theorem dX0_find_1 : decode cX0_find 1 = .ok (.aload_n 0, 1) := dk_42 (dk_at dksX0_find_0 1 rfl rfl)
theorem dX0_find_2 : decode cX0_find 2 = .ok (.iload_n 1, 1) := dk_27 (dk_at dksX0_find_0 2 rfl rfl)
theorem dX0_find_3 : decode cX0_find 3 = .ok (.invokevirtual 282, 3) := dk_182 1 26 (dk_at dksX0_find_0 3 rfl rfl)
theorem dX0_find_6 : decode cX0_find 6 = .ok (.ifCond .eq 14, 3) := dk_153 0 14 (dk_at dksX0_find_0 6 rfl rfl)
theorem dX0_find_9 : decode cX0_find 9 = .ok (.iload_n 2, 1) := dk_28 (dk_at dksX0_find_0 9 rfl rfl)
theorem dX0_find_10 : decode cX0_find 10 = .ok (.invokestatic 132, 3) := dk_184 0 132 (dk_at dksX0_find_0 10 rfl rfl)
theorem dX0_find_13 : decode cX0_find 13 = .ok (.ifCond .eq 7, 3) := dk_153 0 7 (dk_at dksX0_find_0 13 rfl rfl)
theorem dX0_find_16 : decode cX0_find 16 = .ok (.iconst 1, 1) := dk_4 (dk_at dksX0_find_0 16 rfl rfl)
theorem dX0_find_17 : decode cX0_find 17 = .ok (.goto 4, 3) := dk_167 0 4 (dk_at dksX0_find_0 17 rfl rfl)
theorem dX0_find_20 : decode cX0_find 20 = .ok (.iconst 0, 1) := dk_3 (dk_at dksX0_find_0 20 rfl rfl)
theorem dX0_find_21 : decode cX0_find 21 = .ok (.iconst 1, 1) := dk_4 (dk_at dksX0_find_0 21 rfl rfl)
theorem dX0_find_22 : decode cX0_find 22 = .ok (.invokevirtual 126, 3) := dk_182 0 126 (dk_at dksX0_find_1 0 rfl rfl)
theorem dX0_find_25 : decode cX0_find 25 = .ok (.aload_n 0, 1) := dk_42 (dk_at dksX0_find_1 3 rfl rfl)
theorem dX0_find_26 : decode cX0_find 26 = .ok (.aload_n 0, 1) := dk_42 (dk_at dksX0_find_1 4 rfl rfl)
theorem dX0_find_27 : decode cX0_find 27 = .ok (.iload_n 1, 1) := dk_27 (dk_at dksX0_find_1 5 rfl rfl)
theorem dX0_find_28 : decode cX0_find 28 = .ok (.invokevirtual 285, 3) := dk_182 1 29 (dk_at dksX0_find_1 6 rfl rfl)
theorem dX0_find_31 : decode cX0_find 31 = .ok (.ifCond .ne 7, 3) := dk_154 0 7 (dk_at dksX0_find_1 9 rfl rfl)
theorem dX0_find_34 : decode cX0_find 34 = .ok (.iconst 1, 1) := dk_4 (dk_at dksX0_find_1 12 rfl rfl)
theorem dX0_find_35 : decode cX0_find 35 = .ok (.goto 4, 3) := dk_167 0 4 (dk_at dksX0_find_1 13 rfl rfl)
theorem dX0_find_38 : decode cX0_find 38 = .ok (.iconst 0, 1) := dk_3 (dk_at dksX0_find_1 16 rfl rfl)
theorem dX0_find_39 : decode cX0_find 39 = .ok (.iconst 2, 1) := dk_5 (dk_at dksX0_find_1 17 rfl rfl)
theorem dX0_find_40 : decode cX0_find 40 = .ok (.invokevirtual 126, 3) := dk_182 0 126 (dk_at dksX0_find_1 18 rfl rfl)
theorem dX0_find_43 : decode cX0_find 43 = .ok (.aload_n 0, 1) := dk_42 (dk_at dksX0_find_1 21 rfl rfl)
theorem dX0_find_44 : decode cX0_find 44 = .ok (.getfield 78, 3) := dk_180 0 78 (dk_at dksX0_find_2 0 rfl rfl)
theorem dX0_find_47 : decode cX0_find 47 = .ok (.getfield 288, 3) := dk_180 1 32 (dk_at dksX0_find_2 3 rfl rfl)
theorem dX0_find_50 : decode cX0_find 50 = .ok (.iload_n 2, 1) := dk_28 (dk_at dksX0_find_2 6 rfl rfl)
theorem dX0_find_51 : decode cX0_find 51 = .ok (.iaload, 1) := dk_46 (dk_at dksX0_find_2 7 rfl rfl)
theorem dX0_find_52 : decode cX0_find 52 = .ok (.ireturn, 1) := dk_172 (dk_at dksX0_find_2 8 rfl rfl)
theorem dX0_find_53 : decode cX0_find 53 = .ok (.astore_n 3, 1) := dk_78 (dk_at dksX0_find_2 9 rfl rfl)
theorem dX0_find_54 : decode cX0_find 54 = .ok (.aload_n 0, 1) := dk_42 (dk_at dksX0_find_2 10 rfl rfl)
theorem dX0_find_55 : decode cX0_find 55 = .ok (.aload_n 3, 1) := dk_45 (dk_at dksX0_find_2 11 rfl rfl)
theorem dX0_find_56 : decode cX0_find 56 = .ok (.invokevirtual 136, 3) := dk_182 0 136 (dk_at dksX0_find_2 12 rfl rfl)
theorem dX0_find_59 : decode cX0_find 59 = .ok (.ireturn, 1) := dk_172 (dk_at dksX0_find_2 15 rfl rfl)
abbrev cX0_isSet : ByteArray := prog_1_method_20_code
def yX0_isSet : MethodName := ⟨RX0, "isSet", "(I)Z"⟩
def dkwX0_isSet_0 : List UInt8 := [27, 3, 4, 42, 180, 0, 57, 180, 0, 112, 182, 0, 116, 120, 4, 100, 184, 0, 108, 172]
abbrev dktX0_isSet_0 : List UInt8 := dkwX0_isSet_0 ++ []
theorem dksX0_isSet_0 : cX0_isSet.data.toList.drop 0 = dktX0_isSet_0 := by decide +kernel
theorem dX0_isSet_0 : decode cX0_isSet 0 = .ok (.iload_n 1, 1) := dk_27 (dk_at dksX0_isSet_0 0 rfl rfl)
theorem dX0_isSet_1 : decode cX0_isSet 1 = .ok (.iconst 0, 1) := dk_3 (dk_at dksX0_isSet_0 1 rfl rfl)
theorem dX0_isSet_2 : decode cX0_isSet 2 = .ok (.iconst 1, 1) := dk_4 (dk_at dksX0_isSet_0 2 rfl rfl)
theorem dX0_isSet_3 : decode cX0_isSet 3 = .ok (.aload_n 0, 1) := dk_42 (dk_at dksX0_isSet_0 3 rfl rfl)
theorem dX0_isSet_4 : decode cX0_isSet 4 = .ok (.getfield 57, 3) := dk_180 0 57 (dk_at dksX0_isSet_0 4 rfl rfl)
theorem dX0_isSet_7 : decode cX0_isSet 7 = .ok (.getfield 112, 3) := dk_180 0 112 (dk_at dksX0_isSet_0 7 rfl rfl)
theorem dX0_isSet_10 : decode cX0_isSet 10 = .ok (.invokevirtual 116, 3) := dk_182 0 116 (dk_at dksX0_isSet_0 10 rfl rfl)
theorem dX0_isSet_13 : decode cX0_isSet 13 = .ok (.ishl, 1) := dk_120 (dk_at dksX0_isSet_0 13 rfl rfl)
theorem dX0_isSet_14 : decode cX0_isSet 14 = .ok (.iconst 1, 1) := dk_4 (dk_at dksX0_isSet_0 14 rfl rfl)
theorem dX0_isSet_15 : decode cX0_isSet 15 = .ok (.isub, 1) := dk_100 (dk_at dksX0_isSet_0 15 rfl rfl)
theorem dX0_isSet_16 : decode cX0_isSet 16 = .ok (.invokestatic 108, 3) := dk_184 0 108 (dk_at dksX0_isSet_0 16 rfl rfl)
theorem dX0_isSet_19 : decode cX0_isSet 19 = .ok (.ireturn, 1) := dk_172 (dk_at dksX0_isSet_0 19 rfl rfl)
abbrev cX0_isOut : ByteArray := prog_1_method_39_code
def yX0_isOut : MethodName := ⟨RX0, "isOut", "(I)Z"⟩
def dkwX0_isOut_1 : List UInt8 := [154, 0, 7, 4, 167, 0, 4, 3, 172]
abbrev dktX0_isOut_1 : List UInt8 := dkwX0_isOut_1 ++ []
def dkwX0_isOut_0 : List UInt8 := [42, 27, 182, 1, 17, 42, 180, 0, 78, 17, 15, 255, 182, 1, 21, 42, 180, 0, 78, 182, 1, 24]
abbrev dktX0_isOut_0 : List UInt8 := dkwX0_isOut_0 ++ dktX0_isOut_1
theorem dksX0_isOut_0 : cX0_isOut.data.toList.drop 0 = dktX0_isOut_0 := by decide +kernel
theorem dksX0_isOut_1 : cX0_isOut.data.toList.drop 22 = dktX0_isOut_1 := dk_seg dksX0_isOut_0 22 rfl rfl
theorem dX0_isOut_0 : decode cX0_isOut 0 = .ok (.aload_n 0, 1) := dk_42 (dk_at dksX0_isOut_0 0 rfl rfl)
theorem dX0_isOut_1 : decode cX0_isOut 1 = .ok (.iload_n 1, 1) := dk_27 (dk_at dksX0_isOut_0 1 rfl rfl)
theorem dX0_isOut_2 : decode cX0_isOut 2 = .ok (.invokevirtual 273, 3) := dk_182 1 17 (dk_at dksX0_isOut_0 2 rfl rfl)
theorem dX0_isOut_5 : decode cX0_isOut 5 = .ok (.aload_n 0, 1) := dk_42 (dk_at dksX0_isOut_0 5 rfl rfl)
theorem dX0_isOut_6 : decode cX0_isOut 6 = .ok (.getfield 78, 3) := dk_180 0 78 (dk_at dksX0_isOut_0 6 rfl rfl)
theorem dX0_isOut_9 : decode cX0_isOut 9 = .ok (.sipush 4095, 3) := dk_17 15 255 (dk_at dksX0_isOut_0 9 rfl rfl)
theorem dX0_isOut_12 : decode cX0_isOut 12 = .ok (.invokevirtual 277, 3) := dk_182 1 21 (dk_at dksX0_isOut_0 12 rfl rfl)
theorem dX0_isOut_15 : decode cX0_isOut 15 = .ok (.aload_n 0, 1) := dk_42 (dk_at dksX0_isOut_0 15 rfl rfl)
theorem dX0_isOut_16 : decode cX0_isOut 16 = .ok (.getfield 78, 3) := dk_180 0 78 (dk_at dksX0_isOut_0 16 rfl rfl)
theorem dX0_isOut_19 : decode cX0_isOut 19 = .ok (.invokevirtual 280, 3) := dk_182 1 24 (dk_at dksX0_isOut_0 19 rfl rfl)
theorem dX0_isOut_22 : decode cX0_isOut 22 = .ok (.ifCond .ne 7, 3) := dk_154 0 7 (dk_at dksX0_isOut_1 0 rfl rfl)
theorem dX0_isOut_25 : decode cX0_isOut 25 = .ok (.iconst 1, 1) := dk_4 (dk_at dksX0_isOut_1 3 rfl rfl)
theorem dX0_isOut_26 : decode cX0_isOut 26 = .ok (.goto 4, 3) := dk_167 0 4 (dk_at dksX0_isOut_1 4 rfl rfl)
theorem dX0_isOut_29 : decode cX0_isOut 29 = .ok (.iconst 0, 1) := dk_3 (dk_at dksX0_isOut_1 7 rfl rfl)
theorem dX0_isOut_30 : decode cX0_isOut 30 = .ok (.ireturn, 1) := dk_172 (dk_at dksX0_isOut_1 8 rfl rfl)
abbrev cX0_weave : ByteArray := prog_1_method_38_code
def yX0_weave : MethodName := ⟨RX0, "weave", "(I)V"⟩
def dkwX0_weave_2 : List UInt8 := [180, 0, 112, 28, 182, 0, 219, 192, 0, 45, 182, 1, 14, 132, 2, 1, 167, 255, 207, 177]
abbrev dktX0_weave_2 : List UInt8 := dkwX0_weave_2 ++ []
def dkwX0_weave_1 : List UInt8 := [162, 0, 41, 27, 28, 184, 1, 10, 153, 0, 27, 42, 180, 0, 78, 180, 1, 1, 42, 180, 0, 57]
abbrev dktX0_weave_1 : List UInt8 := dkwX0_weave_1 ++ dktX0_weave_2
def dkwX0_weave_0 : List UInt8 := [42, 180, 0, 78, 180, 1, 1, 182, 1, 5, 3, 61, 28, 42, 180, 0, 57, 180, 0, 112, 182, 0, 116]
abbrev dktX0_weave_0 : List UInt8 := dkwX0_weave_0 ++ dktX0_weave_1
theorem dksX0_weave_0 : cX0_weave.data.toList.drop 0 = dktX0_weave_0 := by decide +kernel
theorem dksX0_weave_1 : cX0_weave.data.toList.drop 23 = dktX0_weave_1 := dk_seg dksX0_weave_0 23 rfl rfl
theorem dksX0_weave_2 : cX0_weave.data.toList.drop 45 = dktX0_weave_2 := dk_seg dksX0_weave_1 22 rfl rfl
theorem dX0_weave_0 : decode cX0_weave 0 = .ok (.aload_n 0, 1) := dk_42 (dk_at dksX0_weave_0 0 rfl rfl)
theorem dX0_weave_1 : decode cX0_weave 1 = .ok (.getfield 78, 3) := dk_180 0 78 (dk_at dksX0_weave_0 1 rfl rfl)
theorem dX0_weave_4 : decode cX0_weave 4 = .ok (.getfield 257, 3) := dk_180 1 1 (dk_at dksX0_weave_0 4 rfl rfl)
theorem dX0_weave_7 : decode cX0_weave 7 = .ok (.invokevirtual 261, 3) := dk_182 1 5 (dk_at dksX0_weave_0 7 rfl rfl)
theorem dX0_weave_10 : decode cX0_weave 10 = .ok (.iconst 0, 1) := dk_3 (dk_at dksX0_weave_0 10 rfl rfl)
theorem dX0_weave_11 : decode cX0_weave 11 = .ok (.istore_n 2, 1) := dk_61 (dk_at dksX0_weave_0 11 rfl rfl)
theorem dX0_weave_12 : decode cX0_weave 12 = .ok (.iload_n 2, 1) := dk_28 (dk_at dksX0_weave_0 12 rfl rfl)
theorem dX0_weave_13 : decode cX0_weave 13 = .ok (.aload_n 0, 1) := dk_42 (dk_at dksX0_weave_0 13 rfl rfl)
theorem dX0_weave_14 : decode cX0_weave 14 = .ok (.getfield 57, 3) := dk_180 0 57 (dk_at dksX0_weave_0 14 rfl rfl)
theorem dX0_weave_17 : decode cX0_weave 17 = .ok (.getfield 112, 3) := dk_180 0 112 (dk_at dksX0_weave_0 17 rfl rfl)
theorem dX0_weave_20 : decode cX0_weave 20 = .ok (.invokevirtual 116, 3) := dk_182 0 116 (dk_at dksX0_weave_0 20 rfl rfl)
theorem dX0_weave_23 : decode cX0_weave 23 = .ok (.if_icmp .ge 41, 3) := dk_162 0 41 (dk_at dksX0_weave_1 0 rfl rfl)
theorem dX0_weave_26 : decode cX0_weave 26 = .ok (.iload_n 1, 1) := dk_27 (dk_at dksX0_weave_1 3 rfl rfl)
theorem dX0_weave_27 : decode cX0_weave 27 = .ok (.iload_n 2, 1) := dk_28 (dk_at dksX0_weave_1 4 rfl rfl)
theorem dX0_weave_28 : decode cX0_weave 28 = .ok (.invokestatic 266, 3) := dk_184 1 10 (dk_at dksX0_weave_1 5 rfl rfl)
theorem dX0_weave_31 : decode cX0_weave 31 = .ok (.ifCond .eq 27, 3) := dk_153 0 27 (dk_at dksX0_weave_1 8 rfl rfl)
theorem dX0_weave_34 : decode cX0_weave 34 = .ok (.aload_n 0, 1) := dk_42 (dk_at dksX0_weave_1 11 rfl rfl)
theorem dX0_weave_35 : decode cX0_weave 35 = .ok (.getfield 78, 3) := dk_180 0 78 (dk_at dksX0_weave_1 12 rfl rfl)
theorem dX0_weave_38 : decode cX0_weave 38 = .ok (.getfield 257, 3) := dk_180 1 1 (dk_at dksX0_weave_1 15 rfl rfl)
theorem dX0_weave_41 : decode cX0_weave 41 = .ok (.aload_n 0, 1) := dk_42 (dk_at dksX0_weave_1 18 rfl rfl)
theorem dX0_weave_42 : decode cX0_weave 42 = .ok (.getfield 57, 3) := dk_180 0 57 (dk_at dksX0_weave_1 19 rfl rfl)
theorem dX0_weave_45 : decode cX0_weave 45 = .ok (.getfield 112, 3) := dk_180 0 112 (dk_at dksX0_weave_2 0 rfl rfl)
theorem dX0_weave_48 : decode cX0_weave 48 = .ok (.iload_n 2, 1) := dk_28 (dk_at dksX0_weave_2 3 rfl rfl)
theorem dX0_weave_49 : decode cX0_weave 49 = .ok (.invokevirtual 219, 3) := dk_182 0 219 (dk_at dksX0_weave_2 4 rfl rfl)
theorem dX0_weave_52 : decode cX0_weave 52 = .ok (.checkcast 45, 3) := dk_192 0 45 (dk_at dksX0_weave_2 7 rfl rfl)
theorem dX0_weave_55 : decode cX0_weave 55 = .ok (.invokevirtual 270, 3) := dk_182 1 14 (dk_at dksX0_weave_2 10 rfl rfl)
theorem dX0_weave_58 : decode cX0_weave 58 = .ok (.iinc 2 1, 3) := dk_132 2 1 (dk_at dksX0_weave_2 13 rfl rfl)
theorem dX0_weave_61 : decode cX0_weave 61 = .ok (.goto (-49), 3) := dk_167 255 207 (dk_at dksX0_weave_2 16 rfl rfl)
theorem dX0_weave_64 : decode cX0_weave 64 = .ok (.return_, 1) := dk_177 (dk_at dksX0_weave_2 19 rfl rfl)
abbrev cX0_has : ByteArray := prog_1_method_2_code
def yX0_has : MethodName := ⟨RX0, "has", "(II)Z"⟩
def dkwX0_has_0 : List UInt8 := [26, 27, 122, 4, 126, 4, 160, 0, 7, 4, 167, 0, 4, 3, 172]
abbrev dktX0_has_0 : List UInt8 := dkwX0_has_0 ++ []
theorem dksX0_has_0 : cX0_has.data.toList.drop 0 = dktX0_has_0 := by decide +kernel
theorem dX0_has_0 : decode cX0_has 0 = .ok (.iload_n 0, 1) := dk_26 (dk_at dksX0_has_0 0 rfl rfl)
theorem dX0_has_1 : decode cX0_has 1 = .ok (.iload_n 1, 1) := dk_27 (dk_at dksX0_has_0 1 rfl rfl)
theorem dX0_has_2 : decode cX0_has 2 = .ok (.ishr, 1) := dk_122 (dk_at dksX0_has_0 2 rfl rfl)
theorem dX0_has_3 : decode cX0_has 3 = .ok (.iconst 1, 1) := dk_4 (dk_at dksX0_has_0 3 rfl rfl)
theorem dX0_has_4 : decode cX0_has 4 = .ok (.iand, 1) := dk_126 (dk_at dksX0_has_0 4 rfl rfl)
theorem dX0_has_5 : decode cX0_has 5 = .ok (.iconst 1, 1) := dk_4 (dk_at dksX0_has_0 5 rfl rfl)
theorem dX0_has_6 : decode cX0_has 6 = .ok (.if_icmp .ne 7, 3) := dk_160 0 7 (dk_at dksX0_has_0 6 rfl rfl)
theorem dX0_has_9 : decode cX0_has 9 = .ok (.iconst 1, 1) := dk_4 (dk_at dksX0_has_0 9 rfl rfl)
theorem dX0_has_10 : decode cX0_has 10 = .ok (.goto 4, 3) := dk_167 0 4 (dk_at dksX0_has_0 10 rfl rfl)
theorem dX0_has_13 : decode cX0_has 13 = .ok (.iconst 0, 1) := dk_3 (dk_at dksX0_has_0 13 rfl rfl)
theorem dX0_has_14 : decode cX0_has 14 = .ok (.ireturn, 1) := dk_172 (dk_at dksX0_has_0 14 rfl rfl)
abbrev cX0_write : ByteArray := prog_1_method_42_code
def yX0_write : MethodName := ⟨RX0, "write", "(I)I"⟩
def dkwX0_write_2 : List UInt8 := [184, 1, 35, 42, 182, 1, 41, 172, 77, 42, 44, 182, 0, 136, 172]
abbrev dktX0_write_2 : List UInt8 := dkwX0_write_2 ++ []
def dkwX0_write_1 : List UInt8 := [5, 182, 0, 126, 42, 180, 0, 78, 180, 1, 32, 3, 42, 180, 0, 57, 180, 0, 146, 3, 16, 12]
abbrev dktX0_write_1 : List UInt8 := dkwX0_write_1 ++ dktX0_write_2
def dkwX0_write_0 : List UInt8 := [42, 42, 27, 182, 1, 26, 4, 182, 0, 126, 42, 42, 27, 182, 1, 29, 154, 0, 7, 4, 167, 0, 4, 3]
abbrev dktX0_write_0 : List UInt8 := dkwX0_write_0 ++ dktX0_write_1
theorem dksX0_write_0 : cX0_write.data.toList.drop 0 = dktX0_write_0 := by decide +kernel
theorem dksX0_write_1 : cX0_write.data.toList.drop 24 = dktX0_write_1 := dk_seg dksX0_write_0 24 rfl rfl
theorem dksX0_write_2 : cX0_write.data.toList.drop 46 = dktX0_write_2 := dk_seg dksX0_write_1 22 rfl rfl
theorem dX0_write_0 : decode cX0_write 0 = .ok (.aload_n 0, 1) := dk_42 (dk_at dksX0_write_0 0 rfl rfl)
theorem dX0_write_1 : decode cX0_write 1 = .ok (.aload_n 0, 1) := dk_42 (dk_at dksX0_write_0 1 rfl rfl)
theorem dX0_write_2 : decode cX0_write 2 = .ok (.iload_n 1, 1) := dk_27 (dk_at dksX0_write_0 2 rfl rfl)
theorem dX0_write_3 : decode cX0_write 3 = .ok (.invokevirtual 282, 3) := dk_182 1 26 (dk_at dksX0_write_0 3 rfl rfl)
theorem dX0_write_6 : decode cX0_write 6 = .ok (.iconst 1, 1) := dk_4 (dk_at dksX0_write_0 6 rfl rfl)
theorem dX0_write_7 : decode cX0_write 7 = .ok (.invokevirtual 126, 3) := dk_182 0 126 (dk_at dksX0_write_0 7 rfl rfl)
theorem dX0_write_10 : decode cX0_write 10 = .ok (.aload_n 0, 1) := dk_42 (dk_at dksX0_write_0 10 rfl rfl)
theorem dX0_write_11 : decode cX0_write 11 = .ok (.aload_n 0, 1) := dk_42 (dk_at dksX0_write_0 11 rfl rfl)
theorem dX0_write_12 : decode cX0_write 12 = .ok (.iload_n 1, 1) := dk_27 (dk_at dksX0_write_0 12 rfl rfl)
theorem dX0_write_13 : decode cX0_write 13 = .ok (.invokevirtual 285, 3) := dk_182 1 29 (dk_at dksX0_write_0 13 rfl rfl)
theorem dX0_write_16 : decode cX0_write 16 = .ok (.ifCond .ne 7, 3) := dk_154 0 7 (dk_at dksX0_write_0 16 rfl rfl)
theorem dX0_write_19 : decode cX0_write 19 = .ok (.iconst 1, 1) := dk_4 (dk_at dksX0_write_0 19 rfl rfl)
theorem dX0_write_20 : decode cX0_write 20 = .ok (.goto 4, 3) := dk_167 0 4 (dk_at dksX0_write_0 20 rfl rfl)
theorem dX0_write_23 : decode cX0_write 23 = .ok (.iconst 0, 1) := dk_3 (dk_at dksX0_write_0 23 rfl rfl)
theorem dX0_write_24 : decode cX0_write 24 = .ok (.iconst 2, 1) := dk_5 (dk_at dksX0_write_1 0 rfl rfl)
theorem dX0_write_25 : decode cX0_write 25 = .ok (.invokevirtual 126, 3) := dk_182 0 126 (dk_at dksX0_write_1 1 rfl rfl)
theorem dX0_write_28 : decode cX0_write 28 = .ok (.aload_n 0, 1) := dk_42 (dk_at dksX0_write_1 4 rfl rfl)
theorem dX0_write_29 : decode cX0_write 29 = .ok (.getfield 78, 3) := dk_180 0 78 (dk_at dksX0_write_1 5 rfl rfl)
theorem dX0_write_32 : decode cX0_write 32 = .ok (.getfield 288, 3) := dk_180 1 32 (dk_at dksX0_write_1 8 rfl rfl)
theorem dX0_write_35 : decode cX0_write 35 = .ok (.iconst 0, 1) := dk_3 (dk_at dksX0_write_1 11 rfl rfl)
theorem dX0_write_36 : decode cX0_write 36 = .ok (.aload_n 0, 1) := dk_42 (dk_at dksX0_write_1 12 rfl rfl)
theorem dX0_write_37 : decode cX0_write 37 = .ok (.getfield 57, 3) := dk_180 0 57 (dk_at dksX0_write_1 13 rfl rfl)
theorem dX0_write_40 : decode cX0_write 40 = .ok (.getfield 146, 3) := dk_180 0 146 (dk_at dksX0_write_1 16 rfl rfl)
theorem dX0_write_43 : decode cX0_write 43 = .ok (.iconst 0, 1) := dk_3 (dk_at dksX0_write_1 19 rfl rfl)
theorem dX0_write_44 : decode cX0_write 44 = .ok (.bipush 12, 2) := dk_16 12 (dk_at dksX0_write_1 20 rfl rfl)
theorem dX0_write_46 : decode cX0_write 46 = .ok (.invokestatic 291, 3) := dk_184 1 35 (dk_at dksX0_write_2 0 rfl rfl)
theorem dX0_write_49 : decode cX0_write 49 = .ok (.aload_n 0, 1) := dk_42 (dk_at dksX0_write_2 3 rfl rfl)
theorem dX0_write_50 : decode cX0_write 50 = .ok (.invokevirtual 297, 3) := dk_182 1 41 (dk_at dksX0_write_2 4 rfl rfl)
theorem dX0_write_53 : decode cX0_write 53 = .ok (.ireturn, 1) := dk_172 (dk_at dksX0_write_2 7 rfl rfl)
theorem dX0_write_54 : decode cX0_write 54 = .ok (.astore_n 2, 1) := dk_77 (dk_at dksX0_write_2 8 rfl rfl)
theorem dX0_write_55 : decode cX0_write 55 = .ok (.aload_n 0, 1) := dk_42 (dk_at dksX0_write_2 9 rfl rfl)
theorem dX0_write_56 : decode cX0_write 56 = .ok (.aload_n 2, 1) := dk_44 (dk_at dksX0_write_2 10 rfl rfl)
theorem dX0_write_57 : decode cX0_write 57 = .ok (.invokevirtual 136, 3) := dk_182 0 136 (dk_at dksX0_write_2 11 rfl rfl)
theorem dX0_write_60 : decode cX0_write 60 = .ok (.ireturn, 1) := dk_172 (dk_at dksX0_write_2 14 rfl rfl)
abbrev cX0_boths : ByteArray := prog_1_method_41_code
def yX0_boths : MethodName := ⟨RX0, "boths", "()I"⟩
def dkwX0_boths_1 : List UInt8 := [4, 167, 0, 4, 3, 96, 60, 132, 2, 1, 167, 255, 226, 27, 172]
abbrev dktX0_boths_1 : List UInt8 := dkwX0_boths_1 ++ []
def dkwX0_boths_0 : List UInt8 := [3, 60, 3, 61, 28, 16, 12, 162, 0, 30, 27, 42, 180, 0, 57, 180, 0, 146, 28, 46, 6, 160, 0, 7]
abbrev dktX0_boths_0 : List UInt8 := dkwX0_boths_0 ++ dktX0_boths_1
theorem dksX0_boths_0 : cX0_boths.data.toList.drop 0 = dktX0_boths_0 := by decide +kernel
theorem dksX0_boths_1 : cX0_boths.data.toList.drop 24 = dktX0_boths_1 := dk_seg dksX0_boths_0 24 rfl rfl
theorem dX0_boths_0 : decode cX0_boths 0 = .ok (.iconst 0, 1) := dk_3 (dk_at dksX0_boths_0 0 rfl rfl)
theorem dX0_boths_1 : decode cX0_boths 1 = .ok (.istore_n 1, 1) := dk_60 (dk_at dksX0_boths_0 1 rfl rfl)
theorem dX0_boths_2 : decode cX0_boths 2 = .ok (.iconst 0, 1) := dk_3 (dk_at dksX0_boths_0 2 rfl rfl)
theorem dX0_boths_3 : decode cX0_boths 3 = .ok (.istore_n 2, 1) := dk_61 (dk_at dksX0_boths_0 3 rfl rfl)
theorem dX0_boths_4 : decode cX0_boths 4 = .ok (.iload_n 2, 1) := dk_28 (dk_at dksX0_boths_0 4 rfl rfl)
theorem dX0_boths_5 : decode cX0_boths 5 = .ok (.bipush 12, 2) := dk_16 12 (dk_at dksX0_boths_0 5 rfl rfl)
theorem dX0_boths_7 : decode cX0_boths 7 = .ok (.if_icmp .ge 30, 3) := dk_162 0 30 (dk_at dksX0_boths_0 7 rfl rfl)
theorem dX0_boths_10 : decode cX0_boths 10 = .ok (.iload_n 1, 1) := dk_27 (dk_at dksX0_boths_0 10 rfl rfl)
theorem dX0_boths_11 : decode cX0_boths 11 = .ok (.aload_n 0, 1) := dk_42 (dk_at dksX0_boths_0 11 rfl rfl)
theorem dX0_boths_12 : decode cX0_boths 12 = .ok (.getfield 57, 3) := dk_180 0 57 (dk_at dksX0_boths_0 12 rfl rfl)
theorem dX0_boths_15 : decode cX0_boths 15 = .ok (.getfield 146, 3) := dk_180 0 146 (dk_at dksX0_boths_0 15 rfl rfl)
theorem dX0_boths_18 : decode cX0_boths 18 = .ok (.iload_n 2, 1) := dk_28 (dk_at dksX0_boths_0 18 rfl rfl)
theorem dX0_boths_19 : decode cX0_boths 19 = .ok (.iaload, 1) := dk_46 (dk_at dksX0_boths_0 19 rfl rfl)
theorem dX0_boths_20 : decode cX0_boths 20 = .ok (.iconst 3, 1) := dk_6 (dk_at dksX0_boths_0 20 rfl rfl)
theorem dX0_boths_21 : decode cX0_boths 21 = .ok (.if_icmp .ne 7, 3) := dk_160 0 7 (dk_at dksX0_boths_0 21 rfl rfl)
theorem dX0_boths_24 : decode cX0_boths 24 = .ok (.iconst 1, 1) := dk_4 (dk_at dksX0_boths_1 0 rfl rfl)
theorem dX0_boths_25 : decode cX0_boths 25 = .ok (.goto 4, 3) := dk_167 0 4 (dk_at dksX0_boths_1 1 rfl rfl)
theorem dX0_boths_28 : decode cX0_boths 28 = .ok (.iconst 0, 1) := dk_3 (dk_at dksX0_boths_1 4 rfl rfl)
theorem dX0_boths_29 : decode cX0_boths 29 = .ok (.iadd, 1) := dk_96 (dk_at dksX0_boths_1 5 rfl rfl)
theorem dX0_boths_30 : decode cX0_boths 30 = .ok (.istore_n 1, 1) := dk_60 (dk_at dksX0_boths_1 6 rfl rfl)
theorem dX0_boths_31 : decode cX0_boths 31 = .ok (.iinc 2 1, 3) := dk_132 2 1 (dk_at dksX0_boths_1 7 rfl rfl)
theorem dX0_boths_34 : decode cX0_boths 34 = .ok (.goto (-30), 3) := dk_167 255 226 (dk_at dksX0_boths_1 10 rfl rfl)
theorem dX0_boths_37 : decode cX0_boths 37 = .ok (.iload_n 1, 1) := dk_27 (dk_at dksX0_boths_1 13 rfl rfl)
theorem dX0_boths_38 : decode cX0_boths 38 = .ok (.ireturn, 1) := dk_172 (dk_at dksX0_boths_1 14 rfl rfl)
abbrev cX0_rules : ByteArray := prog_1_method_43_code
def yX0_rules : MethodName := ⟨RX0, "rules", "(I)J"⟩
def dkwX0_rules_1 : List UInt8 := [42, 44, 182, 0, 136, 133, 173]
abbrev dktX0_rules_1 : List UInt8 := dkwX0_rules_1 ++ []
def dkwX0_rules_0 : List UInt8 := [42, 42, 27, 182, 1, 26, 4, 182, 0, 126, 42, 27, 182, 1, 17, 42, 180, 0, 78, 182, 1, 44, 173, 77]
abbrev dktX0_rules_0 : List UInt8 := dkwX0_rules_0 ++ dktX0_rules_1
theorem dksX0_rules_0 : cX0_rules.data.toList.drop 0 = dktX0_rules_0 := by decide +kernel
theorem dksX0_rules_1 : cX0_rules.data.toList.drop 24 = dktX0_rules_1 := dk_seg dksX0_rules_0 24 rfl rfl
theorem dX0_rules_0 : decode cX0_rules 0 = .ok (.aload_n 0, 1) := dk_42 (dk_at dksX0_rules_0 0 rfl rfl)
theorem dX0_rules_1 : decode cX0_rules 1 = .ok (.aload_n 0, 1) := dk_42 (dk_at dksX0_rules_0 1 rfl rfl)
theorem dX0_rules_2 : decode cX0_rules 2 = .ok (.iload_n 1, 1) := dk_27 (dk_at dksX0_rules_0 2 rfl rfl)
theorem dX0_rules_3 : decode cX0_rules 3 = .ok (.invokevirtual 282, 3) := dk_182 1 26 (dk_at dksX0_rules_0 3 rfl rfl)
theorem dX0_rules_6 : decode cX0_rules 6 = .ok (.iconst 1, 1) := dk_4 (dk_at dksX0_rules_0 6 rfl rfl)
theorem dX0_rules_7 : decode cX0_rules 7 = .ok (.invokevirtual 126, 3) := dk_182 0 126 (dk_at dksX0_rules_0 7 rfl rfl)
theorem dX0_rules_10 : decode cX0_rules 10 = .ok (.aload_n 0, 1) := dk_42 (dk_at dksX0_rules_0 10 rfl rfl)
theorem dX0_rules_11 : decode cX0_rules 11 = .ok (.iload_n 1, 1) := dk_27 (dk_at dksX0_rules_0 11 rfl rfl)
theorem dX0_rules_12 : decode cX0_rules 12 = .ok (.invokevirtual 273, 3) := dk_182 1 17 (dk_at dksX0_rules_0 12 rfl rfl)
theorem dX0_rules_15 : decode cX0_rules 15 = .ok (.aload_n 0, 1) := dk_42 (dk_at dksX0_rules_0 15 rfl rfl)
theorem dX0_rules_16 : decode cX0_rules 16 = .ok (.getfield 78, 3) := dk_180 0 78 (dk_at dksX0_rules_0 16 rfl rfl)
theorem dX0_rules_19 : decode cX0_rules 19 = .ok (.invokevirtual 300, 3) := dk_182 1 44 (dk_at dksX0_rules_0 19 rfl rfl)
theorem dX0_rules_22 : decode cX0_rules 22 = .ok (.lreturn, 1) := dk_173 (dk_at dksX0_rules_0 22 rfl rfl)
theorem dX0_rules_23 : decode cX0_rules 23 = .ok (.astore_n 2, 1) := dk_77 (dk_at dksX0_rules_0 23 rfl rfl)
theorem dX0_rules_24 : decode cX0_rules 24 = .ok (.aload_n 0, 1) := dk_42 (dk_at dksX0_rules_1 0 rfl rfl)
theorem dX0_rules_25 : decode cX0_rules 25 = .ok (.aload_n 2, 1) := dk_44 (dk_at dksX0_rules_1 1 rfl rfl)
theorem dX0_rules_26 : decode cX0_rules 26 = .ok (.invokevirtual 136, 3) := dk_182 0 136 (dk_at dksX0_rules_1 2 rfl rfl)
theorem dX0_rules_29 : decode cX0_rules 29 = .ok (.i2l, 1) := dk_133 (dk_at dksX0_rules_1 5 rfl rfl)
theorem dX0_rules_30 : decode cX0_rules 30 = .ok (.lreturn, 1) := dk_173 (dk_at dksX0_rules_1 6 rfl rfl)
abbrev cX0_may : ByteArray := prog_1_method_44_code
def yX0_may : MethodName := ⟨RX0, "may", "(II)I"⟩
def dkwX0_may_4 : List UInt8 := [182, 0, 136, 172]
abbrev dktX0_may_4 : List UInt8 := dkwX0_may_4 ++ []
def dkwX0_may_3 : List UInt8 := [153, 0, 10, 4, 21, 4, 120, 167, 0, 4, 3, 128, 62, 132, 4, 1, 167, 255, 206, 29, 172, 78, 42, 45]
abbrev dktX0_may_3 : List UInt8 := dkwX0_may_3 ++ dktX0_may_4
def dkwX0_may_2 : List UInt8 := [17, 15, 255, 182, 1, 21, 42, 180, 0, 78, 28, 21, 4, 182, 1, 48, 29, 42, 180, 0, 78, 182, 1, 24]
abbrev dktX0_may_2 : List UInt8 := dkwX0_may_2 ++ dktX0_may_3
def dkwX0_may_1 : List UInt8 := [182, 0, 126, 42, 27, 182, 1, 17, 3, 62, 4, 54, 4, 21, 4, 6, 163, 0, 50, 42, 180, 0, 78]
abbrev dktX0_may_1 : List UInt8 := dkwX0_may_1 ++ dktX0_may_2
def dkwX0_may_0 : List UInt8 := [42, 42, 27, 182, 1, 26, 153, 0, 14, 28, 184, 0, 132, 153, 0, 7, 4, 167, 0, 4, 3, 4]
abbrev dktX0_may_0 : List UInt8 := dkwX0_may_0 ++ dktX0_may_1
theorem dksX0_may_0 : cX0_may.data.toList.drop 0 = dktX0_may_0 := by decide +kernel
theorem dksX0_may_1 : cX0_may.data.toList.drop 22 = dktX0_may_1 := dk_seg dksX0_may_0 22 rfl rfl
theorem dksX0_may_2 : cX0_may.data.toList.drop 45 = dktX0_may_2 := dk_seg dksX0_may_1 23 rfl rfl
theorem dksX0_may_3 : cX0_may.data.toList.drop 69 = dktX0_may_3 := dk_seg dksX0_may_2 24 rfl rfl
theorem dksX0_may_4 : cX0_may.data.toList.drop 93 = dktX0_may_4 := dk_seg dksX0_may_3 24 rfl rfl
theorem dX0_may_0 : decode cX0_may 0 = .ok (.aload_n 0, 1) := dk_42 (dk_at dksX0_may_0 0 rfl rfl)
theorem dX0_may_1 : decode cX0_may 1 = .ok (.aload_n 0, 1) := dk_42 (dk_at dksX0_may_0 1 rfl rfl)
theorem dX0_may_2 : decode cX0_may 2 = .ok (.iload_n 1, 1) := dk_27 (dk_at dksX0_may_0 2 rfl rfl)
theorem dX0_may_3 : decode cX0_may 3 = .ok (.invokevirtual 282, 3) := dk_182 1 26 (dk_at dksX0_may_0 3 rfl rfl)
theorem dX0_may_6 : decode cX0_may 6 = .ok (.ifCond .eq 14, 3) := dk_153 0 14 (dk_at dksX0_may_0 6 rfl rfl)
theorem dX0_may_9 : decode cX0_may 9 = .ok (.iload_n 2, 1) := dk_28 (dk_at dksX0_may_0 9 rfl rfl)
theorem dX0_may_10 : decode cX0_may 10 = .ok (.invokestatic 132, 3) := dk_184 0 132 (dk_at dksX0_may_0 10 rfl rfl)
theorem dX0_may_13 : decode cX0_may 13 = .ok (.ifCond .eq 7, 3) := dk_153 0 7 (dk_at dksX0_may_0 13 rfl rfl)
theorem dX0_may_16 : decode cX0_may 16 = .ok (.iconst 1, 1) := dk_4 (dk_at dksX0_may_0 16 rfl rfl)
theorem dX0_may_17 : decode cX0_may 17 = .ok (.goto 4, 3) := dk_167 0 4 (dk_at dksX0_may_0 17 rfl rfl)
theorem dX0_may_20 : decode cX0_may 20 = .ok (.iconst 0, 1) := dk_3 (dk_at dksX0_may_0 20 rfl rfl)
theorem dX0_may_21 : decode cX0_may 21 = .ok (.iconst 1, 1) := dk_4 (dk_at dksX0_may_0 21 rfl rfl)
theorem dX0_may_22 : decode cX0_may 22 = .ok (.invokevirtual 126, 3) := dk_182 0 126 (dk_at dksX0_may_1 0 rfl rfl)
theorem dX0_may_25 : decode cX0_may 25 = .ok (.aload_n 0, 1) := dk_42 (dk_at dksX0_may_1 3 rfl rfl)
theorem dX0_may_26 : decode cX0_may 26 = .ok (.iload_n 1, 1) := dk_27 (dk_at dksX0_may_1 4 rfl rfl)
theorem dX0_may_27 : decode cX0_may 27 = .ok (.invokevirtual 273, 3) := dk_182 1 17 (dk_at dksX0_may_1 5 rfl rfl)
theorem dX0_may_30 : decode cX0_may 30 = .ok (.iconst 0, 1) := dk_3 (dk_at dksX0_may_1 8 rfl rfl)
theorem dX0_may_31 : decode cX0_may 31 = .ok (.istore_n 3, 1) := dk_62 (dk_at dksX0_may_1 9 rfl rfl)
theorem dX0_may_32 : decode cX0_may 32 = .ok (.iconst 1, 1) := dk_4 (dk_at dksX0_may_1 10 rfl rfl)
theorem dX0_may_33 : decode cX0_may 33 = .ok (.istore 4, 2) := dk_54 4 (dk_at dksX0_may_1 11 rfl rfl)
theorem dX0_may_35 : decode cX0_may 35 = .ok (.iload 4, 2) := dk_21 4 (dk_at dksX0_may_1 13 rfl rfl)
theorem dX0_may_37 : decode cX0_may 37 = .ok (.iconst 3, 1) := dk_6 (dk_at dksX0_may_1 15 rfl rfl)
theorem dX0_may_38 : decode cX0_may 38 = .ok (.if_icmp .gt 50, 3) := dk_163 0 50 (dk_at dksX0_may_1 16 rfl rfl)
theorem dX0_may_41 : decode cX0_may 41 = .ok (.aload_n 0, 1) := dk_42 (dk_at dksX0_may_1 19 rfl rfl)
theorem dX0_may_42 : decode cX0_may 42 = .ok (.getfield 78, 3) := dk_180 0 78 (dk_at dksX0_may_1 20 rfl rfl)
theorem dX0_may_45 : decode cX0_may 45 = .ok (.sipush 4095, 3) := dk_17 15 255 (dk_at dksX0_may_2 0 rfl rfl)
theorem dX0_may_48 : decode cX0_may 48 = .ok (.invokevirtual 277, 3) := dk_182 1 21 (dk_at dksX0_may_2 3 rfl rfl)
theorem dX0_may_51 : decode cX0_may 51 = .ok (.aload_n 0, 1) := dk_42 (dk_at dksX0_may_2 6 rfl rfl)
theorem dX0_may_52 : decode cX0_may 52 = .ok (.getfield 78, 3) := dk_180 0 78 (dk_at dksX0_may_2 7 rfl rfl)
theorem dX0_may_55 : decode cX0_may 55 = .ok (.iload_n 2, 1) := dk_28 (dk_at dksX0_may_2 10 rfl rfl)
theorem dX0_may_56 : decode cX0_may 56 = .ok (.iload 4, 2) := dk_21 4 (dk_at dksX0_may_2 11 rfl rfl)
theorem dX0_may_58 : decode cX0_may 58 = .ok (.invokevirtual 304, 3) := dk_182 1 48 (dk_at dksX0_may_2 13 rfl rfl)
theorem dX0_may_61 : decode cX0_may 61 = .ok (.iload_n 3, 1) := dk_29 (dk_at dksX0_may_2 16 rfl rfl)
theorem dX0_may_62 : decode cX0_may 62 = .ok (.aload_n 0, 1) := dk_42 (dk_at dksX0_may_2 17 rfl rfl)
theorem dX0_may_63 : decode cX0_may 63 = .ok (.getfield 78, 3) := dk_180 0 78 (dk_at dksX0_may_2 18 rfl rfl)
theorem dX0_may_66 : decode cX0_may 66 = .ok (.invokevirtual 280, 3) := dk_182 1 24 (dk_at dksX0_may_2 21 rfl rfl)
theorem dX0_may_69 : decode cX0_may 69 = .ok (.ifCond .eq 10, 3) := dk_153 0 10 (dk_at dksX0_may_3 0 rfl rfl)
theorem dX0_may_72 : decode cX0_may 72 = .ok (.iconst 1, 1) := dk_4 (dk_at dksX0_may_3 3 rfl rfl)
theorem dX0_may_73 : decode cX0_may 73 = .ok (.iload 4, 2) := dk_21 4 (dk_at dksX0_may_3 4 rfl rfl)
theorem dX0_may_75 : decode cX0_may 75 = .ok (.ishl, 1) := dk_120 (dk_at dksX0_may_3 6 rfl rfl)
theorem dX0_may_76 : decode cX0_may 76 = .ok (.goto 4, 3) := dk_167 0 4 (dk_at dksX0_may_3 7 rfl rfl)
theorem dX0_may_79 : decode cX0_may 79 = .ok (.iconst 0, 1) := dk_3 (dk_at dksX0_may_3 10 rfl rfl)
theorem dX0_may_80 : decode cX0_may 80 = .ok (.ior, 1) := dk_128 (dk_at dksX0_may_3 11 rfl rfl)
theorem dX0_may_81 : decode cX0_may 81 = .ok (.istore_n 3, 1) := dk_62 (dk_at dksX0_may_3 12 rfl rfl)
theorem dX0_may_82 : decode cX0_may 82 = .ok (.iinc 4 1, 3) := dk_132 4 1 (dk_at dksX0_may_3 13 rfl rfl)
theorem dX0_may_85 : decode cX0_may 85 = .ok (.goto (-50), 3) := dk_167 255 206 (dk_at dksX0_may_3 16 rfl rfl)
theorem dX0_may_88 : decode cX0_may 88 = .ok (.iload_n 3, 1) := dk_29 (dk_at dksX0_may_3 19 rfl rfl)
theorem dX0_may_89 : decode cX0_may 89 = .ok (.ireturn, 1) := dk_172 (dk_at dksX0_may_3 20 rfl rfl)
theorem dX0_may_90 : decode cX0_may 90 = .ok (.astore_n 3, 1) := dk_78 (dk_at dksX0_may_3 21 rfl rfl)
theorem dX0_may_91 : decode cX0_may 91 = .ok (.aload_n 0, 1) := dk_42 (dk_at dksX0_may_3 22 rfl rfl)
theorem dX0_may_92 : decode cX0_may 92 = .ok (.aload_n 3, 1) := dk_45 (dk_at dksX0_may_3 23 rfl rfl)
theorem dX0_may_93 : decode cX0_may 93 = .ok (.invokevirtual 136, 3) := dk_182 0 136 (dk_at dksX0_may_4 0 rfl rfl)
theorem dX0_may_96 : decode cX0_may 96 = .ok (.ireturn, 1) := dk_172 (dk_at dksX0_may_4 3 rfl rfl)
abbrev cX0_near : ByteArray := prog_1_method_45_code
def yX0_near : MethodName := ⟨RX0, "near", "(I)I"⟩
def dkwX0_near_2 : List UInt8 := [182, 0, 136, 172]
abbrev dktX0_near_2 : List UInt8 := dkwX0_near_2 ++ []
def dkwX0_near_1 : List UInt8 := [5, 182, 0, 126, 42, 180, 0, 78, 42, 180, 0, 57, 180, 0, 146, 182, 1, 52, 172, 77, 42, 44]
abbrev dktX0_near_1 : List UInt8 := dkwX0_near_1 ++ dktX0_near_2
def dkwX0_near_0 : List UInt8 := [42, 42, 27, 182, 1, 26, 4, 182, 0, 126, 42, 42, 27, 182, 1, 29, 154, 0, 7, 4, 167, 0, 4, 3]
abbrev dktX0_near_0 : List UInt8 := dkwX0_near_0 ++ dktX0_near_1
theorem dksX0_near_0 : cX0_near.data.toList.drop 0 = dktX0_near_0 := by decide +kernel
theorem dksX0_near_1 : cX0_near.data.toList.drop 24 = dktX0_near_1 := dk_seg dksX0_near_0 24 rfl rfl
theorem dksX0_near_2 : cX0_near.data.toList.drop 46 = dktX0_near_2 := dk_seg dksX0_near_1 22 rfl rfl
theorem dX0_near_0 : decode cX0_near 0 = .ok (.aload_n 0, 1) := dk_42 (dk_at dksX0_near_0 0 rfl rfl)
theorem dX0_near_1 : decode cX0_near 1 = .ok (.aload_n 0, 1) := dk_42 (dk_at dksX0_near_0 1 rfl rfl)
theorem dX0_near_2 : decode cX0_near 2 = .ok (.iload_n 1, 1) := dk_27 (dk_at dksX0_near_0 2 rfl rfl)
theorem dX0_near_3 : decode cX0_near 3 = .ok (.invokevirtual 282, 3) := dk_182 1 26 (dk_at dksX0_near_0 3 rfl rfl)
theorem dX0_near_6 : decode cX0_near 6 = .ok (.iconst 1, 1) := dk_4 (dk_at dksX0_near_0 6 rfl rfl)
theorem dX0_near_7 : decode cX0_near 7 = .ok (.invokevirtual 126, 3) := dk_182 0 126 (dk_at dksX0_near_0 7 rfl rfl)
theorem dX0_near_10 : decode cX0_near 10 = .ok (.aload_n 0, 1) := dk_42 (dk_at dksX0_near_0 10 rfl rfl)
theorem dX0_near_11 : decode cX0_near 11 = .ok (.aload_n 0, 1) := dk_42 (dk_at dksX0_near_0 11 rfl rfl)
theorem dX0_near_12 : decode cX0_near 12 = .ok (.iload_n 1, 1) := dk_27 (dk_at dksX0_near_0 12 rfl rfl)
theorem dX0_near_13 : decode cX0_near 13 = .ok (.invokevirtual 285, 3) := dk_182 1 29 (dk_at dksX0_near_0 13 rfl rfl)
theorem dX0_near_16 : decode cX0_near 16 = .ok (.ifCond .ne 7, 3) := dk_154 0 7 (dk_at dksX0_near_0 16 rfl rfl)
theorem dX0_near_19 : decode cX0_near 19 = .ok (.iconst 1, 1) := dk_4 (dk_at dksX0_near_0 19 rfl rfl)
theorem dX0_near_20 : decode cX0_near 20 = .ok (.goto 4, 3) := dk_167 0 4 (dk_at dksX0_near_0 20 rfl rfl)
theorem dX0_near_23 : decode cX0_near 23 = .ok (.iconst 0, 1) := dk_3 (dk_at dksX0_near_0 23 rfl rfl)
theorem dX0_near_24 : decode cX0_near 24 = .ok (.iconst 2, 1) := dk_5 (dk_at dksX0_near_1 0 rfl rfl)
theorem dX0_near_25 : decode cX0_near 25 = .ok (.invokevirtual 126, 3) := dk_182 0 126 (dk_at dksX0_near_1 1 rfl rfl)
theorem dX0_near_28 : decode cX0_near 28 = .ok (.aload_n 0, 1) := dk_42 (dk_at dksX0_near_1 4 rfl rfl)
theorem dX0_near_29 : decode cX0_near 29 = .ok (.getfield 78, 3) := dk_180 0 78 (dk_at dksX0_near_1 5 rfl rfl)
theorem dX0_near_32 : decode cX0_near 32 = .ok (.aload_n 0, 1) := dk_42 (dk_at dksX0_near_1 8 rfl rfl)
theorem dX0_near_33 : decode cX0_near 33 = .ok (.getfield 57, 3) := dk_180 0 57 (dk_at dksX0_near_1 9 rfl rfl)
theorem dX0_near_36 : decode cX0_near 36 = .ok (.getfield 146, 3) := dk_180 0 146 (dk_at dksX0_near_1 12 rfl rfl)
theorem dX0_near_39 : decode cX0_near 39 = .ok (.invokevirtual 308, 3) := dk_182 1 52 (dk_at dksX0_near_1 15 rfl rfl)
theorem dX0_near_42 : decode cX0_near 42 = .ok (.ireturn, 1) := dk_172 (dk_at dksX0_near_1 18 rfl rfl)
theorem dX0_near_43 : decode cX0_near 43 = .ok (.astore_n 2, 1) := dk_77 (dk_at dksX0_near_1 19 rfl rfl)
theorem dX0_near_44 : decode cX0_near 44 = .ok (.aload_n 0, 1) := dk_42 (dk_at dksX0_near_1 20 rfl rfl)
theorem dX0_near_45 : decode cX0_near 45 = .ok (.aload_n 2, 1) := dk_44 (dk_at dksX0_near_1 21 rfl rfl)
theorem dX0_near_46 : decode cX0_near 46 = .ok (.invokevirtual 136, 3) := dk_182 0 136 (dk_at dksX0_near_2 0 rfl rfl)
theorem dX0_near_49 : decode cX0_near 49 = .ok (.ireturn, 1) := dk_172 (dk_at dksX0_near_2 3 rfl rfl)
abbrev cX0_word : ByteArray := prog_1_method_47_code
def yX0_word : MethodName := ⟨RX0, "word", "(I)I"⟩
def dkwX0_word_2 : List UInt8 := [182, 0, 126, 28, 172, 77, 42, 44, 182, 0, 136, 172]
abbrev dktX0_word_2 : List UInt8 := dkwX0_word_2 ++ []
def dkwX0_word_1 : List UInt8 := [154, 0, 9, 132, 2, 1, 167, 255, 238, 42, 28, 16, 12, 162, 0, 7, 4, 167, 0, 4, 3, 5]
abbrev dktX0_word_1 : List UInt8 := dkwX0_word_1 ++ dktX0_word_2
def dkwX0_word_0 : List UInt8 := [42, 42, 27, 182, 1, 26, 4, 182, 0, 126, 3, 61, 28, 16, 12, 162, 0, 18, 42, 27, 28, 182, 1, 60]
abbrev dktX0_word_0 : List UInt8 := dkwX0_word_0 ++ dktX0_word_1
theorem dksX0_word_0 : cX0_word.data.toList.drop 0 = dktX0_word_0 := by decide +kernel
theorem dksX0_word_1 : cX0_word.data.toList.drop 24 = dktX0_word_1 := dk_seg dksX0_word_0 24 rfl rfl
theorem dksX0_word_2 : cX0_word.data.toList.drop 46 = dktX0_word_2 := dk_seg dksX0_word_1 22 rfl rfl
theorem dX0_word_0 : decode cX0_word 0 = .ok (.aload_n 0, 1) := dk_42 (dk_at dksX0_word_0 0 rfl rfl)
theorem dX0_word_1 : decode cX0_word 1 = .ok (.aload_n 0, 1) := dk_42 (dk_at dksX0_word_0 1 rfl rfl)
theorem dX0_word_2 : decode cX0_word 2 = .ok (.iload_n 1, 1) := dk_27 (dk_at dksX0_word_0 2 rfl rfl)
theorem dX0_word_3 : decode cX0_word 3 = .ok (.invokevirtual 282, 3) := dk_182 1 26 (dk_at dksX0_word_0 3 rfl rfl)
theorem dX0_word_6 : decode cX0_word 6 = .ok (.iconst 1, 1) := dk_4 (dk_at dksX0_word_0 6 rfl rfl)
theorem dX0_word_7 : decode cX0_word 7 = .ok (.invokevirtual 126, 3) := dk_182 0 126 (dk_at dksX0_word_0 7 rfl rfl)
theorem dX0_word_10 : decode cX0_word 10 = .ok (.iconst 0, 1) := dk_3 (dk_at dksX0_word_0 10 rfl rfl)
theorem dX0_word_11 : decode cX0_word 11 = .ok (.istore_n 2, 1) := dk_61 (dk_at dksX0_word_0 11 rfl rfl)
theorem dX0_word_12 : decode cX0_word 12 = .ok (.iload_n 2, 1) := dk_28 (dk_at dksX0_word_0 12 rfl rfl)
theorem dX0_word_13 : decode cX0_word 13 = .ok (.bipush 12, 2) := dk_16 12 (dk_at dksX0_word_0 13 rfl rfl)
theorem dX0_word_15 : decode cX0_word 15 = .ok (.if_icmp .ge 18, 3) := dk_162 0 18 (dk_at dksX0_word_0 15 rfl rfl)
theorem dX0_word_18 : decode cX0_word 18 = .ok (.aload_n 0, 1) := dk_42 (dk_at dksX0_word_0 18 rfl rfl)
theorem dX0_word_19 : decode cX0_word 19 = .ok (.iload_n 1, 1) := dk_27 (dk_at dksX0_word_0 19 rfl rfl)
theorem dX0_word_20 : decode cX0_word 20 = .ok (.iload_n 2, 1) := dk_28 (dk_at dksX0_word_0 20 rfl rfl)
theorem dX0_word_21 : decode cX0_word 21 = .ok (.invokevirtual 316, 3) := dk_182 1 60 (dk_at dksX0_word_0 21 rfl rfl)
theorem dX0_word_24 : decode cX0_word 24 = .ok (.ifCond .ne 9, 3) := dk_154 0 9 (dk_at dksX0_word_1 0 rfl rfl)
theorem dX0_word_27 : decode cX0_word 27 = .ok (.iinc 2 1, 3) := dk_132 2 1 (dk_at dksX0_word_1 3 rfl rfl)
theorem dX0_word_30 : decode cX0_word 30 = .ok (.goto (-18), 3) := dk_167 255 238 (dk_at dksX0_word_1 6 rfl rfl)
theorem dX0_word_33 : decode cX0_word 33 = .ok (.aload_n 0, 1) := dk_42 (dk_at dksX0_word_1 9 rfl rfl)
theorem dX0_word_34 : decode cX0_word 34 = .ok (.iload_n 2, 1) := dk_28 (dk_at dksX0_word_1 10 rfl rfl)
theorem dX0_word_35 : decode cX0_word 35 = .ok (.bipush 12, 2) := dk_16 12 (dk_at dksX0_word_1 11 rfl rfl)
theorem dX0_word_37 : decode cX0_word 37 = .ok (.if_icmp .ge 7, 3) := dk_162 0 7 (dk_at dksX0_word_1 13 rfl rfl)
theorem dX0_word_40 : decode cX0_word 40 = .ok (.iconst 1, 1) := dk_4 (dk_at dksX0_word_1 16 rfl rfl)
theorem dX0_word_41 : decode cX0_word 41 = .ok (.goto 4, 3) := dk_167 0 4 (dk_at dksX0_word_1 17 rfl rfl)
theorem dX0_word_44 : decode cX0_word 44 = .ok (.iconst 0, 1) := dk_3 (dk_at dksX0_word_1 20 rfl rfl)
theorem dX0_word_45 : decode cX0_word 45 = .ok (.iconst 2, 1) := dk_5 (dk_at dksX0_word_1 21 rfl rfl)
theorem dX0_word_46 : decode cX0_word 46 = .ok (.invokevirtual 126, 3) := dk_182 0 126 (dk_at dksX0_word_2 0 rfl rfl)
theorem dX0_word_49 : decode cX0_word 49 = .ok (.iload_n 2, 1) := dk_28 (dk_at dksX0_word_2 3 rfl rfl)
theorem dX0_word_50 : decode cX0_word 50 = .ok (.ireturn, 1) := dk_172 (dk_at dksX0_word_2 4 rfl rfl)
theorem dX0_word_51 : decode cX0_word 51 = .ok (.astore_n 2, 1) := dk_77 (dk_at dksX0_word_2 5 rfl rfl)
theorem dX0_word_52 : decode cX0_word 52 = .ok (.aload_n 0, 1) := dk_42 (dk_at dksX0_word_2 6 rfl rfl)
theorem dX0_word_53 : decode cX0_word 53 = .ok (.aload_n 2, 1) := dk_44 (dk_at dksX0_word_2 7 rfl rfl)
theorem dX0_word_54 : decode cX0_word 54 = .ok (.invokevirtual 136, 3) := dk_182 0 136 (dk_at dksX0_word_2 8 rfl rfl)
theorem dX0_word_57 : decode cX0_word 57 = .ok (.ireturn, 1) := dk_172 (dk_at dksX0_word_2 11 rfl rfl)
abbrev cX0_fitsForm : ByteArray := prog_1_method_46_code
def yX0_fitsForm : MethodName := ⟨RX0, "fitsForm", "(II)Z"⟩
def dkwX0_fitsForm_1 : List UInt8 := [167, 255, 236, 42, 180, 0, 57, 27, 42, 180, 0, 89, 182, 1, 56, 172]
abbrev dktX0_fitsForm_1 : List UInt8 := dkwX0_fitsForm_1 ++ []
def dkwX0_fitsForm_0 : List UInt8 := [3, 62, 29, 16, 12, 162, 0, 20, 42, 180, 0, 89, 29, 28, 29, 184, 0, 165, 79, 132, 3, 1]
abbrev dktX0_fitsForm_0 : List UInt8 := dkwX0_fitsForm_0 ++ dktX0_fitsForm_1
theorem dksX0_fitsForm_0 : cX0_fitsForm.data.toList.drop 0 = dktX0_fitsForm_0 := by decide +kernel
theorem dksX0_fitsForm_1 : cX0_fitsForm.data.toList.drop 22 = dktX0_fitsForm_1 := dk_seg dksX0_fitsForm_0 22 rfl rfl
theorem dX0_fitsForm_0 : decode cX0_fitsForm 0 = .ok (.iconst 0, 1) := dk_3 (dk_at dksX0_fitsForm_0 0 rfl rfl)
theorem dX0_fitsForm_1 : decode cX0_fitsForm 1 = .ok (.istore_n 3, 1) := dk_62 (dk_at dksX0_fitsForm_0 1 rfl rfl)
theorem dX0_fitsForm_2 : decode cX0_fitsForm 2 = .ok (.iload_n 3, 1) := dk_29 (dk_at dksX0_fitsForm_0 2 rfl rfl)
theorem dX0_fitsForm_3 : decode cX0_fitsForm 3 = .ok (.bipush 12, 2) := dk_16 12 (dk_at dksX0_fitsForm_0 3 rfl rfl)
theorem dX0_fitsForm_5 : decode cX0_fitsForm 5 = .ok (.if_icmp .ge 20, 3) := dk_162 0 20 (dk_at dksX0_fitsForm_0 5 rfl rfl)
theorem dX0_fitsForm_8 : decode cX0_fitsForm 8 = .ok (.aload_n 0, 1) := dk_42 (dk_at dksX0_fitsForm_0 8 rfl rfl)
theorem dX0_fitsForm_9 : decode cX0_fitsForm 9 = .ok (.getfield 89, 3) := dk_180 0 89 (dk_at dksX0_fitsForm_0 9 rfl rfl)
theorem dX0_fitsForm_12 : decode cX0_fitsForm 12 = .ok (.iload_n 3, 1) := dk_29 (dk_at dksX0_fitsForm_0 12 rfl rfl)
theorem dX0_fitsForm_13 : decode cX0_fitsForm 13 = .ok (.iload_n 2, 1) := dk_28 (dk_at dksX0_fitsForm_0 13 rfl rfl)
theorem dX0_fitsForm_14 : decode cX0_fitsForm 14 = .ok (.iload_n 3, 1) := dk_29 (dk_at dksX0_fitsForm_0 14 rfl rfl)
theorem dX0_fitsForm_15 : decode cX0_fitsForm 15 = .ok (.invokestatic 165, 3) := dk_184 0 165 (dk_at dksX0_fitsForm_0 15 rfl rfl)
theorem dX0_fitsForm_18 : decode cX0_fitsForm 18 = .ok (.iastore, 1) := dk_79 (dk_at dksX0_fitsForm_0 18 rfl rfl)
theorem dX0_fitsForm_19 : decode cX0_fitsForm 19 = .ok (.iinc 3 1, 3) := dk_132 3 1 (dk_at dksX0_fitsForm_0 19 rfl rfl)
theorem dX0_fitsForm_22 : decode cX0_fitsForm 22 = .ok (.goto (-20), 3) := dk_167 255 236 (dk_at dksX0_fitsForm_1 0 rfl rfl)
theorem dX0_fitsForm_25 : decode cX0_fitsForm 25 = .ok (.aload_n 0, 1) := dk_42 (dk_at dksX0_fitsForm_1 3 rfl rfl)
theorem dX0_fitsForm_26 : decode cX0_fitsForm 26 = .ok (.getfield 57, 3) := dk_180 0 57 (dk_at dksX0_fitsForm_1 4 rfl rfl)
theorem dX0_fitsForm_29 : decode cX0_fitsForm 29 = .ok (.iload_n 1, 1) := dk_27 (dk_at dksX0_fitsForm_1 7 rfl rfl)
theorem dX0_fitsForm_30 : decode cX0_fitsForm 30 = .ok (.aload_n 0, 1) := dk_42 (dk_at dksX0_fitsForm_1 8 rfl rfl)
theorem dX0_fitsForm_31 : decode cX0_fitsForm 31 = .ok (.getfield 89, 3) := dk_180 0 89 (dk_at dksX0_fitsForm_1 9 rfl rfl)
theorem dX0_fitsForm_34 : decode cX0_fitsForm 34 = .ok (.invokevirtual 312, 3) := dk_182 1 56 (dk_at dksX0_fitsForm_1 12 rfl rfl)
theorem dX0_fitsForm_37 : decode cX0_fitsForm 37 = .ok (.ireturn, 1) := dk_172 (dk_at dksX0_fitsForm_1 15 rfl rfl)
abbrev cX0_show : ByteArray := prog_1_method_48_code
def yX0_show : MethodName := ⟨RX0, "show", "(II)I"⟩
def dkwX0_show_4 : List UInt8 := [180, 1, 71, 153, 0, 7, 4, 167, 0, 4, 3, 172, 78, 42, 45, 182, 0, 136, 172]
abbrev dktX0_show_4 : List UInt8 := dkwX0_show_4 ++ []
def dkwX0_show_3 : List UInt8 := [46, 167, 0, 33, 28, 2, 160, 0, 13, 42, 180, 0, 85, 180, 1, 67, 167, 0, 18, 42, 180, 0, 85]
abbrev dktX0_show_3 : List UInt8 := dkwX0_show_3 ++ dktX0_show_4
def dkwX0_show_2 : List UInt8 := [162, 0, 7, 4, 167, 0, 4, 3, 5, 182, 0, 126, 28, 155, 0, 15, 42, 180, 0, 85, 180, 1, 68, 28]
abbrev dktX0_show_2 : List UInt8 := dkwX0_show_2 ++ dktX0_show_3
def dkwX0_show_1 : List UInt8 := [42, 180, 0, 85, 42, 180, 0, 57, 180, 0, 112, 27, 182, 1, 63, 42, 28, 42, 180, 0, 85, 180, 1, 67]
abbrev dktX0_show_1 : List UInt8 := dkwX0_show_1 ++ dktX0_show_2
def dkwX0_show_0 : List UInt8 := [42, 42, 27, 182, 1, 26, 153, 0, 13, 28, 16, 254, 161, 0, 7, 4, 167, 0, 4, 3, 4, 182, 0, 126]
abbrev dktX0_show_0 : List UInt8 := dkwX0_show_0 ++ dktX0_show_1
theorem dksX0_show_0 : cX0_show.data.toList.drop 0 = dktX0_show_0 := by decide +kernel
theorem dksX0_show_1 : cX0_show.data.toList.drop 24 = dktX0_show_1 := dk_seg dksX0_show_0 24 rfl rfl
theorem dksX0_show_2 : cX0_show.data.toList.drop 48 = dktX0_show_2 := dk_seg dksX0_show_1 24 rfl rfl
theorem dksX0_show_3 : cX0_show.data.toList.drop 72 = dktX0_show_3 := dk_seg dksX0_show_2 24 rfl rfl
theorem dksX0_show_4 : cX0_show.data.toList.drop 95 = dktX0_show_4 := dk_seg dksX0_show_3 23 rfl rfl
theorem dX0_show_0 : decode cX0_show 0 = .ok (.aload_n 0, 1) := dk_42 (dk_at dksX0_show_0 0 rfl rfl)
theorem dX0_show_1 : decode cX0_show 1 = .ok (.aload_n 0, 1) := dk_42 (dk_at dksX0_show_0 1 rfl rfl)
theorem dX0_show_2 : decode cX0_show 2 = .ok (.iload_n 1, 1) := dk_27 (dk_at dksX0_show_0 2 rfl rfl)
theorem dX0_show_3 : decode cX0_show 3 = .ok (.invokevirtual 282, 3) := dk_182 1 26 (dk_at dksX0_show_0 3 rfl rfl)
theorem dX0_show_6 : decode cX0_show 6 = .ok (.ifCond .eq 13, 3) := dk_153 0 13 (dk_at dksX0_show_0 6 rfl rfl)
theorem dX0_show_9 : decode cX0_show 9 = .ok (.iload_n 2, 1) := dk_28 (dk_at dksX0_show_0 9 rfl rfl)
theorem dX0_show_10 : decode cX0_show 10 = .ok (.bipush (-2), 2) := dk_16 254 (dk_at dksX0_show_0 10 rfl rfl)
theorem dX0_show_12 : decode cX0_show 12 = .ok (.if_icmp .lt 7, 3) := dk_161 0 7 (dk_at dksX0_show_0 12 rfl rfl)
theorem dX0_show_15 : decode cX0_show 15 = .ok (.iconst 1, 1) := dk_4 (dk_at dksX0_show_0 15 rfl rfl)
theorem dX0_show_16 : decode cX0_show 16 = .ok (.goto 4, 3) := dk_167 0 4 (dk_at dksX0_show_0 16 rfl rfl)
theorem dX0_show_19 : decode cX0_show 19 = .ok (.iconst 0, 1) := dk_3 (dk_at dksX0_show_0 19 rfl rfl)
theorem dX0_show_20 : decode cX0_show 20 = .ok (.iconst 1, 1) := dk_4 (dk_at dksX0_show_0 20 rfl rfl)
theorem dX0_show_21 : decode cX0_show 21 = .ok (.invokevirtual 126, 3) := dk_182 0 126 (dk_at dksX0_show_0 21 rfl rfl)
theorem dX0_show_24 : decode cX0_show 24 = .ok (.aload_n 0, 1) := dk_42 (dk_at dksX0_show_1 0 rfl rfl)
theorem dX0_show_25 : decode cX0_show 25 = .ok (.getfield 85, 3) := dk_180 0 85 (dk_at dksX0_show_1 1 rfl rfl)
theorem dX0_show_28 : decode cX0_show 28 = .ok (.aload_n 0, 1) := dk_42 (dk_at dksX0_show_1 4 rfl rfl)
theorem dX0_show_29 : decode cX0_show 29 = .ok (.getfield 57, 3) := dk_180 0 57 (dk_at dksX0_show_1 5 rfl rfl)
theorem dX0_show_32 : decode cX0_show 32 = .ok (.getfield 112, 3) := dk_180 0 112 (dk_at dksX0_show_1 8 rfl rfl)
theorem dX0_show_35 : decode cX0_show 35 = .ok (.iload_n 1, 1) := dk_27 (dk_at dksX0_show_1 11 rfl rfl)
theorem dX0_show_36 : decode cX0_show 36 = .ok (.invokevirtual 319, 3) := dk_182 1 63 (dk_at dksX0_show_1 12 rfl rfl)
theorem dX0_show_39 : decode cX0_show 39 = .ok (.aload_n 0, 1) := dk_42 (dk_at dksX0_show_1 15 rfl rfl)
theorem dX0_show_40 : decode cX0_show 40 = .ok (.iload_n 2, 1) := dk_28 (dk_at dksX0_show_1 16 rfl rfl)
theorem dX0_show_41 : decode cX0_show 41 = .ok (.aload_n 0, 1) := dk_42 (dk_at dksX0_show_1 17 rfl rfl)
theorem dX0_show_42 : decode cX0_show 42 = .ok (.getfield 85, 3) := dk_180 0 85 (dk_at dksX0_show_1 18 rfl rfl)
theorem dX0_show_45 : decode cX0_show 45 = .ok (.getfield 323, 3) := dk_180 1 67 (dk_at dksX0_show_1 21 rfl rfl)
theorem dX0_show_48 : decode cX0_show 48 = .ok (.if_icmp .ge 7, 3) := dk_162 0 7 (dk_at dksX0_show_2 0 rfl rfl)
theorem dX0_show_51 : decode cX0_show 51 = .ok (.iconst 1, 1) := dk_4 (dk_at dksX0_show_2 3 rfl rfl)
theorem dX0_show_52 : decode cX0_show 52 = .ok (.goto 4, 3) := dk_167 0 4 (dk_at dksX0_show_2 4 rfl rfl)
theorem dX0_show_55 : decode cX0_show 55 = .ok (.iconst 0, 1) := dk_3 (dk_at dksX0_show_2 7 rfl rfl)
theorem dX0_show_56 : decode cX0_show 56 = .ok (.iconst 2, 1) := dk_5 (dk_at dksX0_show_2 8 rfl rfl)
theorem dX0_show_57 : decode cX0_show 57 = .ok (.invokevirtual 126, 3) := dk_182 0 126 (dk_at dksX0_show_2 9 rfl rfl)
theorem dX0_show_60 : decode cX0_show 60 = .ok (.iload_n 2, 1) := dk_28 (dk_at dksX0_show_2 12 rfl rfl)
theorem dX0_show_61 : decode cX0_show 61 = .ok (.ifCond .lt 15, 3) := dk_155 0 15 (dk_at dksX0_show_2 13 rfl rfl)
theorem dX0_show_64 : decode cX0_show 64 = .ok (.aload_n 0, 1) := dk_42 (dk_at dksX0_show_2 16 rfl rfl)
theorem dX0_show_65 : decode cX0_show 65 = .ok (.getfield 85, 3) := dk_180 0 85 (dk_at dksX0_show_2 17 rfl rfl)
theorem dX0_show_68 : decode cX0_show 68 = .ok (.getfield 324, 3) := dk_180 1 68 (dk_at dksX0_show_2 20 rfl rfl)
theorem dX0_show_71 : decode cX0_show 71 = .ok (.iload_n 2, 1) := dk_28 (dk_at dksX0_show_2 23 rfl rfl)
theorem dX0_show_72 : decode cX0_show 72 = .ok (.iaload, 1) := dk_46 (dk_at dksX0_show_3 0 rfl rfl)
theorem dX0_show_73 : decode cX0_show 73 = .ok (.goto 33, 3) := dk_167 0 33 (dk_at dksX0_show_3 1 rfl rfl)
theorem dX0_show_76 : decode cX0_show 76 = .ok (.iload_n 2, 1) := dk_28 (dk_at dksX0_show_3 4 rfl rfl)
theorem dX0_show_77 : decode cX0_show 77 = .ok (.iconst (-1), 1) := dk_2 (dk_at dksX0_show_3 5 rfl rfl)
theorem dX0_show_78 : decode cX0_show 78 = .ok (.if_icmp .ne 13, 3) := dk_160 0 13 (dk_at dksX0_show_3 6 rfl rfl)
theorem dX0_show_81 : decode cX0_show 81 = .ok (.aload_n 0, 1) := dk_42 (dk_at dksX0_show_3 9 rfl rfl)
theorem dX0_show_82 : decode cX0_show 82 = .ok (.getfield 85, 3) := dk_180 0 85 (dk_at dksX0_show_3 10 rfl rfl)
theorem dX0_show_85 : decode cX0_show 85 = .ok (.getfield 323, 3) := dk_180 1 67 (dk_at dksX0_show_3 13 rfl rfl)
theorem dX0_show_88 : decode cX0_show 88 = .ok (.goto 18, 3) := dk_167 0 18 (dk_at dksX0_show_3 16 rfl rfl)
theorem dX0_show_91 : decode cX0_show 91 = .ok (.aload_n 0, 1) := dk_42 (dk_at dksX0_show_3 19 rfl rfl)
theorem dX0_show_92 : decode cX0_show 92 = .ok (.getfield 85, 3) := dk_180 0 85 (dk_at dksX0_show_3 20 rfl rfl)
theorem dX0_show_95 : decode cX0_show 95 = .ok (.getfield 327, 3) := dk_180 1 71 (dk_at dksX0_show_4 0 rfl rfl)
theorem dX0_show_98 : decode cX0_show 98 = .ok (.ifCond .eq 7, 3) := dk_153 0 7 (dk_at dksX0_show_4 3 rfl rfl)
theorem dX0_show_101 : decode cX0_show 101 = .ok (.iconst 1, 1) := dk_4 (dk_at dksX0_show_4 6 rfl rfl)
theorem dX0_show_102 : decode cX0_show 102 = .ok (.goto 4, 3) := dk_167 0 4 (dk_at dksX0_show_4 7 rfl rfl)
theorem dX0_show_105 : decode cX0_show 105 = .ok (.iconst 0, 1) := dk_3 (dk_at dksX0_show_4 10 rfl rfl)
theorem dX0_show_106 : decode cX0_show 106 = .ok (.ireturn, 1) := dk_172 (dk_at dksX0_show_4 11 rfl rfl)
theorem dX0_show_107 : decode cX0_show 107 = .ok (.astore_n 3, 1) := dk_78 (dk_at dksX0_show_4 12 rfl rfl)
theorem dX0_show_108 : decode cX0_show 108 = .ok (.aload_n 0, 1) := dk_42 (dk_at dksX0_show_4 13 rfl rfl)
theorem dX0_show_109 : decode cX0_show 109 = .ok (.aload_n 3, 1) := dk_45 (dk_at dksX0_show_4 14 rfl rfl)
theorem dX0_show_110 : decode cX0_show 110 = .ok (.invokevirtual 136, 3) := dk_182 0 136 (dk_at dksX0_show_4 15 rfl rfl)
theorem dX0_show_113 : decode cX0_show 113 = .ok (.ireturn, 1) := dk_172 (dk_at dksX0_show_4 18 rfl rfl)
abbrev cX0_check : ByteArray := prog_1_method_50_code
def yX0_check : MethodName := ⟨RX0, "check", "(II)I"⟩
def dkwX0_check_4 : List UInt8 := [167, 0, 7, 21, 4, 4, 96, 172, 78, 42, 45, 182, 0, 136, 172]
abbrev dktX0_check_4 : List UInt8 := dkwX0_check_4 ++ []
def dkwX0_check_3 : List UInt8 := [167, 255, 230, 21, 4, 45, 182, 0, 156, 160, 0, 17, 42, 180, 0, 85, 180, 1, 71, 153, 0, 7, 3]
abbrev dktX0_check_3 : List UInt8 := dkwX0_check_3 ++ dktX0_check_4
def dkwX0_check_2 : List UInt8 := [182, 0, 156, 162, 0, 23, 42, 27, 45, 21, 4, 182, 0, 162, 182, 1, 85, 153, 0, 9, 132, 4, 1]
abbrev dktX0_check_2 : List UInt8 := dkwX0_check_2 ++ dktX0_check_3
def dkwX0_check_1 : List UInt8 := [182, 0, 126, 42, 28, 182, 0, 152, 78, 42, 180, 0, 85, 182, 1, 83, 3, 54, 4, 21, 4, 45]
abbrev dktX0_check_1 : List UInt8 := dkwX0_check_1 ++ dktX0_check_2
def dkwX0_check_0 : List UInt8 := [42, 42, 27, 182, 1, 26, 153, 0, 14, 28, 184, 0, 149, 153, 0, 7, 4, 167, 0, 4, 3, 4]
abbrev dktX0_check_0 : List UInt8 := dkwX0_check_0 ++ dktX0_check_1
theorem dksX0_check_0 : cX0_check.data.toList.drop 0 = dktX0_check_0 := by decide +kernel
theorem dksX0_check_1 : cX0_check.data.toList.drop 22 = dktX0_check_1 := dk_seg dksX0_check_0 22 rfl rfl
theorem dksX0_check_2 : cX0_check.data.toList.drop 44 = dktX0_check_2 := dk_seg dksX0_check_1 22 rfl rfl
theorem dksX0_check_3 : cX0_check.data.toList.drop 67 = dktX0_check_3 := dk_seg dksX0_check_2 23 rfl rfl
theorem dksX0_check_4 : cX0_check.data.toList.drop 90 = dktX0_check_4 := dk_seg dksX0_check_3 23 rfl rfl
theorem dX0_check_0 : decode cX0_check 0 = .ok (.aload_n 0, 1) := dk_42 (dk_at dksX0_check_0 0 rfl rfl)
theorem dX0_check_1 : decode cX0_check 1 = .ok (.aload_n 0, 1) := dk_42 (dk_at dksX0_check_0 1 rfl rfl)
theorem dX0_check_2 : decode cX0_check 2 = .ok (.iload_n 1, 1) := dk_27 (dk_at dksX0_check_0 2 rfl rfl)
theorem dX0_check_3 : decode cX0_check 3 = .ok (.invokevirtual 282, 3) := dk_182 1 26 (dk_at dksX0_check_0 3 rfl rfl)
theorem dX0_check_6 : decode cX0_check 6 = .ok (.ifCond .eq 14, 3) := dk_153 0 14 (dk_at dksX0_check_0 6 rfl rfl)
theorem dX0_check_9 : decode cX0_check 9 = .ok (.iload_n 2, 1) := dk_28 (dk_at dksX0_check_0 9 rfl rfl)
theorem dX0_check_10 : decode cX0_check 10 = .ok (.invokestatic 149, 3) := dk_184 0 149 (dk_at dksX0_check_0 10 rfl rfl)
theorem dX0_check_13 : decode cX0_check 13 = .ok (.ifCond .eq 7, 3) := dk_153 0 7 (dk_at dksX0_check_0 13 rfl rfl)
theorem dX0_check_16 : decode cX0_check 16 = .ok (.iconst 1, 1) := dk_4 (dk_at dksX0_check_0 16 rfl rfl)
theorem dX0_check_17 : decode cX0_check 17 = .ok (.goto 4, 3) := dk_167 0 4 (dk_at dksX0_check_0 17 rfl rfl)
theorem dX0_check_20 : decode cX0_check 20 = .ok (.iconst 0, 1) := dk_3 (dk_at dksX0_check_0 20 rfl rfl)
theorem dX0_check_21 : decode cX0_check 21 = .ok (.iconst 1, 1) := dk_4 (dk_at dksX0_check_0 21 rfl rfl)
theorem dX0_check_22 : decode cX0_check 22 = .ok (.invokevirtual 126, 3) := dk_182 0 126 (dk_at dksX0_check_1 0 rfl rfl)
theorem dX0_check_25 : decode cX0_check 25 = .ok (.aload_n 0, 1) := dk_42 (dk_at dksX0_check_1 3 rfl rfl)
theorem dX0_check_26 : decode cX0_check 26 = .ok (.iload_n 2, 1) := dk_28 (dk_at dksX0_check_1 4 rfl rfl)
theorem dX0_check_27 : decode cX0_check 27 = .ok (.invokevirtual 152, 3) := dk_182 0 152 (dk_at dksX0_check_1 5 rfl rfl)
theorem dX0_check_30 : decode cX0_check 30 = .ok (.astore_n 3, 1) := dk_78 (dk_at dksX0_check_1 8 rfl rfl)
theorem dX0_check_31 : decode cX0_check 31 = .ok (.aload_n 0, 1) := dk_42 (dk_at dksX0_check_1 9 rfl rfl)
theorem dX0_check_32 : decode cX0_check 32 = .ok (.getfield 85, 3) := dk_180 0 85 (dk_at dksX0_check_1 10 rfl rfl)
theorem dX0_check_35 : decode cX0_check 35 = .ok (.invokevirtual 339, 3) := dk_182 1 83 (dk_at dksX0_check_1 13 rfl rfl)
theorem dX0_check_38 : decode cX0_check 38 = .ok (.iconst 0, 1) := dk_3 (dk_at dksX0_check_1 16 rfl rfl)
theorem dX0_check_39 : decode cX0_check 39 = .ok (.istore 4, 2) := dk_54 4 (dk_at dksX0_check_1 17 rfl rfl)
theorem dX0_check_41 : decode cX0_check 41 = .ok (.iload 4, 2) := dk_21 4 (dk_at dksX0_check_1 19 rfl rfl)
theorem dX0_check_43 : decode cX0_check 43 = .ok (.aload_n 3, 1) := dk_45 (dk_at dksX0_check_1 21 rfl rfl)
theorem dX0_check_44 : decode cX0_check 44 = .ok (.invokevirtual 156, 3) := dk_182 0 156 (dk_at dksX0_check_2 0 rfl rfl)
theorem dX0_check_47 : decode cX0_check 47 = .ok (.if_icmp .ge 23, 3) := dk_162 0 23 (dk_at dksX0_check_2 3 rfl rfl)
theorem dX0_check_50 : decode cX0_check 50 = .ok (.aload_n 0, 1) := dk_42 (dk_at dksX0_check_2 6 rfl rfl)
theorem dX0_check_51 : decode cX0_check 51 = .ok (.iload_n 1, 1) := dk_27 (dk_at dksX0_check_2 7 rfl rfl)
theorem dX0_check_52 : decode cX0_check 52 = .ok (.aload_n 3, 1) := dk_45 (dk_at dksX0_check_2 8 rfl rfl)
theorem dX0_check_53 : decode cX0_check 53 = .ok (.iload 4, 2) := dk_21 4 (dk_at dksX0_check_2 9 rfl rfl)
theorem dX0_check_55 : decode cX0_check 55 = .ok (.invokevirtual 162, 3) := dk_182 0 162 (dk_at dksX0_check_2 11 rfl rfl)
theorem dX0_check_58 : decode cX0_check 58 = .ok (.invokevirtual 341, 3) := dk_182 1 85 (dk_at dksX0_check_2 14 rfl rfl)
theorem dX0_check_61 : decode cX0_check 61 = .ok (.ifCond .eq 9, 3) := dk_153 0 9 (dk_at dksX0_check_2 17 rfl rfl)
theorem dX0_check_64 : decode cX0_check 64 = .ok (.iinc 4 1, 3) := dk_132 4 1 (dk_at dksX0_check_2 20 rfl rfl)
theorem dX0_check_67 : decode cX0_check 67 = .ok (.goto (-26), 3) := dk_167 255 230 (dk_at dksX0_check_3 0 rfl rfl)
theorem dX0_check_70 : decode cX0_check 70 = .ok (.iload 4, 2) := dk_21 4 (dk_at dksX0_check_3 3 rfl rfl)
theorem dX0_check_72 : decode cX0_check 72 = .ok (.aload_n 3, 1) := dk_45 (dk_at dksX0_check_3 5 rfl rfl)
theorem dX0_check_73 : decode cX0_check 73 = .ok (.invokevirtual 156, 3) := dk_182 0 156 (dk_at dksX0_check_3 6 rfl rfl)
theorem dX0_check_76 : decode cX0_check 76 = .ok (.if_icmp .ne 17, 3) := dk_160 0 17 (dk_at dksX0_check_3 9 rfl rfl)
theorem dX0_check_79 : decode cX0_check 79 = .ok (.aload_n 0, 1) := dk_42 (dk_at dksX0_check_3 12 rfl rfl)
theorem dX0_check_80 : decode cX0_check 80 = .ok (.getfield 85, 3) := dk_180 0 85 (dk_at dksX0_check_3 13 rfl rfl)
theorem dX0_check_83 : decode cX0_check 83 = .ok (.getfield 327, 3) := dk_180 1 71 (dk_at dksX0_check_3 16 rfl rfl)
theorem dX0_check_86 : decode cX0_check 86 = .ok (.ifCond .eq 7, 3) := dk_153 0 7 (dk_at dksX0_check_3 19 rfl rfl)
theorem dX0_check_89 : decode cX0_check 89 = .ok (.iconst 0, 1) := dk_3 (dk_at dksX0_check_3 22 rfl rfl)
theorem dX0_check_90 : decode cX0_check 90 = .ok (.goto 7, 3) := dk_167 0 7 (dk_at dksX0_check_4 0 rfl rfl)
theorem dX0_check_93 : decode cX0_check 93 = .ok (.iload 4, 2) := dk_21 4 (dk_at dksX0_check_4 3 rfl rfl)
theorem dX0_check_95 : decode cX0_check 95 = .ok (.iconst 1, 1) := dk_4 (dk_at dksX0_check_4 5 rfl rfl)
theorem dX0_check_96 : decode cX0_check 96 = .ok (.iadd, 1) := dk_96 (dk_at dksX0_check_4 6 rfl rfl)
theorem dX0_check_97 : decode cX0_check 97 = .ok (.ireturn, 1) := dk_172 (dk_at dksX0_check_4 7 rfl rfl)
theorem dX0_check_98 : decode cX0_check 98 = .ok (.astore_n 3, 1) := dk_78 (dk_at dksX0_check_4 8 rfl rfl)
theorem dX0_check_99 : decode cX0_check 99 = .ok (.aload_n 0, 1) := dk_42 (dk_at dksX0_check_4 9 rfl rfl)
theorem dX0_check_100 : decode cX0_check 100 = .ok (.aload_n 3, 1) := dk_45 (dk_at dksX0_check_4 10 rfl rfl)
theorem dX0_check_101 : decode cX0_check 101 = .ok (.invokevirtual 136, 3) := dk_182 0 136 (dk_at dksX0_check_4 11 rfl rfl)
theorem dX0_check_104 : decode cX0_check 104 = .ok (.ireturn, 1) := dk_172 (dk_at dksX0_check_4 14 rfl rfl)
abbrev cX0_isStep : ByteArray := prog_1_method_49_code
def yX0_isStep : MethodName := ⟨RX0, "isStep", "(II)Z"⟩
def dkwX0_isStep_4 : List UInt8 := [182, 0, 219, 192, 0, 45, 21, 4, 21, 5, 182, 1, 79, 4, 172]
abbrev dktX0_isStep_4 : List UInt8 := dkwX0_isStep_4 ++ []
def dkwX0_isStep_3 : List UInt8 := [21, 5, 182, 1, 75, 154, 0, 5, 3, 172, 42, 180, 0, 85, 42, 180, 0, 57, 180, 0, 112, 29]
abbrev dktX0_isStep_3 : List UInt8 := dkwX0_isStep_3 ++ dktX0_isStep_4
def dkwX0_isStep_2 : List UInt8 := [153, 0, 31, 42, 180, 0, 85, 42, 180, 0, 57, 180, 0, 112, 29, 182, 0, 219, 192, 0, 45, 21, 4]
abbrev dktX0_isStep_2 : List UInt8 := dkwX0_isStep_2 ++ dktX0_isStep_3
def dkwX0_isStep_1 : List UInt8 := [54, 5, 42, 29, 182, 0, 216, 153, 0, 47, 27, 29, 184, 1, 10, 153, 0, 39, 21, 5, 184, 0, 143]
abbrev dktX0_isStep_1 : List UInt8 := dkwX0_isStep_1 ++ dktX0_isStep_2
def dkwX0_isStep_0 : List UInt8 := [28, 156, 0, 7, 2, 167, 0, 7, 28, 16, 48, 108, 62, 28, 16, 48, 112, 7, 108, 54, 4, 28, 7, 112]
abbrev dktX0_isStep_0 : List UInt8 := dkwX0_isStep_0 ++ dktX0_isStep_1
theorem dksX0_isStep_0 : cX0_isStep.data.toList.drop 0 = dktX0_isStep_0 := by decide +kernel
theorem dksX0_isStep_1 : cX0_isStep.data.toList.drop 24 = dktX0_isStep_1 := dk_seg dksX0_isStep_0 24 rfl rfl
theorem dksX0_isStep_2 : cX0_isStep.data.toList.drop 47 = dktX0_isStep_2 := dk_seg dksX0_isStep_1 23 rfl rfl
theorem dksX0_isStep_3 : cX0_isStep.data.toList.drop 70 = dktX0_isStep_3 := dk_seg dksX0_isStep_2 23 rfl rfl
theorem dksX0_isStep_4 : cX0_isStep.data.toList.drop 92 = dktX0_isStep_4 := dk_seg dksX0_isStep_3 22 rfl rfl
theorem dX0_isStep_0 : decode cX0_isStep 0 = .ok (.iload_n 2, 1) := dk_28 (dk_at dksX0_isStep_0 0 rfl rfl)
theorem dX0_isStep_1 : decode cX0_isStep 1 = .ok (.ifCond .ge 7, 3) := dk_156 0 7 (dk_at dksX0_isStep_0 1 rfl rfl)
theorem dX0_isStep_4 : decode cX0_isStep 4 = .ok (.iconst (-1), 1) := dk_2 (dk_at dksX0_isStep_0 4 rfl rfl)
theorem dX0_isStep_5 : decode cX0_isStep 5 = .ok (.goto 7, 3) := dk_167 0 7 (dk_at dksX0_isStep_0 5 rfl rfl)
theorem dX0_isStep_8 : decode cX0_isStep 8 = .ok (.iload_n 2, 1) := dk_28 (dk_at dksX0_isStep_0 8 rfl rfl)
theorem dX0_isStep_9 : decode cX0_isStep 9 = .ok (.bipush 48, 2) := dk_16 48 (dk_at dksX0_isStep_0 9 rfl rfl)
theorem dX0_isStep_11 : decode cX0_isStep 11 = .ok (.idiv, 1) := dk_108 (dk_at dksX0_isStep_0 11 rfl rfl)
theorem dX0_isStep_12 : decode cX0_isStep 12 = .ok (.istore_n 3, 1) := dk_62 (dk_at dksX0_isStep_0 12 rfl rfl)
theorem dX0_isStep_13 : decode cX0_isStep 13 = .ok (.iload_n 2, 1) := dk_28 (dk_at dksX0_isStep_0 13 rfl rfl)
theorem dX0_isStep_14 : decode cX0_isStep 14 = .ok (.bipush 48, 2) := dk_16 48 (dk_at dksX0_isStep_0 14 rfl rfl)
theorem dX0_isStep_16 : decode cX0_isStep 16 = .ok (.irem, 1) := dk_112 (dk_at dksX0_isStep_0 16 rfl rfl)
theorem dX0_isStep_17 : decode cX0_isStep 17 = .ok (.iconst 4, 1) := dk_7 (dk_at dksX0_isStep_0 17 rfl rfl)
theorem dX0_isStep_18 : decode cX0_isStep 18 = .ok (.idiv, 1) := dk_108 (dk_at dksX0_isStep_0 18 rfl rfl)
theorem dX0_isStep_19 : decode cX0_isStep 19 = .ok (.istore 4, 2) := dk_54 4 (dk_at dksX0_isStep_0 19 rfl rfl)
theorem dX0_isStep_21 : decode cX0_isStep 21 = .ok (.iload_n 2, 1) := dk_28 (dk_at dksX0_isStep_0 21 rfl rfl)
theorem dX0_isStep_22 : decode cX0_isStep 22 = .ok (.iconst 4, 1) := dk_7 (dk_at dksX0_isStep_0 22 rfl rfl)
theorem dX0_isStep_23 : decode cX0_isStep 23 = .ok (.irem, 1) := dk_112 (dk_at dksX0_isStep_0 23 rfl rfl)
theorem dX0_isStep_24 : decode cX0_isStep 24 = .ok (.istore 5, 2) := dk_54 5 (dk_at dksX0_isStep_1 0 rfl rfl)
theorem dX0_isStep_26 : decode cX0_isStep 26 = .ok (.aload_n 0, 1) := dk_42 (dk_at dksX0_isStep_1 2 rfl rfl)
theorem dX0_isStep_27 : decode cX0_isStep 27 = .ok (.iload_n 3, 1) := dk_29 (dk_at dksX0_isStep_1 3 rfl rfl)
theorem dX0_isStep_28 : decode cX0_isStep 28 = .ok (.invokevirtual 216, 3) := dk_182 0 216 (dk_at dksX0_isStep_1 4 rfl rfl)
theorem dX0_isStep_31 : decode cX0_isStep 31 = .ok (.ifCond .eq 47, 3) := dk_153 0 47 (dk_at dksX0_isStep_1 7 rfl rfl)
theorem dX0_isStep_34 : decode cX0_isStep 34 = .ok (.iload_n 1, 1) := dk_27 (dk_at dksX0_isStep_1 10 rfl rfl)
theorem dX0_isStep_35 : decode cX0_isStep 35 = .ok (.iload_n 3, 1) := dk_29 (dk_at dksX0_isStep_1 11 rfl rfl)
theorem dX0_isStep_36 : decode cX0_isStep 36 = .ok (.invokestatic 266, 3) := dk_184 1 10 (dk_at dksX0_isStep_1 12 rfl rfl)
theorem dX0_isStep_39 : decode cX0_isStep 39 = .ok (.ifCond .eq 39, 3) := dk_153 0 39 (dk_at dksX0_isStep_1 15 rfl rfl)
theorem dX0_isStep_42 : decode cX0_isStep 42 = .ok (.iload 5, 2) := dk_21 5 (dk_at dksX0_isStep_1 18 rfl rfl)
theorem dX0_isStep_44 : decode cX0_isStep 44 = .ok (.invokestatic 143, 3) := dk_184 0 143 (dk_at dksX0_isStep_1 20 rfl rfl)
theorem dX0_isStep_47 : decode cX0_isStep 47 = .ok (.ifCond .eq 31, 3) := dk_153 0 31 (dk_at dksX0_isStep_2 0 rfl rfl)
theorem dX0_isStep_50 : decode cX0_isStep 50 = .ok (.aload_n 0, 1) := dk_42 (dk_at dksX0_isStep_2 3 rfl rfl)
theorem dX0_isStep_51 : decode cX0_isStep 51 = .ok (.getfield 85, 3) := dk_180 0 85 (dk_at dksX0_isStep_2 4 rfl rfl)
theorem dX0_isStep_54 : decode cX0_isStep 54 = .ok (.aload_n 0, 1) := dk_42 (dk_at dksX0_isStep_2 7 rfl rfl)
theorem dX0_isStep_55 : decode cX0_isStep 55 = .ok (.getfield 57, 3) := dk_180 0 57 (dk_at dksX0_isStep_2 8 rfl rfl)
theorem dX0_isStep_58 : decode cX0_isStep 58 = .ok (.getfield 112, 3) := dk_180 0 112 (dk_at dksX0_isStep_2 11 rfl rfl)
theorem dX0_isStep_61 : decode cX0_isStep 61 = .ok (.iload_n 3, 1) := dk_29 (dk_at dksX0_isStep_2 14 rfl rfl)
theorem dX0_isStep_62 : decode cX0_isStep 62 = .ok (.invokevirtual 219, 3) := dk_182 0 219 (dk_at dksX0_isStep_2 15 rfl rfl)
theorem dX0_isStep_65 : decode cX0_isStep 65 = .ok (.checkcast 45, 3) := dk_192 0 45 (dk_at dksX0_isStep_2 18 rfl rfl)
theorem dX0_isStep_68 : decode cX0_isStep 68 = .ok (.iload 4, 2) := dk_21 4 (dk_at dksX0_isStep_2 21 rfl rfl)
theorem dX0_isStep_70 : decode cX0_isStep 70 = .ok (.iload 5, 2) := dk_21 5 (dk_at dksX0_isStep_3 0 rfl rfl)
theorem dX0_isStep_72 : decode cX0_isStep 72 = .ok (.invokevirtual 331, 3) := dk_182 1 75 (dk_at dksX0_isStep_3 2 rfl rfl)
theorem dX0_isStep_75 : decode cX0_isStep 75 = .ok (.ifCond .ne 5, 3) := dk_154 0 5 (dk_at dksX0_isStep_3 5 rfl rfl)
theorem dX0_isStep_78 : decode cX0_isStep 78 = .ok (.iconst 0, 1) := dk_3 (dk_at dksX0_isStep_3 8 rfl rfl)
theorem dX0_isStep_79 : decode cX0_isStep 79 = .ok (.ireturn, 1) := dk_172 (dk_at dksX0_isStep_3 9 rfl rfl)
theorem dX0_isStep_80 : decode cX0_isStep 80 = .ok (.aload_n 0, 1) := dk_42 (dk_at dksX0_isStep_3 10 rfl rfl)
theorem dX0_isStep_81 : decode cX0_isStep 81 = .ok (.getfield 85, 3) := dk_180 0 85 (dk_at dksX0_isStep_3 11 rfl rfl)
theorem dX0_isStep_84 : decode cX0_isStep 84 = .ok (.aload_n 0, 1) := dk_42 (dk_at dksX0_isStep_3 14 rfl rfl)
theorem dX0_isStep_85 : decode cX0_isStep 85 = .ok (.getfield 57, 3) := dk_180 0 57 (dk_at dksX0_isStep_3 15 rfl rfl)
theorem dX0_isStep_88 : decode cX0_isStep 88 = .ok (.getfield 112, 3) := dk_180 0 112 (dk_at dksX0_isStep_3 18 rfl rfl)
theorem dX0_isStep_91 : decode cX0_isStep 91 = .ok (.iload_n 3, 1) := dk_29 (dk_at dksX0_isStep_3 21 rfl rfl)
theorem dX0_isStep_92 : decode cX0_isStep 92 = .ok (.invokevirtual 219, 3) := dk_182 0 219 (dk_at dksX0_isStep_4 0 rfl rfl)
theorem dX0_isStep_95 : decode cX0_isStep 95 = .ok (.checkcast 45, 3) := dk_192 0 45 (dk_at dksX0_isStep_4 3 rfl rfl)
theorem dX0_isStep_98 : decode cX0_isStep 98 = .ok (.iload 4, 2) := dk_21 4 (dk_at dksX0_isStep_4 6 rfl rfl)
theorem dX0_isStep_100 : decode cX0_isStep 100 = .ok (.iload 5, 2) := dk_21 5 (dk_at dksX0_isStep_4 8 rfl rfl)
theorem dX0_isStep_102 : decode cX0_isStep 102 = .ok (.invokevirtual 335, 3) := dk_182 1 79 (dk_at dksX0_isStep_4 10 rfl rfl)
theorem dX0_isStep_105 : decode cX0_isStep 105 = .ok (.iconst 1, 1) := dk_4 (dk_at dksX0_isStep_4 13 rfl rfl)
theorem dX0_isStep_106 : decode cX0_isStep 106 = .ok (.ireturn, 1) := dk_172 (dk_at dksX0_isStep_4 14 rfl rfl)
abbrev cX0_small : ByteArray := prog_1_method_52_code
def yX0_small : MethodName := ⟨RX0, "small", "(I)I"⟩
def dkwX0_small_1 : List UInt8 := [182, 1, 93, 172, 77, 42, 44, 182, 0, 136, 172]
abbrev dktX0_small_1 : List UInt8 := dkwX0_small_1 ++ []
def dkwX0_small_0 : List UInt8 := [42, 42, 27, 182, 1, 26, 4, 182, 0, 126, 42, 42, 27, 182, 1, 29, 6, 182, 0, 126, 42, 27]
abbrev dktX0_small_0 : List UInt8 := dkwX0_small_0 ++ dktX0_small_1
theorem dksX0_small_0 : cX0_small.data.toList.drop 0 = dktX0_small_0 := by decide +kernel
theorem dksX0_small_1 : cX0_small.data.toList.drop 22 = dktX0_small_1 := dk_seg dksX0_small_0 22 rfl rfl
theorem dX0_small_0 : decode cX0_small 0 = .ok (.aload_n 0, 1) := dk_42 (dk_at dksX0_small_0 0 rfl rfl)
theorem dX0_small_1 : decode cX0_small 1 = .ok (.aload_n 0, 1) := dk_42 (dk_at dksX0_small_0 1 rfl rfl)
theorem dX0_small_2 : decode cX0_small 2 = .ok (.iload_n 1, 1) := dk_27 (dk_at dksX0_small_0 2 rfl rfl)
theorem dX0_small_3 : decode cX0_small 3 = .ok (.invokevirtual 282, 3) := dk_182 1 26 (dk_at dksX0_small_0 3 rfl rfl)
theorem dX0_small_6 : decode cX0_small 6 = .ok (.iconst 1, 1) := dk_4 (dk_at dksX0_small_0 6 rfl rfl)
theorem dX0_small_7 : decode cX0_small 7 = .ok (.invokevirtual 126, 3) := dk_182 0 126 (dk_at dksX0_small_0 7 rfl rfl)
theorem dX0_small_10 : decode cX0_small 10 = .ok (.aload_n 0, 1) := dk_42 (dk_at dksX0_small_0 10 rfl rfl)
theorem dX0_small_11 : decode cX0_small 11 = .ok (.aload_n 0, 1) := dk_42 (dk_at dksX0_small_0 11 rfl rfl)
theorem dX0_small_12 : decode cX0_small 12 = .ok (.iload_n 1, 1) := dk_27 (dk_at dksX0_small_0 12 rfl rfl)
theorem dX0_small_13 : decode cX0_small 13 = .ok (.invokevirtual 285, 3) := dk_182 1 29 (dk_at dksX0_small_0 13 rfl rfl)
theorem dX0_small_16 : decode cX0_small 16 = .ok (.iconst 3, 1) := dk_6 (dk_at dksX0_small_0 16 rfl rfl)
theorem dX0_small_17 : decode cX0_small 17 = .ok (.invokevirtual 126, 3) := dk_182 0 126 (dk_at dksX0_small_0 17 rfl rfl)
theorem dX0_small_20 : decode cX0_small 20 = .ok (.aload_n 0, 1) := dk_42 (dk_at dksX0_small_0 20 rfl rfl)
theorem dX0_small_21 : decode cX0_small 21 = .ok (.iload_n 1, 1) := dk_27 (dk_at dksX0_small_0 21 rfl rfl)
theorem dX0_small_22 : decode cX0_small 22 = .ok (.invokevirtual 349, 3) := dk_182 1 93 (dk_at dksX0_small_1 0 rfl rfl)
theorem dX0_small_25 : decode cX0_small 25 = .ok (.ireturn, 1) := dk_172 (dk_at dksX0_small_1 3 rfl rfl)
theorem dX0_small_26 : decode cX0_small 26 = .ok (.astore_n 2, 1) := dk_77 (dk_at dksX0_small_1 4 rfl rfl)
theorem dX0_small_27 : decode cX0_small 27 = .ok (.aload_n 0, 1) := dk_42 (dk_at dksX0_small_1 5 rfl rfl)
theorem dX0_small_28 : decode cX0_small 28 = .ok (.aload_n 2, 1) := dk_44 (dk_at dksX0_small_1 6 rfl rfl)
theorem dX0_small_29 : decode cX0_small 29 = .ok (.invokevirtual 136, 3) := dk_182 0 136 (dk_at dksX0_small_1 7 rfl rfl)
theorem dX0_small_32 : decode cX0_small 32 = .ok (.ireturn, 1) := dk_172 (dk_at dksX0_small_1 10 rfl rfl)
abbrev cX0_smallOf : ByteArray := prog_1_method_51_code
def yX0_smallOf : MethodName := ⟨RX0, "smallOf", "(I)I"⟩
def dkwX0_smallOf_2 : List UInt8 := [132, 2, 1, 167, 255, 208, 2, 172]
abbrev dktX0_smallOf_2 : List UInt8 := dkwX0_smallOf_2 ++ []
def dkwX0_smallOf_1 : List UInt8 := [184, 1, 88, 28, 160, 0, 13, 42, 29, 182, 1, 29, 153, 0, 5, 29, 172, 132, 3, 1, 167, 255, 222]
abbrev dktX0_smallOf_1 : List UInt8 := dkwX0_smallOf_1 ++ dktX0_smallOf_2
def dkwX0_smallOf_0 : List UInt8 := [3, 61, 28, 16, 8, 163, 0, 48, 3, 62, 29, 27, 163, 0, 35, 29, 27, 2, 130, 126, 154, 0, 21, 29]
abbrev dktX0_smallOf_0 : List UInt8 := dkwX0_smallOf_0 ++ dktX0_smallOf_1
theorem dksX0_smallOf_0 : cX0_smallOf.data.toList.drop 0 = dktX0_smallOf_0 := by decide +kernel
theorem dksX0_smallOf_1 : cX0_smallOf.data.toList.drop 24 = dktX0_smallOf_1 := dk_seg dksX0_smallOf_0 24 rfl rfl
theorem dksX0_smallOf_2 : cX0_smallOf.data.toList.drop 47 = dktX0_smallOf_2 := dk_seg dksX0_smallOf_1 23 rfl rfl
theorem dX0_smallOf_0 : decode cX0_smallOf 0 = .ok (.iconst 0, 1) := dk_3 (dk_at dksX0_smallOf_0 0 rfl rfl)
theorem dX0_smallOf_1 : decode cX0_smallOf 1 = .ok (.istore_n 2, 1) := dk_61 (dk_at dksX0_smallOf_0 1 rfl rfl)
theorem dX0_smallOf_2 : decode cX0_smallOf 2 = .ok (.iload_n 2, 1) := dk_28 (dk_at dksX0_smallOf_0 2 rfl rfl)
theorem dX0_smallOf_3 : decode cX0_smallOf 3 = .ok (.bipush 8, 2) := dk_16 8 (dk_at dksX0_smallOf_0 3 rfl rfl)
theorem dX0_smallOf_5 : decode cX0_smallOf 5 = .ok (.if_icmp .gt 48, 3) := dk_163 0 48 (dk_at dksX0_smallOf_0 5 rfl rfl)
theorem dX0_smallOf_8 : decode cX0_smallOf 8 = .ok (.iconst 0, 1) := dk_3 (dk_at dksX0_smallOf_0 8 rfl rfl)
theorem dX0_smallOf_9 : decode cX0_smallOf 9 = .ok (.istore_n 3, 1) := dk_62 (dk_at dksX0_smallOf_0 9 rfl rfl)
theorem dX0_smallOf_10 : decode cX0_smallOf 10 = .ok (.iload_n 3, 1) := dk_29 (dk_at dksX0_smallOf_0 10 rfl rfl)
theorem dX0_smallOf_11 : decode cX0_smallOf 11 = .ok (.iload_n 1, 1) := dk_27 (dk_at dksX0_smallOf_0 11 rfl rfl)
theorem dX0_smallOf_12 : decode cX0_smallOf 12 = .ok (.if_icmp .gt 35, 3) := dk_163 0 35 (dk_at dksX0_smallOf_0 12 rfl rfl)
theorem dX0_smallOf_15 : decode cX0_smallOf 15 = .ok (.iload_n 3, 1) := dk_29 (dk_at dksX0_smallOf_0 15 rfl rfl)
theorem dX0_smallOf_16 : decode cX0_smallOf 16 = .ok (.iload_n 1, 1) := dk_27 (dk_at dksX0_smallOf_0 16 rfl rfl)
theorem dX0_smallOf_17 : decode cX0_smallOf 17 = .ok (.iconst (-1), 1) := dk_2 (dk_at dksX0_smallOf_0 17 rfl rfl)
theorem dX0_smallOf_18 : decode cX0_smallOf 18 = .ok (.ixor, 1) := dk_130 (dk_at dksX0_smallOf_0 18 rfl rfl)
theorem dX0_smallOf_19 : decode cX0_smallOf 19 = .ok (.iand, 1) := dk_126 (dk_at dksX0_smallOf_0 19 rfl rfl)
theorem dX0_smallOf_20 : decode cX0_smallOf 20 = .ok (.ifCond .ne 21, 3) := dk_154 0 21 (dk_at dksX0_smallOf_0 20 rfl rfl)
theorem dX0_smallOf_23 : decode cX0_smallOf 23 = .ok (.iload_n 3, 1) := dk_29 (dk_at dksX0_smallOf_0 23 rfl rfl)
theorem dX0_smallOf_24 : decode cX0_smallOf 24 = .ok (.invokestatic 344, 3) := dk_184 1 88 (dk_at dksX0_smallOf_1 0 rfl rfl)
theorem dX0_smallOf_27 : decode cX0_smallOf 27 = .ok (.iload_n 2, 1) := dk_28 (dk_at dksX0_smallOf_1 3 rfl rfl)
theorem dX0_smallOf_28 : decode cX0_smallOf 28 = .ok (.if_icmp .ne 13, 3) := dk_160 0 13 (dk_at dksX0_smallOf_1 4 rfl rfl)
theorem dX0_smallOf_31 : decode cX0_smallOf 31 = .ok (.aload_n 0, 1) := dk_42 (dk_at dksX0_smallOf_1 7 rfl rfl)
theorem dX0_smallOf_32 : decode cX0_smallOf 32 = .ok (.iload_n 3, 1) := dk_29 (dk_at dksX0_smallOf_1 8 rfl rfl)
theorem dX0_smallOf_33 : decode cX0_smallOf 33 = .ok (.invokevirtual 285, 3) := dk_182 1 29 (dk_at dksX0_smallOf_1 9 rfl rfl)
theorem dX0_smallOf_36 : decode cX0_smallOf 36 = .ok (.ifCond .eq 5, 3) := dk_153 0 5 (dk_at dksX0_smallOf_1 12 rfl rfl)
theorem dX0_smallOf_39 : decode cX0_smallOf 39 = .ok (.iload_n 3, 1) := dk_29 (dk_at dksX0_smallOf_1 15 rfl rfl)
theorem dX0_smallOf_40 : decode cX0_smallOf 40 = .ok (.ireturn, 1) := dk_172 (dk_at dksX0_smallOf_1 16 rfl rfl)
theorem dX0_smallOf_41 : decode cX0_smallOf 41 = .ok (.iinc 3 1, 3) := dk_132 3 1 (dk_at dksX0_smallOf_1 17 rfl rfl)
theorem dX0_smallOf_44 : decode cX0_smallOf 44 = .ok (.goto (-34), 3) := dk_167 255 222 (dk_at dksX0_smallOf_1 20 rfl rfl)
theorem dX0_smallOf_47 : decode cX0_smallOf 47 = .ok (.iinc 2 1, 3) := dk_132 2 1 (dk_at dksX0_smallOf_2 0 rfl rfl)
theorem dX0_smallOf_50 : decode cX0_smallOf 50 = .ok (.goto (-48), 3) := dk_167 255 208 (dk_at dksX0_smallOf_2 3 rfl rfl)
theorem dX0_smallOf_53 : decode cX0_smallOf 53 = .ok (.iconst (-1), 1) := dk_2 (dk_at dksX0_smallOf_2 6 rfl rfl)
theorem dX0_smallOf_54 : decode cX0_smallOf 54 = .ok (.ireturn, 1) := dk_172 (dk_at dksX0_smallOf_2 7 rfl rfl)
abbrev cX0_few : ByteArray := prog_1_method_53_code
def yX0_few : MethodName := ⟨RX0, "few", "(I)I"⟩
def dkwX0_few_1 : List UInt8 := [172, 77, 42, 44, 182, 0, 136, 172]
abbrev dktX0_few_1 : List UInt8 := dkwX0_few_1 ++ []
def dkwX0_few_0 : List UInt8 := [42, 42, 27, 182, 1, 26, 4, 182, 0, 126, 42, 42, 27, 182, 1, 29, 6, 182, 0, 126, 42, 182, 1, 96]
abbrev dktX0_few_0 : List UInt8 := dkwX0_few_0 ++ dktX0_few_1
theorem dksX0_few_0 : cX0_few.data.toList.drop 0 = dktX0_few_0 := by decide +kernel
theorem dksX0_few_1 : cX0_few.data.toList.drop 24 = dktX0_few_1 := dk_seg dksX0_few_0 24 rfl rfl
theorem dX0_few_0 : decode cX0_few 0 = .ok (.aload_n 0, 1) := dk_42 (dk_at dksX0_few_0 0 rfl rfl)
theorem dX0_few_1 : decode cX0_few 1 = .ok (.aload_n 0, 1) := dk_42 (dk_at dksX0_few_0 1 rfl rfl)
theorem dX0_few_2 : decode cX0_few 2 = .ok (.iload_n 1, 1) := dk_27 (dk_at dksX0_few_0 2 rfl rfl)
theorem dX0_few_3 : decode cX0_few 3 = .ok (.invokevirtual 282, 3) := dk_182 1 26 (dk_at dksX0_few_0 3 rfl rfl)
theorem dX0_few_6 : decode cX0_few 6 = .ok (.iconst 1, 1) := dk_4 (dk_at dksX0_few_0 6 rfl rfl)
theorem dX0_few_7 : decode cX0_few 7 = .ok (.invokevirtual 126, 3) := dk_182 0 126 (dk_at dksX0_few_0 7 rfl rfl)
theorem dX0_few_10 : decode cX0_few 10 = .ok (.aload_n 0, 1) := dk_42 (dk_at dksX0_few_0 10 rfl rfl)
theorem dX0_few_11 : decode cX0_few 11 = .ok (.aload_n 0, 1) := dk_42 (dk_at dksX0_few_0 11 rfl rfl)
theorem dX0_few_12 : decode cX0_few 12 = .ok (.iload_n 1, 1) := dk_27 (dk_at dksX0_few_0 12 rfl rfl)
theorem dX0_few_13 : decode cX0_few 13 = .ok (.invokevirtual 285, 3) := dk_182 1 29 (dk_at dksX0_few_0 13 rfl rfl)
theorem dX0_few_16 : decode cX0_few 16 = .ok (.iconst 3, 1) := dk_6 (dk_at dksX0_few_0 16 rfl rfl)
theorem dX0_few_17 : decode cX0_few 17 = .ok (.invokevirtual 126, 3) := dk_182 0 126 (dk_at dksX0_few_0 17 rfl rfl)
theorem dX0_few_20 : decode cX0_few 20 = .ok (.aload_n 0, 1) := dk_42 (dk_at dksX0_few_0 20 rfl rfl)
theorem dX0_few_21 : decode cX0_few 21 = .ok (.invokevirtual 352, 3) := dk_182 1 96 (dk_at dksX0_few_0 21 rfl rfl)
theorem dX0_few_24 : decode cX0_few 24 = .ok (.ireturn, 1) := dk_172 (dk_at dksX0_few_1 0 rfl rfl)
theorem dX0_few_25 : decode cX0_few 25 = .ok (.astore_n 2, 1) := dk_77 (dk_at dksX0_few_1 1 rfl rfl)
theorem dX0_few_26 : decode cX0_few 26 = .ok (.aload_n 0, 1) := dk_42 (dk_at dksX0_few_1 2 rfl rfl)
theorem dX0_few_27 : decode cX0_few 27 = .ok (.aload_n 2, 1) := dk_44 (dk_at dksX0_few_1 3 rfl rfl)
theorem dX0_few_28 : decode cX0_few 28 = .ok (.invokevirtual 136, 3) := dk_182 0 136 (dk_at dksX0_few_1 4 rfl rfl)
theorem dX0_few_31 : decode cX0_few 31 = .ok (.ireturn, 1) := dk_172 (dk_at dksX0_few_1 7 rfl rfl)
abbrev cX0_fewOf : ByteArray := prog_1_method_54_code
def yX0_fewOf : MethodName := ⟨RX0, "fewOf", "()I"⟩
def dkwX0_fewOf_2 : List UInt8 := [28, 172, 132, 2, 1, 167, 255, 215, 132, 1, 1, 167, 255, 201, 2, 172]
abbrev dktX0_fewOf_2 : List UInt8 := dkwX0_fewOf_2 ++ []
def dkwX0_fewOf_1 : List UInt8 := [159, 0, 6, 167, 0, 23, 42, 180, 0, 78, 28, 182, 1, 21, 42, 180, 0, 78, 182, 1, 24, 154, 0, 5]
abbrev dktX0_fewOf_1 : List UInt8 := dkwX0_fewOf_1 ++ dktX0_fewOf_2
def dkwX0_fewOf_0 : List UInt8 := [4, 60, 27, 16, 12, 163, 0, 55, 4, 61, 28, 17, 15, 255, 163, 0, 40, 28, 184, 1, 88, 27]
abbrev dktX0_fewOf_0 : List UInt8 := dkwX0_fewOf_0 ++ dktX0_fewOf_1
theorem dksX0_fewOf_0 : cX0_fewOf.data.toList.drop 0 = dktX0_fewOf_0 := by decide +kernel
theorem dksX0_fewOf_1 : cX0_fewOf.data.toList.drop 22 = dktX0_fewOf_1 := dk_seg dksX0_fewOf_0 22 rfl rfl
theorem dksX0_fewOf_2 : cX0_fewOf.data.toList.drop 46 = dktX0_fewOf_2 := dk_seg dksX0_fewOf_1 24 rfl rfl
theorem dX0_fewOf_0 : decode cX0_fewOf 0 = .ok (.iconst 1, 1) := dk_4 (dk_at dksX0_fewOf_0 0 rfl rfl)
theorem dX0_fewOf_1 : decode cX0_fewOf 1 = .ok (.istore_n 1, 1) := dk_60 (dk_at dksX0_fewOf_0 1 rfl rfl)
theorem dX0_fewOf_2 : decode cX0_fewOf 2 = .ok (.iload_n 1, 1) := dk_27 (dk_at dksX0_fewOf_0 2 rfl rfl)
theorem dX0_fewOf_3 : decode cX0_fewOf 3 = .ok (.bipush 12, 2) := dk_16 12 (dk_at dksX0_fewOf_0 3 rfl rfl)
theorem dX0_fewOf_5 : decode cX0_fewOf 5 = .ok (.if_icmp .gt 55, 3) := dk_163 0 55 (dk_at dksX0_fewOf_0 5 rfl rfl)
theorem dX0_fewOf_8 : decode cX0_fewOf 8 = .ok (.iconst 1, 1) := dk_4 (dk_at dksX0_fewOf_0 8 rfl rfl)
theorem dX0_fewOf_9 : decode cX0_fewOf 9 = .ok (.istore_n 2, 1) := dk_61 (dk_at dksX0_fewOf_0 9 rfl rfl)
theorem dX0_fewOf_10 : decode cX0_fewOf 10 = .ok (.iload_n 2, 1) := dk_28 (dk_at dksX0_fewOf_0 10 rfl rfl)
theorem dX0_fewOf_11 : decode cX0_fewOf 11 = .ok (.sipush 4095, 3) := dk_17 15 255 (dk_at dksX0_fewOf_0 11 rfl rfl)
theorem dX0_fewOf_14 : decode cX0_fewOf 14 = .ok (.if_icmp .gt 40, 3) := dk_163 0 40 (dk_at dksX0_fewOf_0 14 rfl rfl)
theorem dX0_fewOf_17 : decode cX0_fewOf 17 = .ok (.iload_n 2, 1) := dk_28 (dk_at dksX0_fewOf_0 17 rfl rfl)
theorem dX0_fewOf_18 : decode cX0_fewOf 18 = .ok (.invokestatic 344, 3) := dk_184 1 88 (dk_at dksX0_fewOf_0 18 rfl rfl)
theorem dX0_fewOf_21 : decode cX0_fewOf 21 = .ok (.iload_n 1, 1) := dk_27 (dk_at dksX0_fewOf_0 21 rfl rfl)
theorem dX0_fewOf_22 : decode cX0_fewOf 22 = .ok (.if_icmp .eq 6, 3) := dk_159 0 6 (dk_at dksX0_fewOf_1 0 rfl rfl)
theorem dX0_fewOf_25 : decode cX0_fewOf 25 = .ok (.goto 23, 3) := dk_167 0 23 (dk_at dksX0_fewOf_1 3 rfl rfl)
theorem dX0_fewOf_28 : decode cX0_fewOf 28 = .ok (.aload_n 0, 1) := dk_42 (dk_at dksX0_fewOf_1 6 rfl rfl)
theorem dX0_fewOf_29 : decode cX0_fewOf 29 = .ok (.getfield 78, 3) := dk_180 0 78 (dk_at dksX0_fewOf_1 7 rfl rfl)
theorem dX0_fewOf_32 : decode cX0_fewOf 32 = .ok (.iload_n 2, 1) := dk_28 (dk_at dksX0_fewOf_1 10 rfl rfl)
theorem dX0_fewOf_33 : decode cX0_fewOf 33 = .ok (.invokevirtual 277, 3) := dk_182 1 21 (dk_at dksX0_fewOf_1 11 rfl rfl)
theorem dX0_fewOf_36 : decode cX0_fewOf 36 = .ok (.aload_n 0, 1) := dk_42 (dk_at dksX0_fewOf_1 14 rfl rfl)
theorem dX0_fewOf_37 : decode cX0_fewOf 37 = .ok (.getfield 78, 3) := dk_180 0 78 (dk_at dksX0_fewOf_1 15 rfl rfl)
theorem dX0_fewOf_40 : decode cX0_fewOf 40 = .ok (.invokevirtual 280, 3) := dk_182 1 24 (dk_at dksX0_fewOf_1 18 rfl rfl)
theorem dX0_fewOf_43 : decode cX0_fewOf 43 = .ok (.ifCond .ne 5, 3) := dk_154 0 5 (dk_at dksX0_fewOf_1 21 rfl rfl)
theorem dX0_fewOf_46 : decode cX0_fewOf 46 = .ok (.iload_n 2, 1) := dk_28 (dk_at dksX0_fewOf_2 0 rfl rfl)
theorem dX0_fewOf_47 : decode cX0_fewOf 47 = .ok (.ireturn, 1) := dk_172 (dk_at dksX0_fewOf_2 1 rfl rfl)
theorem dX0_fewOf_48 : decode cX0_fewOf 48 = .ok (.iinc 2 1, 3) := dk_132 2 1 (dk_at dksX0_fewOf_2 2 rfl rfl)
theorem dX0_fewOf_51 : decode cX0_fewOf 51 = .ok (.goto (-41), 3) := dk_167 255 215 (dk_at dksX0_fewOf_2 5 rfl rfl)
theorem dX0_fewOf_54 : decode cX0_fewOf 54 = .ok (.iinc 1 1, 3) := dk_132 1 1 (dk_at dksX0_fewOf_2 8 rfl rfl)
theorem dX0_fewOf_57 : decode cX0_fewOf 57 = .ok (.goto (-55), 3) := dk_167 255 201 (dk_at dksX0_fewOf_2 11 rfl rfl)
theorem dX0_fewOf_60 : decode cX0_fewOf 60 = .ok (.iconst (-1), 1) := dk_2 (dk_at dksX0_fewOf_2 14 rfl rfl)
theorem dX0_fewOf_61 : decode cX0_fewOf 61 = .ok (.ireturn, 1) := dk_172 (dk_at dksX0_fewOf_2 15 rfl rfl)
abbrev cX0_give : ByteArray := prog_1_method_56_code
def yX0_give : MethodName := ⟨RX0, "give", "(II)I"⟩
def dkwX0_give_4 : List UInt8 := [29, 182, 1, 99, 172, 78, 42, 45, 182, 0, 136, 172]
abbrev dktX0_give_4 : List UInt8 := dkwX0_give_4 ++ []
def dkwX0_give_3 : List UInt8 := [154, 0, 6, 21, 4, 62, 132, 4, 1, 167, 255, 209, 28, 154, 0, 7, 29, 167, 0, 11, 42, 180, 0, 57]
abbrev dktX0_give_3 : List UInt8 := dkwX0_give_3 ++ dktX0_give_4
def dkwX0_give_2 : List UInt8 := [2, 159, 0, 13, 42, 21, 4, 29, 182, 1, 102, 153, 0, 17, 42, 27, 21, 4, 130, 182, 1, 29]
abbrev dktX0_give_2 : List UInt8 := dkwX0_give_2 ++ dktX0_give_3
def dkwX0_give_1 : List UInt8 := [182, 0, 126, 2, 62, 3, 54, 4, 21, 4, 27, 163, 0, 47, 21, 4, 27, 2, 130, 126, 154, 0, 32, 29]
abbrev dktX0_give_1 : List UInt8 := dkwX0_give_1 ++ dktX0_give_2
def dkwX0_give_0 : List UInt8 := [42, 42, 27, 182, 1, 26, 153, 0, 16, 28, 3, 4, 184, 0, 108, 153, 0, 7, 4, 167, 0, 4, 3, 4]
abbrev dktX0_give_0 : List UInt8 := dkwX0_give_0 ++ dktX0_give_1
theorem dksX0_give_0 : cX0_give.data.toList.drop 0 = dktX0_give_0 := by decide +kernel
theorem dksX0_give_1 : cX0_give.data.toList.drop 24 = dktX0_give_1 := dk_seg dksX0_give_0 24 rfl rfl
theorem dksX0_give_2 : cX0_give.data.toList.drop 48 = dktX0_give_2 := dk_seg dksX0_give_1 24 rfl rfl
theorem dksX0_give_3 : cX0_give.data.toList.drop 70 = dktX0_give_3 := dk_seg dksX0_give_2 22 rfl rfl
theorem dksX0_give_4 : cX0_give.data.toList.drop 94 = dktX0_give_4 := dk_seg dksX0_give_3 24 rfl rfl
theorem dX0_give_0 : decode cX0_give 0 = .ok (.aload_n 0, 1) := dk_42 (dk_at dksX0_give_0 0 rfl rfl)
theorem dX0_give_1 : decode cX0_give 1 = .ok (.aload_n 0, 1) := dk_42 (dk_at dksX0_give_0 1 rfl rfl)
theorem dX0_give_2 : decode cX0_give 2 = .ok (.iload_n 1, 1) := dk_27 (dk_at dksX0_give_0 2 rfl rfl)
theorem dX0_give_3 : decode cX0_give 3 = .ok (.invokevirtual 282, 3) := dk_182 1 26 (dk_at dksX0_give_0 3 rfl rfl)
theorem dX0_give_6 : decode cX0_give 6 = .ok (.ifCond .eq 16, 3) := dk_153 0 16 (dk_at dksX0_give_0 6 rfl rfl)
theorem dX0_give_9 : decode cX0_give 9 = .ok (.iload_n 2, 1) := dk_28 (dk_at dksX0_give_0 9 rfl rfl)
theorem dX0_give_10 : decode cX0_give 10 = .ok (.iconst 0, 1) := dk_3 (dk_at dksX0_give_0 10 rfl rfl)
theorem dX0_give_11 : decode cX0_give 11 = .ok (.iconst 1, 1) := dk_4 (dk_at dksX0_give_0 11 rfl rfl)
theorem dX0_give_12 : decode cX0_give 12 = .ok (.invokestatic 108, 3) := dk_184 0 108 (dk_at dksX0_give_0 12 rfl rfl)
theorem dX0_give_15 : decode cX0_give 15 = .ok (.ifCond .eq 7, 3) := dk_153 0 7 (dk_at dksX0_give_0 15 rfl rfl)
theorem dX0_give_18 : decode cX0_give 18 = .ok (.iconst 1, 1) := dk_4 (dk_at dksX0_give_0 18 rfl rfl)
theorem dX0_give_19 : decode cX0_give 19 = .ok (.goto 4, 3) := dk_167 0 4 (dk_at dksX0_give_0 19 rfl rfl)
theorem dX0_give_22 : decode cX0_give 22 = .ok (.iconst 0, 1) := dk_3 (dk_at dksX0_give_0 22 rfl rfl)
theorem dX0_give_23 : decode cX0_give 23 = .ok (.iconst 1, 1) := dk_4 (dk_at dksX0_give_0 23 rfl rfl)
theorem dX0_give_24 : decode cX0_give 24 = .ok (.invokevirtual 126, 3) := dk_182 0 126 (dk_at dksX0_give_1 0 rfl rfl)
theorem dX0_give_27 : decode cX0_give 27 = .ok (.iconst (-1), 1) := dk_2 (dk_at dksX0_give_1 3 rfl rfl)
theorem dX0_give_28 : decode cX0_give 28 = .ok (.istore_n 3, 1) := dk_62 (dk_at dksX0_give_1 4 rfl rfl)
theorem dX0_give_29 : decode cX0_give 29 = .ok (.iconst 0, 1) := dk_3 (dk_at dksX0_give_1 5 rfl rfl)
theorem dX0_give_30 : decode cX0_give 30 = .ok (.istore 4, 2) := dk_54 4 (dk_at dksX0_give_1 6 rfl rfl)
theorem dX0_give_32 : decode cX0_give 32 = .ok (.iload 4, 2) := dk_21 4 (dk_at dksX0_give_1 8 rfl rfl)
theorem dX0_give_34 : decode cX0_give 34 = .ok (.iload_n 1, 1) := dk_27 (dk_at dksX0_give_1 10 rfl rfl)
theorem dX0_give_35 : decode cX0_give 35 = .ok (.if_icmp .gt 47, 3) := dk_163 0 47 (dk_at dksX0_give_1 11 rfl rfl)
theorem dX0_give_38 : decode cX0_give 38 = .ok (.iload 4, 2) := dk_21 4 (dk_at dksX0_give_1 14 rfl rfl)
theorem dX0_give_40 : decode cX0_give 40 = .ok (.iload_n 1, 1) := dk_27 (dk_at dksX0_give_1 16 rfl rfl)
theorem dX0_give_41 : decode cX0_give 41 = .ok (.iconst (-1), 1) := dk_2 (dk_at dksX0_give_1 17 rfl rfl)
theorem dX0_give_42 : decode cX0_give 42 = .ok (.ixor, 1) := dk_130 (dk_at dksX0_give_1 18 rfl rfl)
theorem dX0_give_43 : decode cX0_give 43 = .ok (.iand, 1) := dk_126 (dk_at dksX0_give_1 19 rfl rfl)
theorem dX0_give_44 : decode cX0_give 44 = .ok (.ifCond .ne 32, 3) := dk_154 0 32 (dk_at dksX0_give_1 20 rfl rfl)
theorem dX0_give_47 : decode cX0_give 47 = .ok (.iload_n 3, 1) := dk_29 (dk_at dksX0_give_1 23 rfl rfl)
theorem dX0_give_48 : decode cX0_give 48 = .ok (.iconst (-1), 1) := dk_2 (dk_at dksX0_give_2 0 rfl rfl)
theorem dX0_give_49 : decode cX0_give 49 = .ok (.if_icmp .eq 13, 3) := dk_159 0 13 (dk_at dksX0_give_2 1 rfl rfl)
theorem dX0_give_52 : decode cX0_give 52 = .ok (.aload_n 0, 1) := dk_42 (dk_at dksX0_give_2 4 rfl rfl)
theorem dX0_give_53 : decode cX0_give 53 = .ok (.iload 4, 2) := dk_21 4 (dk_at dksX0_give_2 5 rfl rfl)
theorem dX0_give_55 : decode cX0_give 55 = .ok (.iload_n 3, 1) := dk_29 (dk_at dksX0_give_2 7 rfl rfl)
theorem dX0_give_56 : decode cX0_give 56 = .ok (.invokevirtual 358, 3) := dk_182 1 102 (dk_at dksX0_give_2 8 rfl rfl)
theorem dX0_give_59 : decode cX0_give 59 = .ok (.ifCond .eq 17, 3) := dk_153 0 17 (dk_at dksX0_give_2 11 rfl rfl)
theorem dX0_give_62 : decode cX0_give 62 = .ok (.aload_n 0, 1) := dk_42 (dk_at dksX0_give_2 14 rfl rfl)
theorem dX0_give_63 : decode cX0_give 63 = .ok (.iload_n 1, 1) := dk_27 (dk_at dksX0_give_2 15 rfl rfl)
theorem dX0_give_64 : decode cX0_give 64 = .ok (.iload 4, 2) := dk_21 4 (dk_at dksX0_give_2 16 rfl rfl)
theorem dX0_give_66 : decode cX0_give 66 = .ok (.ixor, 1) := dk_130 (dk_at dksX0_give_2 18 rfl rfl)
theorem dX0_give_67 : decode cX0_give 67 = .ok (.invokevirtual 285, 3) := dk_182 1 29 (dk_at dksX0_give_2 19 rfl rfl)
theorem dX0_give_70 : decode cX0_give 70 = .ok (.ifCond .ne 6, 3) := dk_154 0 6 (dk_at dksX0_give_3 0 rfl rfl)
theorem dX0_give_73 : decode cX0_give 73 = .ok (.iload 4, 2) := dk_21 4 (dk_at dksX0_give_3 3 rfl rfl)
theorem dX0_give_75 : decode cX0_give 75 = .ok (.istore_n 3, 1) := dk_62 (dk_at dksX0_give_3 5 rfl rfl)
theorem dX0_give_76 : decode cX0_give 76 = .ok (.iinc 4 1, 3) := dk_132 4 1 (dk_at dksX0_give_3 6 rfl rfl)
theorem dX0_give_79 : decode cX0_give 79 = .ok (.goto (-47), 3) := dk_167 255 209 (dk_at dksX0_give_3 9 rfl rfl)
theorem dX0_give_82 : decode cX0_give 82 = .ok (.iload_n 2, 1) := dk_28 (dk_at dksX0_give_3 12 rfl rfl)
theorem dX0_give_83 : decode cX0_give 83 = .ok (.ifCond .ne 7, 3) := dk_154 0 7 (dk_at dksX0_give_3 13 rfl rfl)
theorem dX0_give_86 : decode cX0_give 86 = .ok (.iload_n 3, 1) := dk_29 (dk_at dksX0_give_3 16 rfl rfl)
theorem dX0_give_87 : decode cX0_give 87 = .ok (.goto 11, 3) := dk_167 0 11 (dk_at dksX0_give_3 17 rfl rfl)
theorem dX0_give_90 : decode cX0_give 90 = .ok (.aload_n 0, 1) := dk_42 (dk_at dksX0_give_3 20 rfl rfl)
theorem dX0_give_91 : decode cX0_give 91 = .ok (.getfield 57, 3) := dk_180 0 57 (dk_at dksX0_give_3 21 rfl rfl)
theorem dX0_give_94 : decode cX0_give 94 = .ok (.iload_n 3, 1) := dk_29 (dk_at dksX0_give_4 0 rfl rfl)
theorem dX0_give_95 : decode cX0_give 95 = .ok (.invokevirtual 355, 3) := dk_182 1 99 (dk_at dksX0_give_4 1 rfl rfl)
theorem dX0_give_98 : decode cX0_give 98 = .ok (.ireturn, 1) := dk_172 (dk_at dksX0_give_4 4 rfl rfl)
theorem dX0_give_99 : decode cX0_give 99 = .ok (.astore_n 3, 1) := dk_78 (dk_at dksX0_give_4 5 rfl rfl)
theorem dX0_give_100 : decode cX0_give 100 = .ok (.aload_n 0, 1) := dk_42 (dk_at dksX0_give_4 6 rfl rfl)
theorem dX0_give_101 : decode cX0_give 101 = .ok (.aload_n 3, 1) := dk_45 (dk_at dksX0_give_4 7 rfl rfl)
theorem dX0_give_102 : decode cX0_give 102 = .ok (.invokevirtual 136, 3) := dk_182 0 136 (dk_at dksX0_give_4 8 rfl rfl)
theorem dX0_give_105 : decode cX0_give 105 = .ok (.ireturn, 1) := dk_172 (dk_at dksX0_give_4 11 rfl rfl)
abbrev cX0_isLess : ByteArray := prog_1_method_55_code
def yX0_isLess : MethodName := ⟨RX0, "isLess", "(II)Z"⟩
def dkwX0_isLess_2 : List UInt8 := [3, 172]
abbrev dktX0_isLess_2 : List UInt8 := dkwX0_isLess_2 ++ []
def dkwX0_isLess_1 : List UInt8 := [156, 0, 7, 4, 167, 0, 4, 3, 172, 27, 184, 1, 88, 28, 184, 1, 88, 162, 0, 7, 4, 167, 0, 4]
abbrev dktX0_isLess_1 : List UInt8 := dkwX0_isLess_1 ++ dktX0_isLess_2
def dkwX0_isLess_0 : List UInt8 := [42, 180, 0, 57, 27, 182, 1, 99, 42, 180, 0, 57, 28, 182, 1, 99, 100, 62, 29, 153, 0, 13, 29]
abbrev dktX0_isLess_0 : List UInt8 := dkwX0_isLess_0 ++ dktX0_isLess_1
theorem dksX0_isLess_0 : cX0_isLess.data.toList.drop 0 = dktX0_isLess_0 := by decide +kernel
theorem dksX0_isLess_1 : cX0_isLess.data.toList.drop 23 = dktX0_isLess_1 := dk_seg dksX0_isLess_0 23 rfl rfl
theorem dksX0_isLess_2 : cX0_isLess.data.toList.drop 47 = dktX0_isLess_2 := dk_seg dksX0_isLess_1 24 rfl rfl
theorem dX0_isLess_0 : decode cX0_isLess 0 = .ok (.aload_n 0, 1) := dk_42 (dk_at dksX0_isLess_0 0 rfl rfl)
theorem dX0_isLess_1 : decode cX0_isLess 1 = .ok (.getfield 57, 3) := dk_180 0 57 (dk_at dksX0_isLess_0 1 rfl rfl)
theorem dX0_isLess_4 : decode cX0_isLess 4 = .ok (.iload_n 1, 1) := dk_27 (dk_at dksX0_isLess_0 4 rfl rfl)
theorem dX0_isLess_5 : decode cX0_isLess 5 = .ok (.invokevirtual 355, 3) := dk_182 1 99 (dk_at dksX0_isLess_0 5 rfl rfl)
theorem dX0_isLess_8 : decode cX0_isLess 8 = .ok (.aload_n 0, 1) := dk_42 (dk_at dksX0_isLess_0 8 rfl rfl)
theorem dX0_isLess_9 : decode cX0_isLess 9 = .ok (.getfield 57, 3) := dk_180 0 57 (dk_at dksX0_isLess_0 9 rfl rfl)
theorem dX0_isLess_12 : decode cX0_isLess 12 = .ok (.iload_n 2, 1) := dk_28 (dk_at dksX0_isLess_0 12 rfl rfl)
theorem dX0_isLess_13 : decode cX0_isLess 13 = .ok (.invokevirtual 355, 3) := dk_182 1 99 (dk_at dksX0_isLess_0 13 rfl rfl)
theorem dX0_isLess_16 : decode cX0_isLess 16 = .ok (.isub, 1) := dk_100 (dk_at dksX0_isLess_0 16 rfl rfl)
theorem dX0_isLess_17 : decode cX0_isLess 17 = .ok (.istore_n 3, 1) := dk_62 (dk_at dksX0_isLess_0 17 rfl rfl)
theorem dX0_isLess_18 : decode cX0_isLess 18 = .ok (.iload_n 3, 1) := dk_29 (dk_at dksX0_isLess_0 18 rfl rfl)
theorem dX0_isLess_19 : decode cX0_isLess 19 = .ok (.ifCond .eq 13, 3) := dk_153 0 13 (dk_at dksX0_isLess_0 19 rfl rfl)
theorem dX0_isLess_22 : decode cX0_isLess 22 = .ok (.iload_n 3, 1) := dk_29 (dk_at dksX0_isLess_0 22 rfl rfl)
theorem dX0_isLess_23 : decode cX0_isLess 23 = .ok (.ifCond .ge 7, 3) := dk_156 0 7 (dk_at dksX0_isLess_1 0 rfl rfl)
theorem dX0_isLess_26 : decode cX0_isLess 26 = .ok (.iconst 1, 1) := dk_4 (dk_at dksX0_isLess_1 3 rfl rfl)
theorem dX0_isLess_27 : decode cX0_isLess 27 = .ok (.goto 4, 3) := dk_167 0 4 (dk_at dksX0_isLess_1 4 rfl rfl)
theorem dX0_isLess_30 : decode cX0_isLess 30 = .ok (.iconst 0, 1) := dk_3 (dk_at dksX0_isLess_1 7 rfl rfl)
theorem dX0_isLess_31 : decode cX0_isLess 31 = .ok (.ireturn, 1) := dk_172 (dk_at dksX0_isLess_1 8 rfl rfl)
theorem dX0_isLess_32 : decode cX0_isLess 32 = .ok (.iload_n 1, 1) := dk_27 (dk_at dksX0_isLess_1 9 rfl rfl)
theorem dX0_isLess_33 : decode cX0_isLess 33 = .ok (.invokestatic 344, 3) := dk_184 1 88 (dk_at dksX0_isLess_1 10 rfl rfl)
theorem dX0_isLess_36 : decode cX0_isLess 36 = .ok (.iload_n 2, 1) := dk_28 (dk_at dksX0_isLess_1 13 rfl rfl)
theorem dX0_isLess_37 : decode cX0_isLess 37 = .ok (.invokestatic 344, 3) := dk_184 1 88 (dk_at dksX0_isLess_1 14 rfl rfl)
theorem dX0_isLess_40 : decode cX0_isLess 40 = .ok (.if_icmp .ge 7, 3) := dk_162 0 7 (dk_at dksX0_isLess_1 17 rfl rfl)
theorem dX0_isLess_43 : decode cX0_isLess 43 = .ok (.iconst 1, 1) := dk_4 (dk_at dksX0_isLess_1 20 rfl rfl)
theorem dX0_isLess_44 : decode cX0_isLess 44 = .ok (.goto 4, 3) := dk_167 0 4 (dk_at dksX0_isLess_1 21 rfl rfl)
theorem dX0_isLess_47 : decode cX0_isLess 47 = .ok (.iconst 0, 1) := dk_3 (dk_at dksX0_isLess_2 0 rfl rfl)
theorem dX0_isLess_48 : decode cX0_isLess 48 = .ok (.ireturn, 1) := dk_172 (dk_at dksX0_isLess_2 1 rfl rfl)
abbrev cX0_follows : ByteArray := prog_1_method_59_code
def yX0_follows : MethodName := ⟨RX0, "follows", "(II)I"⟩
def dkwX0_follows_2 : List UInt8 := [182, 1, 109, 153, 0, 7, 4, 167, 0, 4, 3, 172, 78, 42, 45, 182, 0, 136, 172]
abbrev dktX0_follows_2 : List UInt8 := dkwX0_follows_2 ++ []
def dkwX0_follows_1 : List UInt8 := [182, 0, 126, 42, 27, 182, 1, 17, 42, 42, 180, 0, 57, 180, 0, 112, 28, 182, 0, 219, 192, 0, 45]
abbrev dktX0_follows_1 : List UInt8 := dkwX0_follows_1 ++ dktX0_follows_2
def dkwX0_follows_0 : List UInt8 := [42, 42, 27, 182, 1, 26, 153, 0, 15, 42, 28, 182, 0, 216, 153, 0, 7, 4, 167, 0, 4, 3, 4]
abbrev dktX0_follows_0 : List UInt8 := dkwX0_follows_0 ++ dktX0_follows_1
theorem dksX0_follows_0 : cX0_follows.data.toList.drop 0 = dktX0_follows_0 := by decide +kernel
theorem dksX0_follows_1 : cX0_follows.data.toList.drop 23 = dktX0_follows_1 := dk_seg dksX0_follows_0 23 rfl rfl
theorem dksX0_follows_2 : cX0_follows.data.toList.drop 46 = dktX0_follows_2 := dk_seg dksX0_follows_1 23 rfl rfl
theorem dX0_follows_0 : decode cX0_follows 0 = .ok (.aload_n 0, 1) := dk_42 (dk_at dksX0_follows_0 0 rfl rfl)
theorem dX0_follows_1 : decode cX0_follows 1 = .ok (.aload_n 0, 1) := dk_42 (dk_at dksX0_follows_0 1 rfl rfl)
theorem dX0_follows_2 : decode cX0_follows 2 = .ok (.iload_n 1, 1) := dk_27 (dk_at dksX0_follows_0 2 rfl rfl)
theorem dX0_follows_3 : decode cX0_follows 3 = .ok (.invokevirtual 282, 3) := dk_182 1 26 (dk_at dksX0_follows_0 3 rfl rfl)
theorem dX0_follows_6 : decode cX0_follows 6 = .ok (.ifCond .eq 15, 3) := dk_153 0 15 (dk_at dksX0_follows_0 6 rfl rfl)
theorem dX0_follows_9 : decode cX0_follows 9 = .ok (.aload_n 0, 1) := dk_42 (dk_at dksX0_follows_0 9 rfl rfl)
theorem dX0_follows_10 : decode cX0_follows 10 = .ok (.iload_n 2, 1) := dk_28 (dk_at dksX0_follows_0 10 rfl rfl)
theorem dX0_follows_11 : decode cX0_follows 11 = .ok (.invokevirtual 216, 3) := dk_182 0 216 (dk_at dksX0_follows_0 11 rfl rfl)
theorem dX0_follows_14 : decode cX0_follows 14 = .ok (.ifCond .eq 7, 3) := dk_153 0 7 (dk_at dksX0_follows_0 14 rfl rfl)
theorem dX0_follows_17 : decode cX0_follows 17 = .ok (.iconst 1, 1) := dk_4 (dk_at dksX0_follows_0 17 rfl rfl)
theorem dX0_follows_18 : decode cX0_follows 18 = .ok (.goto 4, 3) := dk_167 0 4 (dk_at dksX0_follows_0 18 rfl rfl)
theorem dX0_follows_21 : decode cX0_follows 21 = .ok (.iconst 0, 1) := dk_3 (dk_at dksX0_follows_0 21 rfl rfl)
theorem dX0_follows_22 : decode cX0_follows 22 = .ok (.iconst 1, 1) := dk_4 (dk_at dksX0_follows_0 22 rfl rfl)
theorem dX0_follows_23 : decode cX0_follows 23 = .ok (.invokevirtual 126, 3) := dk_182 0 126 (dk_at dksX0_follows_1 0 rfl rfl)
theorem dX0_follows_26 : decode cX0_follows 26 = .ok (.aload_n 0, 1) := dk_42 (dk_at dksX0_follows_1 3 rfl rfl)
theorem dX0_follows_27 : decode cX0_follows 27 = .ok (.iload_n 1, 1) := dk_27 (dk_at dksX0_follows_1 4 rfl rfl)
theorem dX0_follows_28 : decode cX0_follows 28 = .ok (.invokevirtual 273, 3) := dk_182 1 17 (dk_at dksX0_follows_1 5 rfl rfl)
theorem dX0_follows_31 : decode cX0_follows 31 = .ok (.aload_n 0, 1) := dk_42 (dk_at dksX0_follows_1 8 rfl rfl)
theorem dX0_follows_32 : decode cX0_follows 32 = .ok (.aload_n 0, 1) := dk_42 (dk_at dksX0_follows_1 9 rfl rfl)
theorem dX0_follows_33 : decode cX0_follows 33 = .ok (.getfield 57, 3) := dk_180 0 57 (dk_at dksX0_follows_1 10 rfl rfl)
theorem dX0_follows_36 : decode cX0_follows 36 = .ok (.getfield 112, 3) := dk_180 0 112 (dk_at dksX0_follows_1 13 rfl rfl)
theorem dX0_follows_39 : decode cX0_follows 39 = .ok (.iload_n 2, 1) := dk_28 (dk_at dksX0_follows_1 16 rfl rfl)
theorem dX0_follows_40 : decode cX0_follows 40 = .ok (.invokevirtual 219, 3) := dk_182 0 219 (dk_at dksX0_follows_1 17 rfl rfl)
theorem dX0_follows_43 : decode cX0_follows 43 = .ok (.checkcast 45, 3) := dk_192 0 45 (dk_at dksX0_follows_1 20 rfl rfl)
theorem dX0_follows_46 : decode cX0_follows 46 = .ok (.invokevirtual 365, 3) := dk_182 1 109 (dk_at dksX0_follows_2 0 rfl rfl)
theorem dX0_follows_49 : decode cX0_follows 49 = .ok (.ifCond .eq 7, 3) := dk_153 0 7 (dk_at dksX0_follows_2 3 rfl rfl)
theorem dX0_follows_52 : decode cX0_follows 52 = .ok (.iconst 1, 1) := dk_4 (dk_at dksX0_follows_2 6 rfl rfl)
theorem dX0_follows_53 : decode cX0_follows 53 = .ok (.goto 4, 3) := dk_167 0 4 (dk_at dksX0_follows_2 7 rfl rfl)
theorem dX0_follows_56 : decode cX0_follows 56 = .ok (.iconst 0, 1) := dk_3 (dk_at dksX0_follows_2 10 rfl rfl)
theorem dX0_follows_57 : decode cX0_follows 57 = .ok (.ireturn, 1) := dk_172 (dk_at dksX0_follows_2 11 rfl rfl)
theorem dX0_follows_58 : decode cX0_follows 58 = .ok (.astore_n 3, 1) := dk_78 (dk_at dksX0_follows_2 12 rfl rfl)
theorem dX0_follows_59 : decode cX0_follows 59 = .ok (.aload_n 0, 1) := dk_42 (dk_at dksX0_follows_2 13 rfl rfl)
theorem dX0_follows_60 : decode cX0_follows 60 = .ok (.aload_n 3, 1) := dk_45 (dk_at dksX0_follows_2 14 rfl rfl)
theorem dX0_follows_61 : decode cX0_follows 61 = .ok (.invokevirtual 136, 3) := dk_182 0 136 (dk_at dksX0_follows_2 15 rfl rfl)
theorem dX0_follows_64 : decode cX0_follows 64 = .ok (.ireturn, 1) := dk_172 (dk_at dksX0_follows_2 18 rfl rfl)
abbrev cX0_holds : ByteArray := prog_1_method_58_code
def yX0_holds : MethodName := ⟨RX0, "holds", "(LNineDemands$Demand;)Z"⟩
def dkwX0_holds_4 : List UInt8 := [3, 62, 132, 6, 1, 167, 255, 197, 132, 5, 1, 167, 255, 178, 132, 4, 1, 167, 255, 156, 29, 172]
abbrev dktX0_holds_4 : List UInt8 := dkwX0_holds_4 ++ []
def dkwX0_holds_3 : List UInt8 := [182, 0, 250, 154, 0, 17, 42, 44, 21, 4, 21, 5, 21, 6, 182, 1, 105, 154, 0, 7, 4, 167, 0, 4]
abbrev dktX0_holds_3 : List UInt8 := dkwX0_holds_3 ++ dktX0_holds_4
def dkwX0_holds_2 : List UInt8 := [153, 0, 7, 6, 167, 0, 4, 4, 163, 0, 46, 29, 153, 0, 42, 43, 21, 4, 21, 5, 21, 6]
abbrev dktX0_holds_2 : List UInt8 := dkwX0_holds_2 ++ dktX0_holds_3
def dkwX0_holds_1 : List UInt8 := [54, 5, 21, 5, 6, 163, 0, 78, 29, 153, 0, 74, 4, 54, 6, 21, 6, 44, 21, 4, 182, 0, 241]
abbrev dktX0_holds_1 : List UInt8 := dkwX0_holds_1 ++ dktX0_holds_2
def dkwX0_holds_0 : List UInt8 := [43, 180, 0, 228, 77, 4, 62, 3, 54, 4, 21, 4, 44, 180, 0, 232, 162, 0, 97, 29, 153, 0, 93, 4]
abbrev dktX0_holds_0 : List UInt8 := dkwX0_holds_0 ++ dktX0_holds_1
theorem dksX0_holds_0 : cX0_holds.data.toList.drop 0 = dktX0_holds_0 := by decide +kernel
theorem dksX0_holds_1 : cX0_holds.data.toList.drop 24 = dktX0_holds_1 := dk_seg dksX0_holds_0 24 rfl rfl
theorem dksX0_holds_2 : cX0_holds.data.toList.drop 47 = dktX0_holds_2 := dk_seg dksX0_holds_1 23 rfl rfl
theorem dksX0_holds_3 : cX0_holds.data.toList.drop 69 = dktX0_holds_3 := dk_seg dksX0_holds_2 22 rfl rfl
theorem dksX0_holds_4 : cX0_holds.data.toList.drop 93 = dktX0_holds_4 := dk_seg dksX0_holds_3 24 rfl rfl
theorem dX0_holds_0 : decode cX0_holds 0 = .ok (.aload_n 1, 1) := dk_43 (dk_at dksX0_holds_0 0 rfl rfl)
theorem dX0_holds_1 : decode cX0_holds 1 = .ok (.getfield 228, 3) := dk_180 0 228 (dk_at dksX0_holds_0 1 rfl rfl)
theorem dX0_holds_4 : decode cX0_holds 4 = .ok (.astore_n 2, 1) := dk_77 (dk_at dksX0_holds_0 4 rfl rfl)
theorem dX0_holds_5 : decode cX0_holds 5 = .ok (.iconst 1, 1) := dk_4 (dk_at dksX0_holds_0 5 rfl rfl)
theorem dX0_holds_6 : decode cX0_holds 6 = .ok (.istore_n 3, 1) := dk_62 (dk_at dksX0_holds_0 6 rfl rfl)
theorem dX0_holds_7 : decode cX0_holds 7 = .ok (.iconst 0, 1) := dk_3 (dk_at dksX0_holds_0 7 rfl rfl)
theorem dX0_holds_8 : decode cX0_holds 8 = .ok (.istore 4, 2) := dk_54 4 (dk_at dksX0_holds_0 8 rfl rfl)
theorem dX0_holds_10 : decode cX0_holds 10 = .ok (.iload 4, 2) := dk_21 4 (dk_at dksX0_holds_0 10 rfl rfl)
theorem dX0_holds_12 : decode cX0_holds 12 = .ok (.aload_n 2, 1) := dk_44 (dk_at dksX0_holds_0 12 rfl rfl)
theorem dX0_holds_13 : decode cX0_holds 13 = .ok (.getfield 232, 3) := dk_180 0 232 (dk_at dksX0_holds_0 13 rfl rfl)
theorem dX0_holds_16 : decode cX0_holds 16 = .ok (.if_icmp .ge 97, 3) := dk_162 0 97 (dk_at dksX0_holds_0 16 rfl rfl)
theorem dX0_holds_19 : decode cX0_holds 19 = .ok (.iload_n 3, 1) := dk_29 (dk_at dksX0_holds_0 19 rfl rfl)
theorem dX0_holds_20 : decode cX0_holds 20 = .ok (.ifCond .eq 93, 3) := dk_153 0 93 (dk_at dksX0_holds_0 20 rfl rfl)
theorem dX0_holds_23 : decode cX0_holds 23 = .ok (.iconst 1, 1) := dk_4 (dk_at dksX0_holds_0 23 rfl rfl)
theorem dX0_holds_24 : decode cX0_holds 24 = .ok (.istore 5, 2) := dk_54 5 (dk_at dksX0_holds_1 0 rfl rfl)
theorem dX0_holds_26 : decode cX0_holds 26 = .ok (.iload 5, 2) := dk_21 5 (dk_at dksX0_holds_1 2 rfl rfl)
theorem dX0_holds_28 : decode cX0_holds 28 = .ok (.iconst 3, 1) := dk_6 (dk_at dksX0_holds_1 4 rfl rfl)
theorem dX0_holds_29 : decode cX0_holds 29 = .ok (.if_icmp .gt 78, 3) := dk_163 0 78 (dk_at dksX0_holds_1 5 rfl rfl)
theorem dX0_holds_32 : decode cX0_holds 32 = .ok (.iload_n 3, 1) := dk_29 (dk_at dksX0_holds_1 8 rfl rfl)
theorem dX0_holds_33 : decode cX0_holds 33 = .ok (.ifCond .eq 74, 3) := dk_153 0 74 (dk_at dksX0_holds_1 9 rfl rfl)
theorem dX0_holds_36 : decode cX0_holds 36 = .ok (.iconst 1, 1) := dk_4 (dk_at dksX0_holds_1 12 rfl rfl)
theorem dX0_holds_37 : decode cX0_holds 37 = .ok (.istore 6, 2) := dk_54 6 (dk_at dksX0_holds_1 13 rfl rfl)
theorem dX0_holds_39 : decode cX0_holds 39 = .ok (.iload 6, 2) := dk_21 6 (dk_at dksX0_holds_1 15 rfl rfl)
theorem dX0_holds_41 : decode cX0_holds 41 = .ok (.aload_n 2, 1) := dk_44 (dk_at dksX0_holds_1 17 rfl rfl)
theorem dX0_holds_42 : decode cX0_holds 42 = .ok (.iload 4, 2) := dk_21 4 (dk_at dksX0_holds_1 18 rfl rfl)
theorem dX0_holds_44 : decode cX0_holds 44 = .ok (.invokevirtual 241, 3) := dk_182 0 241 (dk_at dksX0_holds_1 20 rfl rfl)
theorem dX0_holds_47 : decode cX0_holds 47 = .ok (.ifCond .eq 7, 3) := dk_153 0 7 (dk_at dksX0_holds_2 0 rfl rfl)
theorem dX0_holds_50 : decode cX0_holds 50 = .ok (.iconst 3, 1) := dk_6 (dk_at dksX0_holds_2 3 rfl rfl)
theorem dX0_holds_51 : decode cX0_holds 51 = .ok (.goto 4, 3) := dk_167 0 4 (dk_at dksX0_holds_2 4 rfl rfl)
theorem dX0_holds_54 : decode cX0_holds 54 = .ok (.iconst 1, 1) := dk_4 (dk_at dksX0_holds_2 7 rfl rfl)
theorem dX0_holds_55 : decode cX0_holds 55 = .ok (.if_icmp .gt 46, 3) := dk_163 0 46 (dk_at dksX0_holds_2 8 rfl rfl)
theorem dX0_holds_58 : decode cX0_holds 58 = .ok (.iload_n 3, 1) := dk_29 (dk_at dksX0_holds_2 11 rfl rfl)
theorem dX0_holds_59 : decode cX0_holds 59 = .ok (.ifCond .eq 42, 3) := dk_153 0 42 (dk_at dksX0_holds_2 12 rfl rfl)
theorem dX0_holds_62 : decode cX0_holds 62 = .ok (.aload_n 1, 1) := dk_43 (dk_at dksX0_holds_2 15 rfl rfl)
theorem dX0_holds_63 : decode cX0_holds 63 = .ok (.iload 4, 2) := dk_21 4 (dk_at dksX0_holds_2 16 rfl rfl)
theorem dX0_holds_65 : decode cX0_holds 65 = .ok (.iload 5, 2) := dk_21 5 (dk_at dksX0_holds_2 18 rfl rfl)
theorem dX0_holds_67 : decode cX0_holds 67 = .ok (.iload 6, 2) := dk_21 6 (dk_at dksX0_holds_2 20 rfl rfl)
theorem dX0_holds_69 : decode cX0_holds 69 = .ok (.invokevirtual 250, 3) := dk_182 0 250 (dk_at dksX0_holds_3 0 rfl rfl)
theorem dX0_holds_72 : decode cX0_holds 72 = .ok (.ifCond .ne 17, 3) := dk_154 0 17 (dk_at dksX0_holds_3 3 rfl rfl)
theorem dX0_holds_75 : decode cX0_holds 75 = .ok (.aload_n 0, 1) := dk_42 (dk_at dksX0_holds_3 6 rfl rfl)
theorem dX0_holds_76 : decode cX0_holds 76 = .ok (.aload_n 2, 1) := dk_44 (dk_at dksX0_holds_3 7 rfl rfl)
theorem dX0_holds_77 : decode cX0_holds 77 = .ok (.iload 4, 2) := dk_21 4 (dk_at dksX0_holds_3 8 rfl rfl)
theorem dX0_holds_79 : decode cX0_holds 79 = .ok (.iload 5, 2) := dk_21 5 (dk_at dksX0_holds_3 10 rfl rfl)
theorem dX0_holds_81 : decode cX0_holds 81 = .ok (.iload 6, 2) := dk_21 6 (dk_at dksX0_holds_3 12 rfl rfl)
theorem dX0_holds_83 : decode cX0_holds 83 = .ok (.invokevirtual 361, 3) := dk_182 1 105 (dk_at dksX0_holds_3 14 rfl rfl)
theorem dX0_holds_86 : decode cX0_holds 86 = .ok (.ifCond .ne 7, 3) := dk_154 0 7 (dk_at dksX0_holds_3 17 rfl rfl)
theorem dX0_holds_89 : decode cX0_holds 89 = .ok (.iconst 1, 1) := dk_4 (dk_at dksX0_holds_3 20 rfl rfl)
theorem dX0_holds_90 : decode cX0_holds 90 = .ok (.goto 4, 3) := dk_167 0 4 (dk_at dksX0_holds_3 21 rfl rfl)
theorem dX0_holds_93 : decode cX0_holds 93 = .ok (.iconst 0, 1) := dk_3 (dk_at dksX0_holds_4 0 rfl rfl)
theorem dX0_holds_94 : decode cX0_holds 94 = .ok (.istore_n 3, 1) := dk_62 (dk_at dksX0_holds_4 1 rfl rfl)
theorem dX0_holds_95 : decode cX0_holds 95 = .ok (.iinc 6 1, 3) := dk_132 6 1 (dk_at dksX0_holds_4 2 rfl rfl)
theorem dX0_holds_98 : decode cX0_holds 98 = .ok (.goto (-59), 3) := dk_167 255 197 (dk_at dksX0_holds_4 5 rfl rfl)
theorem dX0_holds_101 : decode cX0_holds 101 = .ok (.iinc 5 1, 3) := dk_132 5 1 (dk_at dksX0_holds_4 8 rfl rfl)
theorem dX0_holds_104 : decode cX0_holds 104 = .ok (.goto (-78), 3) := dk_167 255 178 (dk_at dksX0_holds_4 11 rfl rfl)
theorem dX0_holds_107 : decode cX0_holds 107 = .ok (.iinc 4 1, 3) := dk_132 4 1 (dk_at dksX0_holds_4 14 rfl rfl)
theorem dX0_holds_110 : decode cX0_holds 110 = .ok (.goto (-100), 3) := dk_167 255 156 (dk_at dksX0_holds_4 17 rfl rfl)
theorem dX0_holds_113 : decode cX0_holds 113 = .ok (.iload_n 3, 1) := dk_29 (dk_at dksX0_holds_4 20 rfl rfl)
theorem dX0_holds_114 : decode cX0_holds 114 = .ok (.ireturn, 1) := dk_172 (dk_at dksX0_holds_4 21 rfl rfl)
abbrev cX0_canBe : ByteArray := prog_1_method_57_code
def yX0_canBe : MethodName := ⟨RX0, "canBe", "(LNineDemands$Cases;III)Z"⟩
def dkwX0_canBe_2 : List UInt8 := [180, 0, 78, 182, 1, 24, 172]
abbrev dktX0_canBe_2 : List UInt8 := dkwX0_canBe_2 ++ []
def dkwX0_canBe_1 : List UInt8 := [43, 28, 182, 0, 241, 153, 0, 18, 42, 180, 0, 78, 43, 180, 0, 247, 28, 46, 21, 4, 182, 1, 48, 42]
abbrev dktX0_canBe_1 : List UInt8 := dkwX0_canBe_1 ++ dktX0_canBe_2
def dkwX0_canBe_0 : List UInt8 := [42, 180, 0, 78, 17, 15, 255, 182, 1, 21, 42, 180, 0, 78, 43, 180, 0, 244, 28, 46, 29, 182, 1, 48]
abbrev dktX0_canBe_0 : List UInt8 := dkwX0_canBe_0 ++ dktX0_canBe_1
theorem dksX0_canBe_0 : cX0_canBe.data.toList.drop 0 = dktX0_canBe_0 := by decide +kernel
theorem dksX0_canBe_1 : cX0_canBe.data.toList.drop 24 = dktX0_canBe_1 := dk_seg dksX0_canBe_0 24 rfl rfl
theorem dksX0_canBe_2 : cX0_canBe.data.toList.drop 48 = dktX0_canBe_2 := dk_seg dksX0_canBe_1 24 rfl rfl
theorem dX0_canBe_0 : decode cX0_canBe 0 = .ok (.aload_n 0, 1) := dk_42 (dk_at dksX0_canBe_0 0 rfl rfl)
theorem dX0_canBe_1 : decode cX0_canBe 1 = .ok (.getfield 78, 3) := dk_180 0 78 (dk_at dksX0_canBe_0 1 rfl rfl)
theorem dX0_canBe_4 : decode cX0_canBe 4 = .ok (.sipush 4095, 3) := dk_17 15 255 (dk_at dksX0_canBe_0 4 rfl rfl)
theorem dX0_canBe_7 : decode cX0_canBe 7 = .ok (.invokevirtual 277, 3) := dk_182 1 21 (dk_at dksX0_canBe_0 7 rfl rfl)
theorem dX0_canBe_10 : decode cX0_canBe 10 = .ok (.aload_n 0, 1) := dk_42 (dk_at dksX0_canBe_0 10 rfl rfl)
theorem dX0_canBe_11 : decode cX0_canBe 11 = .ok (.getfield 78, 3) := dk_180 0 78 (dk_at dksX0_canBe_0 11 rfl rfl)
theorem dX0_canBe_14 : decode cX0_canBe 14 = .ok (.aload_n 1, 1) := dk_43 (dk_at dksX0_canBe_0 14 rfl rfl)
theorem dX0_canBe_15 : decode cX0_canBe 15 = .ok (.getfield 244, 3) := dk_180 0 244 (dk_at dksX0_canBe_0 15 rfl rfl)
theorem dX0_canBe_18 : decode cX0_canBe 18 = .ok (.iload_n 2, 1) := dk_28 (dk_at dksX0_canBe_0 18 rfl rfl)
theorem dX0_canBe_19 : decode cX0_canBe 19 = .ok (.iaload, 1) := dk_46 (dk_at dksX0_canBe_0 19 rfl rfl)
theorem dX0_canBe_20 : decode cX0_canBe 20 = .ok (.iload_n 3, 1) := dk_29 (dk_at dksX0_canBe_0 20 rfl rfl)
theorem dX0_canBe_21 : decode cX0_canBe 21 = .ok (.invokevirtual 304, 3) := dk_182 1 48 (dk_at dksX0_canBe_0 21 rfl rfl)
theorem dX0_canBe_24 : decode cX0_canBe 24 = .ok (.aload_n 1, 1) := dk_43 (dk_at dksX0_canBe_1 0 rfl rfl)
theorem dX0_canBe_25 : decode cX0_canBe 25 = .ok (.iload_n 2, 1) := dk_28 (dk_at dksX0_canBe_1 1 rfl rfl)
theorem dX0_canBe_26 : decode cX0_canBe 26 = .ok (.invokevirtual 241, 3) := dk_182 0 241 (dk_at dksX0_canBe_1 2 rfl rfl)
theorem dX0_canBe_29 : decode cX0_canBe 29 = .ok (.ifCond .eq 18, 3) := dk_153 0 18 (dk_at dksX0_canBe_1 5 rfl rfl)
theorem dX0_canBe_32 : decode cX0_canBe 32 = .ok (.aload_n 0, 1) := dk_42 (dk_at dksX0_canBe_1 8 rfl rfl)
theorem dX0_canBe_33 : decode cX0_canBe 33 = .ok (.getfield 78, 3) := dk_180 0 78 (dk_at dksX0_canBe_1 9 rfl rfl)
theorem dX0_canBe_36 : decode cX0_canBe 36 = .ok (.aload_n 1, 1) := dk_43 (dk_at dksX0_canBe_1 12 rfl rfl)
theorem dX0_canBe_37 : decode cX0_canBe 37 = .ok (.getfield 247, 3) := dk_180 0 247 (dk_at dksX0_canBe_1 13 rfl rfl)
theorem dX0_canBe_40 : decode cX0_canBe 40 = .ok (.iload_n 2, 1) := dk_28 (dk_at dksX0_canBe_1 16 rfl rfl)
theorem dX0_canBe_41 : decode cX0_canBe 41 = .ok (.iaload, 1) := dk_46 (dk_at dksX0_canBe_1 17 rfl rfl)
theorem dX0_canBe_42 : decode cX0_canBe 42 = .ok (.iload 4, 2) := dk_21 4 (dk_at dksX0_canBe_1 18 rfl rfl)
theorem dX0_canBe_44 : decode cX0_canBe 44 = .ok (.invokevirtual 304, 3) := dk_182 1 48 (dk_at dksX0_canBe_1 20 rfl rfl)
theorem dX0_canBe_47 : decode cX0_canBe 47 = .ok (.aload_n 0, 1) := dk_42 (dk_at dksX0_canBe_1 23 rfl rfl)
theorem dX0_canBe_48 : decode cX0_canBe 48 = .ok (.getfield 78, 3) := dk_180 0 78 (dk_at dksX0_canBe_2 0 rfl rfl)
theorem dX0_canBe_51 : decode cX0_canBe 51 = .ok (.invokevirtual 280, 3) := dk_182 1 24 (dk_at dksX0_canBe_2 3 rfl rfl)
theorem dX0_canBe_54 : decode cX0_canBe 54 = .ok (.ireturn, 1) := dk_172 (dk_at dksX0_canBe_2 6 rfl rfl)
abbrev cX0_spare : ByteArray := prog_1_method_60_code
def yX0_spare : MethodName := ⟨RX0, "spare", "(I)I"⟩
def dkwX0_spare_3 : List UInt8 := [167, 0, 4, 3, 128, 61, 132, 3, 1, 167, 255, 191, 28, 172, 77, 42, 44, 182, 0, 136, 172]
abbrev dktX0_spare_3 : List UInt8 := dkwX0_spare_3 ++ []
def dkwX0_spare_2 : List UInt8 := [42, 42, 180, 0, 57, 180, 0, 112, 29, 182, 0, 219, 192, 0, 45, 182, 1, 109, 153, 0, 9, 4, 29, 120]
abbrev dktX0_spare_2 : List UInt8 := dkwX0_spare_2 ++ dktX0_spare_3
def dkwX0_spare_1 : List UInt8 := [182, 0, 116, 162, 0, 57, 27, 29, 184, 1, 10, 153, 0, 43, 42, 27, 4, 29, 120, 130, 182, 1, 17, 28]
abbrev dktX0_spare_1 : List UInt8 := dkwX0_spare_1 ++ dktX0_spare_2
def dkwX0_spare_0 : List UInt8 := [42, 42, 27, 182, 1, 26, 4, 182, 0, 126, 3, 61, 3, 62, 29, 42, 180, 0, 57, 180, 0, 112]
abbrev dktX0_spare_0 : List UInt8 := dkwX0_spare_0 ++ dktX0_spare_1
theorem dksX0_spare_0 : cX0_spare.data.toList.drop 0 = dktX0_spare_0 := by decide +kernel
theorem dksX0_spare_1 : cX0_spare.data.toList.drop 22 = dktX0_spare_1 := dk_seg dksX0_spare_0 22 rfl rfl
theorem dksX0_spare_2 : cX0_spare.data.toList.drop 46 = dktX0_spare_2 := dk_seg dksX0_spare_1 24 rfl rfl
theorem dksX0_spare_3 : cX0_spare.data.toList.drop 70 = dktX0_spare_3 := dk_seg dksX0_spare_2 24 rfl rfl
theorem dX0_spare_0 : decode cX0_spare 0 = .ok (.aload_n 0, 1) := dk_42 (dk_at dksX0_spare_0 0 rfl rfl)
theorem dX0_spare_1 : decode cX0_spare 1 = .ok (.aload_n 0, 1) := dk_42 (dk_at dksX0_spare_0 1 rfl rfl)
theorem dX0_spare_2 : decode cX0_spare 2 = .ok (.iload_n 1, 1) := dk_27 (dk_at dksX0_spare_0 2 rfl rfl)
theorem dX0_spare_3 : decode cX0_spare 3 = .ok (.invokevirtual 282, 3) := dk_182 1 26 (dk_at dksX0_spare_0 3 rfl rfl)
theorem dX0_spare_6 : decode cX0_spare 6 = .ok (.iconst 1, 1) := dk_4 (dk_at dksX0_spare_0 6 rfl rfl)
theorem dX0_spare_7 : decode cX0_spare 7 = .ok (.invokevirtual 126, 3) := dk_182 0 126 (dk_at dksX0_spare_0 7 rfl rfl)
theorem dX0_spare_10 : decode cX0_spare 10 = .ok (.iconst 0, 1) := dk_3 (dk_at dksX0_spare_0 10 rfl rfl)
theorem dX0_spare_11 : decode cX0_spare 11 = .ok (.istore_n 2, 1) := dk_61 (dk_at dksX0_spare_0 11 rfl rfl)
theorem dX0_spare_12 : decode cX0_spare 12 = .ok (.iconst 0, 1) := dk_3 (dk_at dksX0_spare_0 12 rfl rfl)
theorem dX0_spare_13 : decode cX0_spare 13 = .ok (.istore_n 3, 1) := dk_62 (dk_at dksX0_spare_0 13 rfl rfl)
theorem dX0_spare_14 : decode cX0_spare 14 = .ok (.iload_n 3, 1) := dk_29 (dk_at dksX0_spare_0 14 rfl rfl)
theorem dX0_spare_15 : decode cX0_spare 15 = .ok (.aload_n 0, 1) := dk_42 (dk_at dksX0_spare_0 15 rfl rfl)
theorem dX0_spare_16 : decode cX0_spare 16 = .ok (.getfield 57, 3) := dk_180 0 57 (dk_at dksX0_spare_0 16 rfl rfl)
theorem dX0_spare_19 : decode cX0_spare 19 = .ok (.getfield 112, 3) := dk_180 0 112 (dk_at dksX0_spare_0 19 rfl rfl)
theorem dX0_spare_22 : decode cX0_spare 22 = .ok (.invokevirtual 116, 3) := dk_182 0 116 (dk_at dksX0_spare_1 0 rfl rfl)
theorem dX0_spare_25 : decode cX0_spare 25 = .ok (.if_icmp .ge 57, 3) := dk_162 0 57 (dk_at dksX0_spare_1 3 rfl rfl)
theorem dX0_spare_28 : decode cX0_spare 28 = .ok (.iload_n 1, 1) := dk_27 (dk_at dksX0_spare_1 6 rfl rfl)
theorem dX0_spare_29 : decode cX0_spare 29 = .ok (.iload_n 3, 1) := dk_29 (dk_at dksX0_spare_1 7 rfl rfl)
theorem dX0_spare_30 : decode cX0_spare 30 = .ok (.invokestatic 266, 3) := dk_184 1 10 (dk_at dksX0_spare_1 8 rfl rfl)
theorem dX0_spare_33 : decode cX0_spare 33 = .ok (.ifCond .eq 43, 3) := dk_153 0 43 (dk_at dksX0_spare_1 11 rfl rfl)
theorem dX0_spare_36 : decode cX0_spare 36 = .ok (.aload_n 0, 1) := dk_42 (dk_at dksX0_spare_1 14 rfl rfl)
theorem dX0_spare_37 : decode cX0_spare 37 = .ok (.iload_n 1, 1) := dk_27 (dk_at dksX0_spare_1 15 rfl rfl)
theorem dX0_spare_38 : decode cX0_spare 38 = .ok (.iconst 1, 1) := dk_4 (dk_at dksX0_spare_1 16 rfl rfl)
theorem dX0_spare_39 : decode cX0_spare 39 = .ok (.iload_n 3, 1) := dk_29 (dk_at dksX0_spare_1 17 rfl rfl)
theorem dX0_spare_40 : decode cX0_spare 40 = .ok (.ishl, 1) := dk_120 (dk_at dksX0_spare_1 18 rfl rfl)
theorem dX0_spare_41 : decode cX0_spare 41 = .ok (.ixor, 1) := dk_130 (dk_at dksX0_spare_1 19 rfl rfl)
theorem dX0_spare_42 : decode cX0_spare 42 = .ok (.invokevirtual 273, 3) := dk_182 1 17 (dk_at dksX0_spare_1 20 rfl rfl)
theorem dX0_spare_45 : decode cX0_spare 45 = .ok (.iload_n 2, 1) := dk_28 (dk_at dksX0_spare_1 23 rfl rfl)
theorem dX0_spare_46 : decode cX0_spare 46 = .ok (.aload_n 0, 1) := dk_42 (dk_at dksX0_spare_2 0 rfl rfl)
theorem dX0_spare_47 : decode cX0_spare 47 = .ok (.aload_n 0, 1) := dk_42 (dk_at dksX0_spare_2 1 rfl rfl)
theorem dX0_spare_48 : decode cX0_spare 48 = .ok (.getfield 57, 3) := dk_180 0 57 (dk_at dksX0_spare_2 2 rfl rfl)
theorem dX0_spare_51 : decode cX0_spare 51 = .ok (.getfield 112, 3) := dk_180 0 112 (dk_at dksX0_spare_2 5 rfl rfl)
theorem dX0_spare_54 : decode cX0_spare 54 = .ok (.iload_n 3, 1) := dk_29 (dk_at dksX0_spare_2 8 rfl rfl)
theorem dX0_spare_55 : decode cX0_spare 55 = .ok (.invokevirtual 219, 3) := dk_182 0 219 (dk_at dksX0_spare_2 9 rfl rfl)
theorem dX0_spare_58 : decode cX0_spare 58 = .ok (.checkcast 45, 3) := dk_192 0 45 (dk_at dksX0_spare_2 12 rfl rfl)
theorem dX0_spare_61 : decode cX0_spare 61 = .ok (.invokevirtual 365, 3) := dk_182 1 109 (dk_at dksX0_spare_2 15 rfl rfl)
theorem dX0_spare_64 : decode cX0_spare 64 = .ok (.ifCond .eq 9, 3) := dk_153 0 9 (dk_at dksX0_spare_2 18 rfl rfl)
theorem dX0_spare_67 : decode cX0_spare 67 = .ok (.iconst 1, 1) := dk_4 (dk_at dksX0_spare_2 21 rfl rfl)
theorem dX0_spare_68 : decode cX0_spare 68 = .ok (.iload_n 3, 1) := dk_29 (dk_at dksX0_spare_2 22 rfl rfl)
theorem dX0_spare_69 : decode cX0_spare 69 = .ok (.ishl, 1) := dk_120 (dk_at dksX0_spare_2 23 rfl rfl)
theorem dX0_spare_70 : decode cX0_spare 70 = .ok (.goto 4, 3) := dk_167 0 4 (dk_at dksX0_spare_3 0 rfl rfl)
theorem dX0_spare_73 : decode cX0_spare 73 = .ok (.iconst 0, 1) := dk_3 (dk_at dksX0_spare_3 3 rfl rfl)
theorem dX0_spare_74 : decode cX0_spare 74 = .ok (.ior, 1) := dk_128 (dk_at dksX0_spare_3 4 rfl rfl)
theorem dX0_spare_75 : decode cX0_spare 75 = .ok (.istore_n 2, 1) := dk_61 (dk_at dksX0_spare_3 5 rfl rfl)
theorem dX0_spare_76 : decode cX0_spare 76 = .ok (.iinc 3 1, 3) := dk_132 3 1 (dk_at dksX0_spare_3 6 rfl rfl)
theorem dX0_spare_79 : decode cX0_spare 79 = .ok (.goto (-65), 3) := dk_167 255 191 (dk_at dksX0_spare_3 9 rfl rfl)
theorem dX0_spare_82 : decode cX0_spare 82 = .ok (.iload_n 2, 1) := dk_28 (dk_at dksX0_spare_3 12 rfl rfl)
theorem dX0_spare_83 : decode cX0_spare 83 = .ok (.ireturn, 1) := dk_172 (dk_at dksX0_spare_3 13 rfl rfl)
theorem dX0_spare_84 : decode cX0_spare 84 = .ok (.astore_n 2, 1) := dk_77 (dk_at dksX0_spare_3 14 rfl rfl)
theorem dX0_spare_85 : decode cX0_spare 85 = .ok (.aload_n 0, 1) := dk_42 (dk_at dksX0_spare_3 15 rfl rfl)
theorem dX0_spare_86 : decode cX0_spare 86 = .ok (.aload_n 2, 1) := dk_44 (dk_at dksX0_spare_3 16 rfl rfl)
theorem dX0_spare_87 : decode cX0_spare 87 = .ok (.invokevirtual 136, 3) := dk_182 0 136 (dk_at dksX0_spare_3 17 rfl rfl)
theorem dX0_spare_90 : decode cX0_spare 90 = .ok (.ireturn, 1) := dk_172 (dk_at dksX0_spare_3 20 rfl rfl)
abbrev cX0_same : ByteArray := prog_1_method_62_code
def yX0_same : MethodName := ⟨RX0, "same", "(II)I"⟩
def dkwX0_same_2 : List UInt8 := [167, 0, 4, 3, 172, 78, 42, 45, 182, 0, 136, 172]
abbrev dktX0_same_2 : List UInt8 := dkwX0_same_2 ++ []
def dkwX0_same_1 : List UInt8 := [182, 0, 126, 42, 27, 28, 182, 1, 113, 153, 0, 16, 42, 28, 27, 182, 1, 113, 153, 0, 7, 4]
abbrev dktX0_same_1 : List UInt8 := dkwX0_same_1 ++ dktX0_same_2
def dkwX0_same_0 : List UInt8 := [42, 42, 27, 182, 1, 26, 153, 0, 15, 42, 28, 182, 1, 26, 153, 0, 7, 4, 167, 0, 4, 3, 4]
abbrev dktX0_same_0 : List UInt8 := dkwX0_same_0 ++ dktX0_same_1
theorem dksX0_same_0 : cX0_same.data.toList.drop 0 = dktX0_same_0 := by decide +kernel
theorem dksX0_same_1 : cX0_same.data.toList.drop 23 = dktX0_same_1 := dk_seg dksX0_same_0 23 rfl rfl
theorem dksX0_same_2 : cX0_same.data.toList.drop 45 = dktX0_same_2 := dk_seg dksX0_same_1 22 rfl rfl
theorem dX0_same_0 : decode cX0_same 0 = .ok (.aload_n 0, 1) := dk_42 (dk_at dksX0_same_0 0 rfl rfl)
theorem dX0_same_1 : decode cX0_same 1 = .ok (.aload_n 0, 1) := dk_42 (dk_at dksX0_same_0 1 rfl rfl)
theorem dX0_same_2 : decode cX0_same 2 = .ok (.iload_n 1, 1) := dk_27 (dk_at dksX0_same_0 2 rfl rfl)
theorem dX0_same_3 : decode cX0_same 3 = .ok (.invokevirtual 282, 3) := dk_182 1 26 (dk_at dksX0_same_0 3 rfl rfl)
theorem dX0_same_6 : decode cX0_same 6 = .ok (.ifCond .eq 15, 3) := dk_153 0 15 (dk_at dksX0_same_0 6 rfl rfl)
theorem dX0_same_9 : decode cX0_same 9 = .ok (.aload_n 0, 1) := dk_42 (dk_at dksX0_same_0 9 rfl rfl)
theorem dX0_same_10 : decode cX0_same 10 = .ok (.iload_n 2, 1) := dk_28 (dk_at dksX0_same_0 10 rfl rfl)
theorem dX0_same_11 : decode cX0_same 11 = .ok (.invokevirtual 282, 3) := dk_182 1 26 (dk_at dksX0_same_0 11 rfl rfl)
theorem dX0_same_14 : decode cX0_same 14 = .ok (.ifCond .eq 7, 3) := dk_153 0 7 (dk_at dksX0_same_0 14 rfl rfl)
theorem dX0_same_17 : decode cX0_same 17 = .ok (.iconst 1, 1) := dk_4 (dk_at dksX0_same_0 17 rfl rfl)
theorem dX0_same_18 : decode cX0_same 18 = .ok (.goto 4, 3) := dk_167 0 4 (dk_at dksX0_same_0 18 rfl rfl)
theorem dX0_same_21 : decode cX0_same 21 = .ok (.iconst 0, 1) := dk_3 (dk_at dksX0_same_0 21 rfl rfl)
theorem dX0_same_22 : decode cX0_same 22 = .ok (.iconst 1, 1) := dk_4 (dk_at dksX0_same_0 22 rfl rfl)
theorem dX0_same_23 : decode cX0_same 23 = .ok (.invokevirtual 126, 3) := dk_182 0 126 (dk_at dksX0_same_1 0 rfl rfl)
theorem dX0_same_26 : decode cX0_same 26 = .ok (.aload_n 0, 1) := dk_42 (dk_at dksX0_same_1 3 rfl rfl)
theorem dX0_same_27 : decode cX0_same 27 = .ok (.iload_n 1, 1) := dk_27 (dk_at dksX0_same_1 4 rfl rfl)
theorem dX0_same_28 : decode cX0_same 28 = .ok (.iload_n 2, 1) := dk_28 (dk_at dksX0_same_1 5 rfl rfl)
theorem dX0_same_29 : decode cX0_same 29 = .ok (.invokevirtual 369, 3) := dk_182 1 113 (dk_at dksX0_same_1 6 rfl rfl)
theorem dX0_same_32 : decode cX0_same 32 = .ok (.ifCond .eq 16, 3) := dk_153 0 16 (dk_at dksX0_same_1 9 rfl rfl)
theorem dX0_same_35 : decode cX0_same 35 = .ok (.aload_n 0, 1) := dk_42 (dk_at dksX0_same_1 12 rfl rfl)
theorem dX0_same_36 : decode cX0_same 36 = .ok (.iload_n 2, 1) := dk_28 (dk_at dksX0_same_1 13 rfl rfl)
theorem dX0_same_37 : decode cX0_same 37 = .ok (.iload_n 1, 1) := dk_27 (dk_at dksX0_same_1 14 rfl rfl)
theorem dX0_same_38 : decode cX0_same 38 = .ok (.invokevirtual 369, 3) := dk_182 1 113 (dk_at dksX0_same_1 15 rfl rfl)
theorem dX0_same_41 : decode cX0_same 41 = .ok (.ifCond .eq 7, 3) := dk_153 0 7 (dk_at dksX0_same_1 18 rfl rfl)
theorem dX0_same_44 : decode cX0_same 44 = .ok (.iconst 1, 1) := dk_4 (dk_at dksX0_same_1 21 rfl rfl)
theorem dX0_same_45 : decode cX0_same 45 = .ok (.goto 4, 3) := dk_167 0 4 (dk_at dksX0_same_2 0 rfl rfl)
theorem dX0_same_48 : decode cX0_same 48 = .ok (.iconst 0, 1) := dk_3 (dk_at dksX0_same_2 3 rfl rfl)
theorem dX0_same_49 : decode cX0_same 49 = .ok (.ireturn, 1) := dk_172 (dk_at dksX0_same_2 4 rfl rfl)
theorem dX0_same_50 : decode cX0_same 50 = .ok (.astore_n 3, 1) := dk_78 (dk_at dksX0_same_2 5 rfl rfl)
theorem dX0_same_51 : decode cX0_same 51 = .ok (.aload_n 0, 1) := dk_42 (dk_at dksX0_same_2 6 rfl rfl)
theorem dX0_same_52 : decode cX0_same 52 = .ok (.aload_n 3, 1) := dk_45 (dk_at dksX0_same_2 7 rfl rfl)
theorem dX0_same_53 : decode cX0_same 53 = .ok (.invokevirtual 136, 3) := dk_182 0 136 (dk_at dksX0_same_2 8 rfl rfl)
theorem dX0_same_56 : decode cX0_same 56 = .ok (.ireturn, 1) := dk_172 (dk_at dksX0_same_2 11 rfl rfl)
abbrev cX0_isUnder : ByteArray := prog_1_method_61_code
def yX0_isUnder : MethodName := ⟨RX0, "isUnder", "(II)Z"⟩
def dkwX0_isUnder_3 : List UInt8 := [153, 0, 7, 4, 167, 0, 4, 3, 62, 132, 4, 1, 167, 255, 188, 29, 172]
abbrev dktX0_isUnder_3 : List UInt8 := dkwX0_isUnder_3 ++ []
def dkwX0_isUnder_2 : List UInt8 := [154, 0, 25, 42, 42, 180, 0, 57, 180, 0, 112, 21, 4, 182, 0, 219, 192, 0, 45, 182, 1, 109]
abbrev dktX0_isUnder_2 : List UInt8 := dkwX0_isUnder_2 ++ dktX0_isUnder_3
def dkwX0_isUnder_1 : List UInt8 := [162, 0, 59, 29, 153, 0, 55, 27, 21, 4, 184, 1, 10, 153, 0, 34, 28, 21, 4, 184, 1, 10]
abbrev dktX0_isUnder_1 : List UInt8 := dkwX0_isUnder_1 ++ dktX0_isUnder_2
def dkwX0_isUnder_0 : List UInt8 := [42, 28, 182, 1, 17, 4, 62, 3, 54, 4, 21, 4, 42, 180, 0, 57, 180, 0, 112, 182, 0, 116]
abbrev dktX0_isUnder_0 : List UInt8 := dkwX0_isUnder_0 ++ dktX0_isUnder_1
theorem dksX0_isUnder_0 : cX0_isUnder.data.toList.drop 0 = dktX0_isUnder_0 := by decide +kernel
theorem dksX0_isUnder_1 : cX0_isUnder.data.toList.drop 22 = dktX0_isUnder_1 := dk_seg dksX0_isUnder_0 22 rfl rfl
theorem dksX0_isUnder_2 : cX0_isUnder.data.toList.drop 44 = dktX0_isUnder_2 := dk_seg dksX0_isUnder_1 22 rfl rfl
theorem dksX0_isUnder_3 : cX0_isUnder.data.toList.drop 66 = dktX0_isUnder_3 := dk_seg dksX0_isUnder_2 22 rfl rfl
theorem dX0_isUnder_0 : decode cX0_isUnder 0 = .ok (.aload_n 0, 1) := dk_42 (dk_at dksX0_isUnder_0 0 rfl rfl)
theorem dX0_isUnder_1 : decode cX0_isUnder 1 = .ok (.iload_n 2, 1) := dk_28 (dk_at dksX0_isUnder_0 1 rfl rfl)
theorem dX0_isUnder_2 : decode cX0_isUnder 2 = .ok (.invokevirtual 273, 3) := dk_182 1 17 (dk_at dksX0_isUnder_0 2 rfl rfl)
theorem dX0_isUnder_5 : decode cX0_isUnder 5 = .ok (.iconst 1, 1) := dk_4 (dk_at dksX0_isUnder_0 5 rfl rfl)
theorem dX0_isUnder_6 : decode cX0_isUnder 6 = .ok (.istore_n 3, 1) := dk_62 (dk_at dksX0_isUnder_0 6 rfl rfl)
theorem dX0_isUnder_7 : decode cX0_isUnder 7 = .ok (.iconst 0, 1) := dk_3 (dk_at dksX0_isUnder_0 7 rfl rfl)
theorem dX0_isUnder_8 : decode cX0_isUnder 8 = .ok (.istore 4, 2) := dk_54 4 (dk_at dksX0_isUnder_0 8 rfl rfl)
theorem dX0_isUnder_10 : decode cX0_isUnder 10 = .ok (.iload 4, 2) := dk_21 4 (dk_at dksX0_isUnder_0 10 rfl rfl)
theorem dX0_isUnder_12 : decode cX0_isUnder 12 = .ok (.aload_n 0, 1) := dk_42 (dk_at dksX0_isUnder_0 12 rfl rfl)
theorem dX0_isUnder_13 : decode cX0_isUnder 13 = .ok (.getfield 57, 3) := dk_180 0 57 (dk_at dksX0_isUnder_0 13 rfl rfl)
theorem dX0_isUnder_16 : decode cX0_isUnder 16 = .ok (.getfield 112, 3) := dk_180 0 112 (dk_at dksX0_isUnder_0 16 rfl rfl)
theorem dX0_isUnder_19 : decode cX0_isUnder 19 = .ok (.invokevirtual 116, 3) := dk_182 0 116 (dk_at dksX0_isUnder_0 19 rfl rfl)
theorem dX0_isUnder_22 : decode cX0_isUnder 22 = .ok (.if_icmp .ge 59, 3) := dk_162 0 59 (dk_at dksX0_isUnder_1 0 rfl rfl)
theorem dX0_isUnder_25 : decode cX0_isUnder 25 = .ok (.iload_n 3, 1) := dk_29 (dk_at dksX0_isUnder_1 3 rfl rfl)
theorem dX0_isUnder_26 : decode cX0_isUnder 26 = .ok (.ifCond .eq 55, 3) := dk_153 0 55 (dk_at dksX0_isUnder_1 4 rfl rfl)
theorem dX0_isUnder_29 : decode cX0_isUnder 29 = .ok (.iload_n 1, 1) := dk_27 (dk_at dksX0_isUnder_1 7 rfl rfl)
theorem dX0_isUnder_30 : decode cX0_isUnder 30 = .ok (.iload 4, 2) := dk_21 4 (dk_at dksX0_isUnder_1 8 rfl rfl)
theorem dX0_isUnder_32 : decode cX0_isUnder 32 = .ok (.invokestatic 266, 3) := dk_184 1 10 (dk_at dksX0_isUnder_1 10 rfl rfl)
theorem dX0_isUnder_35 : decode cX0_isUnder 35 = .ok (.ifCond .eq 34, 3) := dk_153 0 34 (dk_at dksX0_isUnder_1 13 rfl rfl)
theorem dX0_isUnder_38 : decode cX0_isUnder 38 = .ok (.iload_n 2, 1) := dk_28 (dk_at dksX0_isUnder_1 16 rfl rfl)
theorem dX0_isUnder_39 : decode cX0_isUnder 39 = .ok (.iload 4, 2) := dk_21 4 (dk_at dksX0_isUnder_1 17 rfl rfl)
theorem dX0_isUnder_41 : decode cX0_isUnder 41 = .ok (.invokestatic 266, 3) := dk_184 1 10 (dk_at dksX0_isUnder_1 19 rfl rfl)
theorem dX0_isUnder_44 : decode cX0_isUnder 44 = .ok (.ifCond .ne 25, 3) := dk_154 0 25 (dk_at dksX0_isUnder_2 0 rfl rfl)
theorem dX0_isUnder_47 : decode cX0_isUnder 47 = .ok (.aload_n 0, 1) := dk_42 (dk_at dksX0_isUnder_2 3 rfl rfl)
theorem dX0_isUnder_48 : decode cX0_isUnder 48 = .ok (.aload_n 0, 1) := dk_42 (dk_at dksX0_isUnder_2 4 rfl rfl)
theorem dX0_isUnder_49 : decode cX0_isUnder 49 = .ok (.getfield 57, 3) := dk_180 0 57 (dk_at dksX0_isUnder_2 5 rfl rfl)
theorem dX0_isUnder_52 : decode cX0_isUnder 52 = .ok (.getfield 112, 3) := dk_180 0 112 (dk_at dksX0_isUnder_2 8 rfl rfl)
theorem dX0_isUnder_55 : decode cX0_isUnder 55 = .ok (.iload 4, 2) := dk_21 4 (dk_at dksX0_isUnder_2 11 rfl rfl)
theorem dX0_isUnder_57 : decode cX0_isUnder 57 = .ok (.invokevirtual 219, 3) := dk_182 0 219 (dk_at dksX0_isUnder_2 13 rfl rfl)
theorem dX0_isUnder_60 : decode cX0_isUnder 60 = .ok (.checkcast 45, 3) := dk_192 0 45 (dk_at dksX0_isUnder_2 16 rfl rfl)
theorem dX0_isUnder_63 : decode cX0_isUnder 63 = .ok (.invokevirtual 365, 3) := dk_182 1 109 (dk_at dksX0_isUnder_2 19 rfl rfl)
theorem dX0_isUnder_66 : decode cX0_isUnder 66 = .ok (.ifCond .eq 7, 3) := dk_153 0 7 (dk_at dksX0_isUnder_3 0 rfl rfl)
theorem dX0_isUnder_69 : decode cX0_isUnder 69 = .ok (.iconst 1, 1) := dk_4 (dk_at dksX0_isUnder_3 3 rfl rfl)
theorem dX0_isUnder_70 : decode cX0_isUnder 70 = .ok (.goto 4, 3) := dk_167 0 4 (dk_at dksX0_isUnder_3 4 rfl rfl)
theorem dX0_isUnder_73 : decode cX0_isUnder 73 = .ok (.iconst 0, 1) := dk_3 (dk_at dksX0_isUnder_3 7 rfl rfl)
theorem dX0_isUnder_74 : decode cX0_isUnder 74 = .ok (.istore_n 3, 1) := dk_62 (dk_at dksX0_isUnder_3 8 rfl rfl)
theorem dX0_isUnder_75 : decode cX0_isUnder 75 = .ok (.iinc 4 1, 3) := dk_132 4 1 (dk_at dksX0_isUnder_3 9 rfl rfl)
theorem dX0_isUnder_78 : decode cX0_isUnder 78 = .ok (.goto (-68), 3) := dk_167 255 188 (dk_at dksX0_isUnder_3 12 rfl rfl)
theorem dX0_isUnder_81 : decode cX0_isUnder 81 = .ok (.iload_n 3, 1) := dk_29 (dk_at dksX0_isUnder_3 15 rfl rfl)
theorem dX0_isUnder_82 : decode cX0_isUnder 82 = .ok (.ireturn, 1) := dk_172 (dk_at dksX0_isUnder_3 16 rfl rfl)
abbrev cX0_voice : ByteArray := prog_1_method_63_code
def yX0_voice : MethodName := ⟨RX0, "voice", "(III)I"⟩
def dkwX0_voice_5 : List UInt8 := [185, 1, 129, 2, 0, 172, 25, 4, 29, 185, 1, 134, 2, 0, 172, 58, 4, 42, 25, 4, 182, 0, 136, 172]
abbrev dktX0_voice_5 : List UInt8 := dkwX0_voice_5 ++ []
def dkwX0_voice_4 : List UInt8 := [25, 4, 29, 185, 1, 119, 2, 0, 172, 25, 4, 29, 185, 1, 124, 2, 0, 172, 25, 4, 29]
abbrev dktX0_voice_4 : List UInt8 := dkwX0_voice_4 ++ dktX0_voice_5
def dkwX0_voice_3 : List UInt8 := [170, 0, 0, 0, 0, 0, 0, 55, 0, 0, 0, 0, 0, 0, 0, 2, 0, 0, 0, 28, 0, 0, 0, 37, 0, 0, 0, 46]
abbrev dktX0_voice_3 : List UInt8 := dkwX0_voice_3 ++ dktX0_voice_4
def dkwX0_voice_2 : List UInt8 := [192, 1, 117, 58, 4, 28]
abbrev dktX0_voice_2 : List UInt8 := dkwX0_voice_2 ++ dktX0_voice_3
def dkwX0_voice_1 : List UInt8 := [182, 0, 126, 42, 180, 0, 64, 3, 181, 1, 116, 42, 180, 0, 57, 180, 0, 112, 27, 182, 0, 219]
abbrev dktX0_voice_1 : List UInt8 := dkwX0_voice_1 ++ dktX0_voice_2
def dkwX0_voice_0 : List UInt8 := [42, 42, 27, 182, 0, 216, 153, 0, 16, 28, 3, 6, 184, 0, 108, 153, 0, 7, 4, 167, 0, 4, 3, 4]
abbrev dktX0_voice_0 : List UInt8 := dkwX0_voice_0 ++ dktX0_voice_1
theorem dksX0_voice_0 : cX0_voice.data.toList.drop 0 = dktX0_voice_0 := by decide +kernel
theorem dksX0_voice_1 : cX0_voice.data.toList.drop 24 = dktX0_voice_1 := dk_seg dksX0_voice_0 24 rfl rfl
theorem dksX0_voice_2 : cX0_voice.data.toList.drop 46 = dktX0_voice_2 := dk_seg dksX0_voice_1 22 rfl rfl
theorem dksX0_voice_3 : cX0_voice.data.toList.drop 52 = dktX0_voice_3 := dk_seg dksX0_voice_2 6 rfl rfl
theorem dksX0_voice_4 : cX0_voice.data.toList.drop 80 = dktX0_voice_4 := dk_seg dksX0_voice_3 28 rfl rfl
theorem dksX0_voice_5 : cX0_voice.data.toList.drop 101 = dktX0_voice_5 := dk_seg dksX0_voice_4 21 rfl rfl
theorem dX0_voice_0 : decode cX0_voice 0 = .ok (.aload_n 0, 1) := dk_42 (dk_at dksX0_voice_0 0 rfl rfl)
theorem dX0_voice_1 : decode cX0_voice 1 = .ok (.aload_n 0, 1) := dk_42 (dk_at dksX0_voice_0 1 rfl rfl)
theorem dX0_voice_2 : decode cX0_voice 2 = .ok (.iload_n 1, 1) := dk_27 (dk_at dksX0_voice_0 2 rfl rfl)
theorem dX0_voice_3 : decode cX0_voice 3 = .ok (.invokevirtual 216, 3) := dk_182 0 216 (dk_at dksX0_voice_0 3 rfl rfl)
theorem dX0_voice_6 : decode cX0_voice 6 = .ok (.ifCond .eq 16, 3) := dk_153 0 16 (dk_at dksX0_voice_0 6 rfl rfl)
theorem dX0_voice_9 : decode cX0_voice 9 = .ok (.iload_n 2, 1) := dk_28 (dk_at dksX0_voice_0 9 rfl rfl)
theorem dX0_voice_10 : decode cX0_voice 10 = .ok (.iconst 0, 1) := dk_3 (dk_at dksX0_voice_0 10 rfl rfl)
theorem dX0_voice_11 : decode cX0_voice 11 = .ok (.iconst 3, 1) := dk_6 (dk_at dksX0_voice_0 11 rfl rfl)
theorem dX0_voice_12 : decode cX0_voice 12 = .ok (.invokestatic 108, 3) := dk_184 0 108 (dk_at dksX0_voice_0 12 rfl rfl)
theorem dX0_voice_15 : decode cX0_voice 15 = .ok (.ifCond .eq 7, 3) := dk_153 0 7 (dk_at dksX0_voice_0 15 rfl rfl)
theorem dX0_voice_18 : decode cX0_voice 18 = .ok (.iconst 1, 1) := dk_4 (dk_at dksX0_voice_0 18 rfl rfl)
theorem dX0_voice_19 : decode cX0_voice 19 = .ok (.goto 4, 3) := dk_167 0 4 (dk_at dksX0_voice_0 19 rfl rfl)
theorem dX0_voice_22 : decode cX0_voice 22 = .ok (.iconst 0, 1) := dk_3 (dk_at dksX0_voice_0 22 rfl rfl)
theorem dX0_voice_23 : decode cX0_voice 23 = .ok (.iconst 1, 1) := dk_4 (dk_at dksX0_voice_0 23 rfl rfl)
theorem dX0_voice_24 : decode cX0_voice 24 = .ok (.invokevirtual 126, 3) := dk_182 0 126 (dk_at dksX0_voice_1 0 rfl rfl)
theorem dX0_voice_27 : decode cX0_voice 27 = .ok (.aload_n 0, 1) := dk_42 (dk_at dksX0_voice_1 3 rfl rfl)
theorem dX0_voice_28 : decode cX0_voice 28 = .ok (.getfield 64, 3) := dk_180 0 64 (dk_at dksX0_voice_1 4 rfl rfl)
theorem dX0_voice_31 : decode cX0_voice 31 = .ok (.iconst 0, 1) := dk_3 (dk_at dksX0_voice_1 7 rfl rfl)
theorem dX0_voice_32 : decode cX0_voice 32 = .ok (.putfield 372, 3) := dk_181 1 116 (dk_at dksX0_voice_1 8 rfl rfl)
theorem dX0_voice_35 : decode cX0_voice 35 = .ok (.aload_n 0, 1) := dk_42 (dk_at dksX0_voice_1 11 rfl rfl)
theorem dX0_voice_36 : decode cX0_voice 36 = .ok (.getfield 57, 3) := dk_180 0 57 (dk_at dksX0_voice_1 12 rfl rfl)
theorem dX0_voice_39 : decode cX0_voice 39 = .ok (.getfield 112, 3) := dk_180 0 112 (dk_at dksX0_voice_1 15 rfl rfl)
theorem dX0_voice_42 : decode cX0_voice 42 = .ok (.iload_n 1, 1) := dk_27 (dk_at dksX0_voice_1 18 rfl rfl)
theorem dX0_voice_43 : decode cX0_voice 43 = .ok (.invokevirtual 219, 3) := dk_182 0 219 (dk_at dksX0_voice_1 19 rfl rfl)
theorem dX0_voice_46 : decode cX0_voice 46 = .ok (.checkcast 373, 3) := dk_192 1 117 (dk_at dksX0_voice_2 0 rfl rfl)
theorem dX0_voice_49 : decode cX0_voice 49 = .ok (.astore 4, 2) := dk_58 4 (dk_at dksX0_voice_2 3 rfl rfl)
theorem dX0_voice_51 : decode cX0_voice 51 = .ok (.iload_n 2, 1) := dk_28 (dk_at dksX0_voice_2 5 rfl rfl)
theorem dX0_voice_52 : decode cX0_voice 52 = .ok (.tableswitch 55 0 2 #[28, 37, 46], 28) := by decide +kernel
theorem dX0_voice_80 : decode cX0_voice 80 = .ok (.aload 4, 2) := dk_25 4 (dk_at dksX0_voice_4 0 rfl rfl)
theorem dX0_voice_82 : decode cX0_voice 82 = .ok (.iload_n 3, 1) := dk_29 (dk_at dksX0_voice_4 2 rfl rfl)
theorem dX0_voice_83 : decode cX0_voice 83 = .ok (.invokeinterface 375 2, 5) := by decide +kernel
theorem dX0_voice_88 : decode cX0_voice 88 = .ok (.ireturn, 1) := dk_172 (dk_at dksX0_voice_4 8 rfl rfl)
theorem dX0_voice_89 : decode cX0_voice 89 = .ok (.aload 4, 2) := dk_25 4 (dk_at dksX0_voice_4 9 rfl rfl)
theorem dX0_voice_91 : decode cX0_voice 91 = .ok (.iload_n 3, 1) := dk_29 (dk_at dksX0_voice_4 11 rfl rfl)
theorem dX0_voice_92 : decode cX0_voice 92 = .ok (.invokeinterface 380 2, 5) := by decide +kernel
theorem dX0_voice_97 : decode cX0_voice 97 = .ok (.ireturn, 1) := dk_172 (dk_at dksX0_voice_4 17 rfl rfl)
theorem dX0_voice_98 : decode cX0_voice 98 = .ok (.aload 4, 2) := dk_25 4 (dk_at dksX0_voice_4 18 rfl rfl)
theorem dX0_voice_100 : decode cX0_voice 100 = .ok (.iload_n 3, 1) := dk_29 (dk_at dksX0_voice_4 20 rfl rfl)
theorem dX0_voice_101 : decode cX0_voice 101 = .ok (.invokeinterface 385 2, 5) := by decide +kernel
theorem dX0_voice_106 : decode cX0_voice 106 = .ok (.ireturn, 1) := dk_172 (dk_at dksX0_voice_5 5 rfl rfl)
theorem dX0_voice_107 : decode cX0_voice 107 = .ok (.aload 4, 2) := dk_25 4 (dk_at dksX0_voice_5 6 rfl rfl)
theorem dX0_voice_109 : decode cX0_voice 109 = .ok (.iload_n 3, 1) := dk_29 (dk_at dksX0_voice_5 8 rfl rfl)
theorem dX0_voice_110 : decode cX0_voice 110 = .ok (.invokeinterface 390 2, 5) := by decide +kernel
theorem dX0_voice_115 : decode cX0_voice 115 = .ok (.ireturn, 1) := dk_172 (dk_at dksX0_voice_5 14 rfl rfl)
theorem dX0_voice_116 : decode cX0_voice 116 = .ok (.astore 4, 2) := dk_58 4 (dk_at dksX0_voice_5 15 rfl rfl)
theorem dX0_voice_118 : decode cX0_voice 118 = .ok (.aload_n 0, 1) := dk_42 (dk_at dksX0_voice_5 17 rfl rfl)
theorem dX0_voice_119 : decode cX0_voice 119 = .ok (.aload 4, 2) := dk_25 4 (dk_at dksX0_voice_5 18 rfl rfl)
theorem dX0_voice_121 : decode cX0_voice 121 = .ok (.invokevirtual 136, 3) := dk_182 0 136 (dk_at dksX0_voice_5 20 rfl rfl)
theorem dX0_voice_124 : decode cX0_voice 124 = .ok (.ireturn, 1) := dk_172 (dk_at dksX0_voice_5 23 rfl rfl)
abbrev cX0_trace : ByteArray := prog_1_method_64_code
def yX0_trace : MethodName := ⟨RX0, "trace", "(I)I"⟩
def dkwX0_trace_1 : List UInt8 := [180, 1, 137, 27, 46, 172, 77, 42, 44, 182, 0, 136, 172]
abbrev dktX0_trace_1 : List UInt8 := dkwX0_trace_1 ++ []
def dkwX0_trace_0 : List UInt8 := [42, 27, 3, 42, 180, 0, 64, 180, 1, 116, 4, 100, 184, 0, 108, 5, 182, 0, 126, 42, 180, 0, 64]
abbrev dktX0_trace_0 : List UInt8 := dkwX0_trace_0 ++ dktX0_trace_1
theorem dksX0_trace_0 : cX0_trace.data.toList.drop 0 = dktX0_trace_0 := by decide +kernel
theorem dksX0_trace_1 : cX0_trace.data.toList.drop 23 = dktX0_trace_1 := dk_seg dksX0_trace_0 23 rfl rfl
theorem dX0_trace_0 : decode cX0_trace 0 = .ok (.aload_n 0, 1) := dk_42 (dk_at dksX0_trace_0 0 rfl rfl)
theorem dX0_trace_1 : decode cX0_trace 1 = .ok (.iload_n 1, 1) := dk_27 (dk_at dksX0_trace_0 1 rfl rfl)
theorem dX0_trace_2 : decode cX0_trace 2 = .ok (.iconst 0, 1) := dk_3 (dk_at dksX0_trace_0 2 rfl rfl)
theorem dX0_trace_3 : decode cX0_trace 3 = .ok (.aload_n 0, 1) := dk_42 (dk_at dksX0_trace_0 3 rfl rfl)
theorem dX0_trace_4 : decode cX0_trace 4 = .ok (.getfield 64, 3) := dk_180 0 64 (dk_at dksX0_trace_0 4 rfl rfl)
theorem dX0_trace_7 : decode cX0_trace 7 = .ok (.getfield 372, 3) := dk_180 1 116 (dk_at dksX0_trace_0 7 rfl rfl)
theorem dX0_trace_10 : decode cX0_trace 10 = .ok (.iconst 1, 1) := dk_4 (dk_at dksX0_trace_0 10 rfl rfl)
theorem dX0_trace_11 : decode cX0_trace 11 = .ok (.isub, 1) := dk_100 (dk_at dksX0_trace_0 11 rfl rfl)
theorem dX0_trace_12 : decode cX0_trace 12 = .ok (.invokestatic 108, 3) := dk_184 0 108 (dk_at dksX0_trace_0 12 rfl rfl)
theorem dX0_trace_15 : decode cX0_trace 15 = .ok (.iconst 2, 1) := dk_5 (dk_at dksX0_trace_0 15 rfl rfl)
theorem dX0_trace_16 : decode cX0_trace 16 = .ok (.invokevirtual 126, 3) := dk_182 0 126 (dk_at dksX0_trace_0 16 rfl rfl)
theorem dX0_trace_19 : decode cX0_trace 19 = .ok (.aload_n 0, 1) := dk_42 (dk_at dksX0_trace_0 19 rfl rfl)
theorem dX0_trace_20 : decode cX0_trace 20 = .ok (.getfield 64, 3) := dk_180 0 64 (dk_at dksX0_trace_0 20 rfl rfl)
theorem dX0_trace_23 : decode cX0_trace 23 = .ok (.getfield 393, 3) := dk_180 1 137 (dk_at dksX0_trace_1 0 rfl rfl)
theorem dX0_trace_26 : decode cX0_trace 26 = .ok (.iload_n 1, 1) := dk_27 (dk_at dksX0_trace_1 3 rfl rfl)
theorem dX0_trace_27 : decode cX0_trace 27 = .ok (.iaload, 1) := dk_46 (dk_at dksX0_trace_1 4 rfl rfl)
theorem dX0_trace_28 : decode cX0_trace 28 = .ok (.ireturn, 1) := dk_172 (dk_at dksX0_trace_1 5 rfl rfl)
theorem dX0_trace_29 : decode cX0_trace 29 = .ok (.astore_n 2, 1) := dk_77 (dk_at dksX0_trace_1 6 rfl rfl)
theorem dX0_trace_30 : decode cX0_trace 30 = .ok (.aload_n 0, 1) := dk_42 (dk_at dksX0_trace_1 7 rfl rfl)
theorem dX0_trace_31 : decode cX0_trace 31 = .ok (.aload_n 2, 1) := dk_44 (dk_at dksX0_trace_1 8 rfl rfl)
theorem dX0_trace_32 : decode cX0_trace 32 = .ok (.invokevirtual 136, 3) := dk_182 0 136 (dk_at dksX0_trace_1 9 rfl rfl)
theorem dX0_trace_35 : decode cX0_trace 35 = .ok (.ireturn, 1) := dk_172 (dk_at dksX0_trace_1 12 rfl rfl)
abbrev cX0_sheet : ByteArray := prog_1_method_65_code
def yX0_sheet : MethodName := ⟨RX0, "sheet", "(III)I"⟩
def dkwX0_sheet_5 : List UInt8 := [29, 183, 1, 152, 181, 0, 122, 4, 172, 58, 4, 42, 25, 4, 182, 0, 136, 172]
abbrev dktX0_sheet_5 : List UInt8 := dkwX0_sheet_5 ++ []
def dkwX0_sheet_4 : List UInt8 := [167, 0, 28, 28, 16, 16, 160, 0, 14, 187, 1, 147, 89, 29, 183, 1, 149, 167, 0, 11, 187, 1, 150, 89]
abbrev dktX0_sheet_4 : List UInt8 := dkwX0_sheet_4 ++ dktX0_sheet_5
def dkwX0_sheet_3 : List UInt8 := [4, 182, 0, 126, 42, 180, 0, 98, 27, 50, 28, 16, 8, 160, 0, 14, 187, 1, 143, 89, 29, 183, 1, 145]
abbrev dktX0_sheet_3 : List UInt8 := dkwX0_sheet_3 ++ dktX0_sheet_4
def dkwX0_sheet_2 : List UInt8 := [155, 0, 7, 4, 167, 0, 4, 3, 6, 182, 0, 126, 42, 29, 16, 40, 163, 0, 7, 4, 167, 0, 4, 3]
abbrev dktX0_sheet_2 : List UInt8 := dkwX0_sheet_2 ++ dktX0_sheet_3
def dkwX0_sheet_1 : List UInt8 := [4, 182, 0, 126, 28, 154, 0, 15, 42, 180, 0, 98, 27, 50, 1, 181, 0, 122, 4, 172, 42, 29]
abbrev dktX0_sheet_1 : List UInt8 := dkwX0_sheet_1 ++ dktX0_sheet_2
def dkwX0_sheet_0 : List UInt8 := [42, 27, 184, 0, 149, 153, 0, 18, 28, 153, 0, 10, 28, 184, 1, 140, 153, 0, 7, 4, 167, 0, 4, 3]
abbrev dktX0_sheet_0 : List UInt8 := dkwX0_sheet_0 ++ dktX0_sheet_1
theorem dksX0_sheet_0 : cX0_sheet.data.toList.drop 0 = dktX0_sheet_0 := by decide +kernel
theorem dksX0_sheet_1 : cX0_sheet.data.toList.drop 24 = dktX0_sheet_1 := dk_seg dksX0_sheet_0 24 rfl rfl
theorem dksX0_sheet_2 : cX0_sheet.data.toList.drop 46 = dktX0_sheet_2 := dk_seg dksX0_sheet_1 22 rfl rfl
theorem dksX0_sheet_3 : cX0_sheet.data.toList.drop 70 = dktX0_sheet_3 := dk_seg dksX0_sheet_2 24 rfl rfl
theorem dksX0_sheet_4 : cX0_sheet.data.toList.drop 94 = dktX0_sheet_4 := dk_seg dksX0_sheet_3 24 rfl rfl
theorem dksX0_sheet_5 : cX0_sheet.data.toList.drop 118 = dktX0_sheet_5 := dk_seg dksX0_sheet_4 24 rfl rfl
theorem dX0_sheet_0 : decode cX0_sheet 0 = .ok (.aload_n 0, 1) := dk_42 (dk_at dksX0_sheet_0 0 rfl rfl)
theorem dX0_sheet_1 : decode cX0_sheet 1 = .ok (.iload_n 1, 1) := dk_27 (dk_at dksX0_sheet_0 1 rfl rfl)
theorem dX0_sheet_2 : decode cX0_sheet 2 = .ok (.invokestatic 149, 3) := dk_184 0 149 (dk_at dksX0_sheet_0 2 rfl rfl)
theorem dX0_sheet_5 : decode cX0_sheet 5 = .ok (.ifCond .eq 18, 3) := dk_153 0 18 (dk_at dksX0_sheet_0 5 rfl rfl)
theorem dX0_sheet_8 : decode cX0_sheet 8 = .ok (.iload_n 2, 1) := dk_28 (dk_at dksX0_sheet_0 8 rfl rfl)
theorem dX0_sheet_9 : decode cX0_sheet 9 = .ok (.ifCond .eq 10, 3) := dk_153 0 10 (dk_at dksX0_sheet_0 9 rfl rfl)
theorem dX0_sheet_12 : decode cX0_sheet 12 = .ok (.iload_n 2, 1) := dk_28 (dk_at dksX0_sheet_0 12 rfl rfl)
theorem dX0_sheet_13 : decode cX0_sheet 13 = .ok (.invokestatic 396, 3) := dk_184 1 140 (dk_at dksX0_sheet_0 13 rfl rfl)
theorem dX0_sheet_16 : decode cX0_sheet 16 = .ok (.ifCond .eq 7, 3) := dk_153 0 7 (dk_at dksX0_sheet_0 16 rfl rfl)
theorem dX0_sheet_19 : decode cX0_sheet 19 = .ok (.iconst 1, 1) := dk_4 (dk_at dksX0_sheet_0 19 rfl rfl)
theorem dX0_sheet_20 : decode cX0_sheet 20 = .ok (.goto 4, 3) := dk_167 0 4 (dk_at dksX0_sheet_0 20 rfl rfl)
theorem dX0_sheet_23 : decode cX0_sheet 23 = .ok (.iconst 0, 1) := dk_3 (dk_at dksX0_sheet_0 23 rfl rfl)
theorem dX0_sheet_24 : decode cX0_sheet 24 = .ok (.iconst 1, 1) := dk_4 (dk_at dksX0_sheet_1 0 rfl rfl)
theorem dX0_sheet_25 : decode cX0_sheet 25 = .ok (.invokevirtual 126, 3) := dk_182 0 126 (dk_at dksX0_sheet_1 1 rfl rfl)
theorem dX0_sheet_28 : decode cX0_sheet 28 = .ok (.iload_n 2, 1) := dk_28 (dk_at dksX0_sheet_1 4 rfl rfl)
theorem dX0_sheet_29 : decode cX0_sheet 29 = .ok (.ifCond .ne 15, 3) := dk_154 0 15 (dk_at dksX0_sheet_1 5 rfl rfl)
theorem dX0_sheet_32 : decode cX0_sheet 32 = .ok (.aload_n 0, 1) := dk_42 (dk_at dksX0_sheet_1 8 rfl rfl)
theorem dX0_sheet_33 : decode cX0_sheet 33 = .ok (.getfield 98, 3) := dk_180 0 98 (dk_at dksX0_sheet_1 9 rfl rfl)
theorem dX0_sheet_36 : decode cX0_sheet 36 = .ok (.iload_n 1, 1) := dk_27 (dk_at dksX0_sheet_1 12 rfl rfl)
theorem dX0_sheet_37 : decode cX0_sheet 37 = .ok (.aaload, 1) := dk_50 (dk_at dksX0_sheet_1 13 rfl rfl)
theorem dX0_sheet_38 : decode cX0_sheet 38 = .ok (.aconst_null, 1) := dk_1 (dk_at dksX0_sheet_1 14 rfl rfl)
theorem dX0_sheet_39 : decode cX0_sheet 39 = .ok (.putfield 122, 3) := dk_181 0 122 (dk_at dksX0_sheet_1 15 rfl rfl)
theorem dX0_sheet_42 : decode cX0_sheet 42 = .ok (.iconst 1, 1) := dk_4 (dk_at dksX0_sheet_1 18 rfl rfl)
theorem dX0_sheet_43 : decode cX0_sheet 43 = .ok (.ireturn, 1) := dk_172 (dk_at dksX0_sheet_1 19 rfl rfl)
theorem dX0_sheet_44 : decode cX0_sheet 44 = .ok (.aload_n 0, 1) := dk_42 (dk_at dksX0_sheet_1 20 rfl rfl)
theorem dX0_sheet_45 : decode cX0_sheet 45 = .ok (.iload_n 3, 1) := dk_29 (dk_at dksX0_sheet_1 21 rfl rfl)
theorem dX0_sheet_46 : decode cX0_sheet 46 = .ok (.ifCond .lt 7, 3) := dk_155 0 7 (dk_at dksX0_sheet_2 0 rfl rfl)
theorem dX0_sheet_49 : decode cX0_sheet 49 = .ok (.iconst 1, 1) := dk_4 (dk_at dksX0_sheet_2 3 rfl rfl)
theorem dX0_sheet_50 : decode cX0_sheet 50 = .ok (.goto 4, 3) := dk_167 0 4 (dk_at dksX0_sheet_2 4 rfl rfl)
theorem dX0_sheet_53 : decode cX0_sheet 53 = .ok (.iconst 0, 1) := dk_3 (dk_at dksX0_sheet_2 7 rfl rfl)
theorem dX0_sheet_54 : decode cX0_sheet 54 = .ok (.iconst 3, 1) := dk_6 (dk_at dksX0_sheet_2 8 rfl rfl)
theorem dX0_sheet_55 : decode cX0_sheet 55 = .ok (.invokevirtual 126, 3) := dk_182 0 126 (dk_at dksX0_sheet_2 9 rfl rfl)
theorem dX0_sheet_58 : decode cX0_sheet 58 = .ok (.aload_n 0, 1) := dk_42 (dk_at dksX0_sheet_2 12 rfl rfl)
theorem dX0_sheet_59 : decode cX0_sheet 59 = .ok (.iload_n 3, 1) := dk_29 (dk_at dksX0_sheet_2 13 rfl rfl)
theorem dX0_sheet_60 : decode cX0_sheet 60 = .ok (.bipush 40, 2) := dk_16 40 (dk_at dksX0_sheet_2 14 rfl rfl)
theorem dX0_sheet_62 : decode cX0_sheet 62 = .ok (.if_icmp .gt 7, 3) := dk_163 0 7 (dk_at dksX0_sheet_2 16 rfl rfl)
theorem dX0_sheet_65 : decode cX0_sheet 65 = .ok (.iconst 1, 1) := dk_4 (dk_at dksX0_sheet_2 19 rfl rfl)
theorem dX0_sheet_66 : decode cX0_sheet 66 = .ok (.goto 4, 3) := dk_167 0 4 (dk_at dksX0_sheet_2 20 rfl rfl)
theorem dX0_sheet_69 : decode cX0_sheet 69 = .ok (.iconst 0, 1) := dk_3 (dk_at dksX0_sheet_2 23 rfl rfl)
theorem dX0_sheet_70 : decode cX0_sheet 70 = .ok (.iconst 1, 1) := dk_4 (dk_at dksX0_sheet_3 0 rfl rfl)
theorem dX0_sheet_71 : decode cX0_sheet 71 = .ok (.invokevirtual 126, 3) := dk_182 0 126 (dk_at dksX0_sheet_3 1 rfl rfl)
theorem dX0_sheet_74 : decode cX0_sheet 74 = .ok (.aload_n 0, 1) := dk_42 (dk_at dksX0_sheet_3 4 rfl rfl)
theorem dX0_sheet_75 : decode cX0_sheet 75 = .ok (.getfield 98, 3) := dk_180 0 98 (dk_at dksX0_sheet_3 5 rfl rfl)
theorem dX0_sheet_78 : decode cX0_sheet 78 = .ok (.iload_n 1, 1) := dk_27 (dk_at dksX0_sheet_3 8 rfl rfl)
theorem dX0_sheet_79 : decode cX0_sheet 79 = .ok (.aaload, 1) := dk_50 (dk_at dksX0_sheet_3 9 rfl rfl)
theorem dX0_sheet_80 : decode cX0_sheet 80 = .ok (.iload_n 2, 1) := dk_28 (dk_at dksX0_sheet_3 10 rfl rfl)
theorem dX0_sheet_81 : decode cX0_sheet 81 = .ok (.bipush 8, 2) := dk_16 8 (dk_at dksX0_sheet_3 11 rfl rfl)
theorem dX0_sheet_83 : decode cX0_sheet 83 = .ok (.if_icmp .ne 14, 3) := dk_160 0 14 (dk_at dksX0_sheet_3 13 rfl rfl)
theorem dX0_sheet_86 : decode cX0_sheet 86 = .ok (.new 399, 3) := dk_187 1 143 (dk_at dksX0_sheet_3 16 rfl rfl)
theorem dX0_sheet_89 : decode cX0_sheet 89 = .ok (.dup, 1) := dk_89 (dk_at dksX0_sheet_3 19 rfl rfl)
theorem dX0_sheet_90 : decode cX0_sheet 90 = .ok (.iload_n 3, 1) := dk_29 (dk_at dksX0_sheet_3 20 rfl rfl)
theorem dX0_sheet_91 : decode cX0_sheet 91 = .ok (.invokespecial 401, 3) := dk_183 1 145 (dk_at dksX0_sheet_3 21 rfl rfl)
theorem dX0_sheet_94 : decode cX0_sheet 94 = .ok (.goto 28, 3) := dk_167 0 28 (dk_at dksX0_sheet_4 0 rfl rfl)
theorem dX0_sheet_97 : decode cX0_sheet 97 = .ok (.iload_n 2, 1) := dk_28 (dk_at dksX0_sheet_4 3 rfl rfl)
theorem dX0_sheet_98 : decode cX0_sheet 98 = .ok (.bipush 16, 2) := dk_16 16 (dk_at dksX0_sheet_4 4 rfl rfl)
theorem dX0_sheet_100 : decode cX0_sheet 100 = .ok (.if_icmp .ne 14, 3) := dk_160 0 14 (dk_at dksX0_sheet_4 6 rfl rfl)
theorem dX0_sheet_103 : decode cX0_sheet 103 = .ok (.new 403, 3) := dk_187 1 147 (dk_at dksX0_sheet_4 9 rfl rfl)
theorem dX0_sheet_106 : decode cX0_sheet 106 = .ok (.dup, 1) := dk_89 (dk_at dksX0_sheet_4 12 rfl rfl)
theorem dX0_sheet_107 : decode cX0_sheet 107 = .ok (.iload_n 3, 1) := dk_29 (dk_at dksX0_sheet_4 13 rfl rfl)
theorem dX0_sheet_108 : decode cX0_sheet 108 = .ok (.invokespecial 405, 3) := dk_183 1 149 (dk_at dksX0_sheet_4 14 rfl rfl)
theorem dX0_sheet_111 : decode cX0_sheet 111 = .ok (.goto 11, 3) := dk_167 0 11 (dk_at dksX0_sheet_4 17 rfl rfl)
theorem dX0_sheet_114 : decode cX0_sheet 114 = .ok (.new 406, 3) := dk_187 1 150 (dk_at dksX0_sheet_4 20 rfl rfl)
theorem dX0_sheet_117 : decode cX0_sheet 117 = .ok (.dup, 1) := dk_89 (dk_at dksX0_sheet_4 23 rfl rfl)
theorem dX0_sheet_118 : decode cX0_sheet 118 = .ok (.iload_n 3, 1) := dk_29 (dk_at dksX0_sheet_5 0 rfl rfl)
theorem dX0_sheet_119 : decode cX0_sheet 119 = .ok (.invokespecial 408, 3) := dk_183 1 152 (dk_at dksX0_sheet_5 1 rfl rfl)
theorem dX0_sheet_122 : decode cX0_sheet 122 = .ok (.putfield 122, 3) := dk_181 0 122 (dk_at dksX0_sheet_5 4 rfl rfl)
theorem dX0_sheet_125 : decode cX0_sheet 125 = .ok (.iconst 1, 1) := dk_4 (dk_at dksX0_sheet_5 7 rfl rfl)
theorem dX0_sheet_126 : decode cX0_sheet 126 = .ok (.ireturn, 1) := dk_172 (dk_at dksX0_sheet_5 8 rfl rfl)
theorem dX0_sheet_127 : decode cX0_sheet 127 = .ok (.astore 4, 2) := dk_58 4 (dk_at dksX0_sheet_5 9 rfl rfl)
theorem dX0_sheet_129 : decode cX0_sheet 129 = .ok (.aload_n 0, 1) := dk_42 (dk_at dksX0_sheet_5 11 rfl rfl)
theorem dX0_sheet_130 : decode cX0_sheet 130 = .ok (.aload 4, 2) := dk_25 4 (dk_at dksX0_sheet_5 12 rfl rfl)
theorem dX0_sheet_132 : decode cX0_sheet 132 = .ok (.invokevirtual 136, 3) := dk_182 0 136 (dk_at dksX0_sheet_5 14 rfl rfl)
theorem dX0_sheet_135 : decode cX0_sheet 135 = .ok (.ireturn, 1) := dk_172 (dk_at dksX0_sheet_5 17 rfl rfl)
abbrev cX0_isWidth : ByteArray := prog_1_method_18_code
def yX0_isWidth : MethodName := ⟨RX0, "isWidth", "(I)Z"⟩
def dkwX0_isWidth_0 : List UInt8 := [26, 16, 8, 159, 0, 15, 26, 16, 16, 159, 0, 9, 26, 16, 32, 160, 0, 7, 4, 167, 0, 4, 3, 172]
abbrev dktX0_isWidth_0 : List UInt8 := dkwX0_isWidth_0 ++ []
theorem dksX0_isWidth_0 : cX0_isWidth.data.toList.drop 0 = dktX0_isWidth_0 := by decide +kernel
theorem dX0_isWidth_0 : decode cX0_isWidth 0 = .ok (.iload_n 0, 1) := dk_26 (dk_at dksX0_isWidth_0 0 rfl rfl)
theorem dX0_isWidth_1 : decode cX0_isWidth 1 = .ok (.bipush 8, 2) := dk_16 8 (dk_at dksX0_isWidth_0 1 rfl rfl)
theorem dX0_isWidth_3 : decode cX0_isWidth 3 = .ok (.if_icmp .eq 15, 3) := dk_159 0 15 (dk_at dksX0_isWidth_0 3 rfl rfl)
theorem dX0_isWidth_6 : decode cX0_isWidth 6 = .ok (.iload_n 0, 1) := dk_26 (dk_at dksX0_isWidth_0 6 rfl rfl)
theorem dX0_isWidth_7 : decode cX0_isWidth 7 = .ok (.bipush 16, 2) := dk_16 16 (dk_at dksX0_isWidth_0 7 rfl rfl)
theorem dX0_isWidth_9 : decode cX0_isWidth 9 = .ok (.if_icmp .eq 9, 3) := dk_159 0 9 (dk_at dksX0_isWidth_0 9 rfl rfl)
theorem dX0_isWidth_12 : decode cX0_isWidth 12 = .ok (.iload_n 0, 1) := dk_26 (dk_at dksX0_isWidth_0 12 rfl rfl)
theorem dX0_isWidth_13 : decode cX0_isWidth 13 = .ok (.bipush 32, 2) := dk_16 32 (dk_at dksX0_isWidth_0 13 rfl rfl)
theorem dX0_isWidth_15 : decode cX0_isWidth 15 = .ok (.if_icmp .ne 7, 3) := dk_160 0 7 (dk_at dksX0_isWidth_0 15 rfl rfl)
theorem dX0_isWidth_18 : decode cX0_isWidth 18 = .ok (.iconst 1, 1) := dk_4 (dk_at dksX0_isWidth_0 18 rfl rfl)
theorem dX0_isWidth_19 : decode cX0_isWidth 19 = .ok (.goto 4, 3) := dk_167 0 4 (dk_at dksX0_isWidth_0 19 rfl rfl)
theorem dX0_isWidth_22 : decode cX0_isWidth 22 = .ok (.iconst 0, 1) := dk_3 (dk_at dksX0_isWidth_0 22 rfl rfl)
theorem dX0_isWidth_23 : decode cX0_isWidth 23 = .ok (.ireturn, 1) := dk_172 (dk_at dksX0_isWidth_0 23 rfl rfl)
abbrev cX0_put : ByteArray := prog_1_method_66_code
def yX0_put : MethodName := ⟨RX0, "put", "(III)I"⟩
def dkwX0_put_2 : List UInt8 := [182, 0, 136, 172]
abbrev dktX0_put_2 : List UInt8 := dkwX0_put_2 ++ []
def dkwX0_put_1 : List UInt8 := [4, 100, 184, 0, 108, 4, 182, 0, 126, 25, 4, 28, 29, 182, 1, 153, 4, 172, 58, 4, 42, 25, 4]
abbrev dktX0_put_1 : List UInt8 := dkwX0_put_1 ++ dktX0_put_2
def dkwX0_put_0 : List UInt8 := [42, 27, 184, 0, 149, 4, 182, 0, 126, 42, 27, 182, 0, 152, 58, 4, 42, 28, 3, 25, 4, 182, 0, 156]
abbrev dktX0_put_0 : List UInt8 := dkwX0_put_0 ++ dktX0_put_1
theorem dksX0_put_0 : cX0_put.data.toList.drop 0 = dktX0_put_0 := by decide +kernel
theorem dksX0_put_1 : cX0_put.data.toList.drop 24 = dktX0_put_1 := dk_seg dksX0_put_0 24 rfl rfl
theorem dksX0_put_2 : cX0_put.data.toList.drop 47 = dktX0_put_2 := dk_seg dksX0_put_1 23 rfl rfl
theorem dX0_put_0 : decode cX0_put 0 = .ok (.aload_n 0, 1) := dk_42 (dk_at dksX0_put_0 0 rfl rfl)
theorem dX0_put_1 : decode cX0_put 1 = .ok (.iload_n 1, 1) := dk_27 (dk_at dksX0_put_0 1 rfl rfl)
theorem dX0_put_2 : decode cX0_put 2 = .ok (.invokestatic 149, 3) := dk_184 0 149 (dk_at dksX0_put_0 2 rfl rfl)
theorem dX0_put_5 : decode cX0_put 5 = .ok (.iconst 1, 1) := dk_4 (dk_at dksX0_put_0 5 rfl rfl)
theorem dX0_put_6 : decode cX0_put 6 = .ok (.invokevirtual 126, 3) := dk_182 0 126 (dk_at dksX0_put_0 6 rfl rfl)
theorem dX0_put_9 : decode cX0_put 9 = .ok (.aload_n 0, 1) := dk_42 (dk_at dksX0_put_0 9 rfl rfl)
theorem dX0_put_10 : decode cX0_put 10 = .ok (.iload_n 1, 1) := dk_27 (dk_at dksX0_put_0 10 rfl rfl)
theorem dX0_put_11 : decode cX0_put 11 = .ok (.invokevirtual 152, 3) := dk_182 0 152 (dk_at dksX0_put_0 11 rfl rfl)
theorem dX0_put_14 : decode cX0_put 14 = .ok (.astore 4, 2) := dk_58 4 (dk_at dksX0_put_0 14 rfl rfl)
theorem dX0_put_16 : decode cX0_put 16 = .ok (.aload_n 0, 1) := dk_42 (dk_at dksX0_put_0 16 rfl rfl)
theorem dX0_put_17 : decode cX0_put 17 = .ok (.iload_n 2, 1) := dk_28 (dk_at dksX0_put_0 17 rfl rfl)
theorem dX0_put_18 : decode cX0_put 18 = .ok (.iconst 0, 1) := dk_3 (dk_at dksX0_put_0 18 rfl rfl)
theorem dX0_put_19 : decode cX0_put 19 = .ok (.aload 4, 2) := dk_25 4 (dk_at dksX0_put_0 19 rfl rfl)
theorem dX0_put_21 : decode cX0_put 21 = .ok (.invokevirtual 156, 3) := dk_182 0 156 (dk_at dksX0_put_0 21 rfl rfl)
theorem dX0_put_24 : decode cX0_put 24 = .ok (.iconst 1, 1) := dk_4 (dk_at dksX0_put_1 0 rfl rfl)
theorem dX0_put_25 : decode cX0_put 25 = .ok (.isub, 1) := dk_100 (dk_at dksX0_put_1 1 rfl rfl)
theorem dX0_put_26 : decode cX0_put 26 = .ok (.invokestatic 108, 3) := dk_184 0 108 (dk_at dksX0_put_1 2 rfl rfl)
theorem dX0_put_29 : decode cX0_put 29 = .ok (.iconst 1, 1) := dk_4 (dk_at dksX0_put_1 5 rfl rfl)
theorem dX0_put_30 : decode cX0_put 30 = .ok (.invokevirtual 126, 3) := dk_182 0 126 (dk_at dksX0_put_1 6 rfl rfl)
theorem dX0_put_33 : decode cX0_put 33 = .ok (.aload 4, 2) := dk_25 4 (dk_at dksX0_put_1 9 rfl rfl)
theorem dX0_put_35 : decode cX0_put 35 = .ok (.iload_n 2, 1) := dk_28 (dk_at dksX0_put_1 11 rfl rfl)
theorem dX0_put_36 : decode cX0_put 36 = .ok (.iload_n 3, 1) := dk_29 (dk_at dksX0_put_1 12 rfl rfl)
theorem dX0_put_37 : decode cX0_put 37 = .ok (.invokevirtual 409, 3) := dk_182 1 153 (dk_at dksX0_put_1 13 rfl rfl)
theorem dX0_put_40 : decode cX0_put 40 = .ok (.iconst 1, 1) := dk_4 (dk_at dksX0_put_1 16 rfl rfl)
theorem dX0_put_41 : decode cX0_put 41 = .ok (.ireturn, 1) := dk_172 (dk_at dksX0_put_1 17 rfl rfl)
theorem dX0_put_42 : decode cX0_put 42 = .ok (.astore 4, 2) := dk_58 4 (dk_at dksX0_put_1 18 rfl rfl)
theorem dX0_put_44 : decode cX0_put 44 = .ok (.aload_n 0, 1) := dk_42 (dk_at dksX0_put_1 20 rfl rfl)
theorem dX0_put_45 : decode cX0_put 45 = .ok (.aload 4, 2) := dk_25 4 (dk_at dksX0_put_1 21 rfl rfl)
theorem dX0_put_47 : decode cX0_put 47 = .ok (.invokevirtual 136, 3) := dk_182 0 136 (dk_at dksX0_put_2 0 rfl rfl)
theorem dX0_put_50 : decode cX0_put 50 = .ok (.ireturn, 1) := dk_172 (dk_at dksX0_put_2 3 rfl rfl)
abbrev cX0_move : ByteArray := prog_1_method_67_code
def yX0_move : MethodName := ⟨RX0, "move", "(IIIII)I"⟩
def dkwX0_move_6 : List UInt8 := [96, 46, 182, 1, 153, 132, 9, 1, 167, 255, 229, 21, 5, 172, 58, 6, 42, 25, 6, 182, 0, 136, 172]
abbrev dktX0_move_6 : List UInt8 := dkwX0_move_6 ++ []
def dkwX0_move_5 : List UInt8 := [58, 8, 3, 54, 9, 21, 9, 21, 5, 162, 0, 26, 25, 7, 21, 4, 21, 9, 96, 25, 8, 28, 21, 9]
abbrev dktX0_move_5 : List UInt8 := dkwX0_move_5 ++ dktX0_move_6
def dkwX0_move_4 : List UInt8 := [182, 0, 156, 21, 5, 100, 163, 0, 7, 4, 167, 0, 4, 3, 4, 182, 0, 126, 25, 6, 182, 1, 159]
abbrev dktX0_move_4 : List UInt8 := dkwX0_move_4 ++ dktX0_move_5
def dkwX0_move_3 : List UInt8 := [155, 0, 37, 21, 4, 155, 0, 32, 28, 25, 6, 182, 0, 156, 21, 5, 100, 163, 0, 20, 21, 4, 25, 7]
abbrev dktX0_move_3 : List UInt8 := dkwX0_move_3 ++ dktX0_move_4
def dkwX0_move_2 : List UInt8 := [182, 1, 156, 160, 0, 7, 4, 167, 0, 4, 3, 8, 182, 0, 126, 42, 21, 5, 155, 0, 41, 28]
abbrev dktX0_move_2 : List UInt8 := dkwX0_move_2 ++ dktX0_move_3
def dkwX0_move_1 : List UInt8 := [42, 27, 182, 0, 152, 58, 6, 42, 29, 182, 0, 152, 58, 7, 42, 25, 6, 182, 1, 156, 25, 7]
abbrev dktX0_move_1 : List UInt8 := dkwX0_move_1 ++ dktX0_move_2
def dkwX0_move_0 : List UInt8 := [42, 27, 184, 0, 149, 153, 0, 14, 29, 184, 0, 149, 153, 0, 7, 4, 167, 0, 4, 3, 4, 182, 0, 126]
abbrev dktX0_move_0 : List UInt8 := dkwX0_move_0 ++ dktX0_move_1
theorem dksX0_move_0 : cX0_move.data.toList.drop 0 = dktX0_move_0 := by decide +kernel
theorem dksX0_move_1 : cX0_move.data.toList.drop 24 = dktX0_move_1 := dk_seg dksX0_move_0 24 rfl rfl
theorem dksX0_move_2 : cX0_move.data.toList.drop 46 = dktX0_move_2 := dk_seg dksX0_move_1 22 rfl rfl
theorem dksX0_move_3 : cX0_move.data.toList.drop 68 = dktX0_move_3 := dk_seg dksX0_move_2 22 rfl rfl
theorem dksX0_move_4 : cX0_move.data.toList.drop 92 = dktX0_move_4 := dk_seg dksX0_move_3 24 rfl rfl
theorem dksX0_move_5 : cX0_move.data.toList.drop 115 = dktX0_move_5 := dk_seg dksX0_move_4 23 rfl rfl
theorem dksX0_move_6 : cX0_move.data.toList.drop 139 = dktX0_move_6 := dk_seg dksX0_move_5 24 rfl rfl
theorem dX0_move_0 : decode cX0_move 0 = .ok (.aload_n 0, 1) := dk_42 (dk_at dksX0_move_0 0 rfl rfl)
theorem dX0_move_1 : decode cX0_move 1 = .ok (.iload_n 1, 1) := dk_27 (dk_at dksX0_move_0 1 rfl rfl)
theorem dX0_move_2 : decode cX0_move 2 = .ok (.invokestatic 149, 3) := dk_184 0 149 (dk_at dksX0_move_0 2 rfl rfl)
theorem dX0_move_5 : decode cX0_move 5 = .ok (.ifCond .eq 14, 3) := dk_153 0 14 (dk_at dksX0_move_0 5 rfl rfl)
theorem dX0_move_8 : decode cX0_move 8 = .ok (.iload_n 3, 1) := dk_29 (dk_at dksX0_move_0 8 rfl rfl)
theorem dX0_move_9 : decode cX0_move 9 = .ok (.invokestatic 149, 3) := dk_184 0 149 (dk_at dksX0_move_0 9 rfl rfl)
theorem dX0_move_12 : decode cX0_move 12 = .ok (.ifCond .eq 7, 3) := dk_153 0 7 (dk_at dksX0_move_0 12 rfl rfl)
theorem dX0_move_15 : decode cX0_move 15 = .ok (.iconst 1, 1) := dk_4 (dk_at dksX0_move_0 15 rfl rfl)
theorem dX0_move_16 : decode cX0_move 16 = .ok (.goto 4, 3) := dk_167 0 4 (dk_at dksX0_move_0 16 rfl rfl)
theorem dX0_move_19 : decode cX0_move 19 = .ok (.iconst 0, 1) := dk_3 (dk_at dksX0_move_0 19 rfl rfl)
theorem dX0_move_20 : decode cX0_move 20 = .ok (.iconst 1, 1) := dk_4 (dk_at dksX0_move_0 20 rfl rfl)
theorem dX0_move_21 : decode cX0_move 21 = .ok (.invokevirtual 126, 3) := dk_182 0 126 (dk_at dksX0_move_0 21 rfl rfl)
theorem dX0_move_24 : decode cX0_move 24 = .ok (.aload_n 0, 1) := dk_42 (dk_at dksX0_move_1 0 rfl rfl)
theorem dX0_move_25 : decode cX0_move 25 = .ok (.iload_n 1, 1) := dk_27 (dk_at dksX0_move_1 1 rfl rfl)
theorem dX0_move_26 : decode cX0_move 26 = .ok (.invokevirtual 152, 3) := dk_182 0 152 (dk_at dksX0_move_1 2 rfl rfl)
theorem dX0_move_29 : decode cX0_move 29 = .ok (.astore 6, 2) := dk_58 6 (dk_at dksX0_move_1 5 rfl rfl)
theorem dX0_move_31 : decode cX0_move 31 = .ok (.aload_n 0, 1) := dk_42 (dk_at dksX0_move_1 7 rfl rfl)
theorem dX0_move_32 : decode cX0_move 32 = .ok (.iload_n 3, 1) := dk_29 (dk_at dksX0_move_1 8 rfl rfl)
theorem dX0_move_33 : decode cX0_move 33 = .ok (.invokevirtual 152, 3) := dk_182 0 152 (dk_at dksX0_move_1 9 rfl rfl)
theorem dX0_move_36 : decode cX0_move 36 = .ok (.astore 7, 2) := dk_58 7 (dk_at dksX0_move_1 12 rfl rfl)
theorem dX0_move_38 : decode cX0_move 38 = .ok (.aload_n 0, 1) := dk_42 (dk_at dksX0_move_1 14 rfl rfl)
theorem dX0_move_39 : decode cX0_move 39 = .ok (.aload 6, 2) := dk_25 6 (dk_at dksX0_move_1 15 rfl rfl)
theorem dX0_move_41 : decode cX0_move 41 = .ok (.invokevirtual 412, 3) := dk_182 1 156 (dk_at dksX0_move_1 17 rfl rfl)
theorem dX0_move_44 : decode cX0_move 44 = .ok (.aload 7, 2) := dk_25 7 (dk_at dksX0_move_1 20 rfl rfl)
theorem dX0_move_46 : decode cX0_move 46 = .ok (.invokevirtual 412, 3) := dk_182 1 156 (dk_at dksX0_move_2 0 rfl rfl)
theorem dX0_move_49 : decode cX0_move 49 = .ok (.if_icmp .ne 7, 3) := dk_160 0 7 (dk_at dksX0_move_2 3 rfl rfl)
theorem dX0_move_52 : decode cX0_move 52 = .ok (.iconst 1, 1) := dk_4 (dk_at dksX0_move_2 6 rfl rfl)
theorem dX0_move_53 : decode cX0_move 53 = .ok (.goto 4, 3) := dk_167 0 4 (dk_at dksX0_move_2 7 rfl rfl)
theorem dX0_move_56 : decode cX0_move 56 = .ok (.iconst 0, 1) := dk_3 (dk_at dksX0_move_2 10 rfl rfl)
theorem dX0_move_57 : decode cX0_move 57 = .ok (.iconst 5, 1) := dk_8 (dk_at dksX0_move_2 11 rfl rfl)
theorem dX0_move_58 : decode cX0_move 58 = .ok (.invokevirtual 126, 3) := dk_182 0 126 (dk_at dksX0_move_2 12 rfl rfl)
theorem dX0_move_61 : decode cX0_move 61 = .ok (.aload_n 0, 1) := dk_42 (dk_at dksX0_move_2 15 rfl rfl)
theorem dX0_move_62 : decode cX0_move 62 = .ok (.iload 5, 2) := dk_21 5 (dk_at dksX0_move_2 16 rfl rfl)
theorem dX0_move_64 : decode cX0_move 64 = .ok (.ifCond .lt 41, 3) := dk_155 0 41 (dk_at dksX0_move_2 18 rfl rfl)
theorem dX0_move_67 : decode cX0_move 67 = .ok (.iload_n 2, 1) := dk_28 (dk_at dksX0_move_2 21 rfl rfl)
theorem dX0_move_68 : decode cX0_move 68 = .ok (.ifCond .lt 37, 3) := dk_155 0 37 (dk_at dksX0_move_3 0 rfl rfl)
theorem dX0_move_71 : decode cX0_move 71 = .ok (.iload 4, 2) := dk_21 4 (dk_at dksX0_move_3 3 rfl rfl)
theorem dX0_move_73 : decode cX0_move 73 = .ok (.ifCond .lt 32, 3) := dk_155 0 32 (dk_at dksX0_move_3 5 rfl rfl)
theorem dX0_move_76 : decode cX0_move 76 = .ok (.iload_n 2, 1) := dk_28 (dk_at dksX0_move_3 8 rfl rfl)
theorem dX0_move_77 : decode cX0_move 77 = .ok (.aload 6, 2) := dk_25 6 (dk_at dksX0_move_3 9 rfl rfl)
theorem dX0_move_79 : decode cX0_move 79 = .ok (.invokevirtual 156, 3) := dk_182 0 156 (dk_at dksX0_move_3 11 rfl rfl)
theorem dX0_move_82 : decode cX0_move 82 = .ok (.iload 5, 2) := dk_21 5 (dk_at dksX0_move_3 14 rfl rfl)
theorem dX0_move_84 : decode cX0_move 84 = .ok (.isub, 1) := dk_100 (dk_at dksX0_move_3 16 rfl rfl)
theorem dX0_move_85 : decode cX0_move 85 = .ok (.if_icmp .gt 20, 3) := dk_163 0 20 (dk_at dksX0_move_3 17 rfl rfl)
theorem dX0_move_88 : decode cX0_move 88 = .ok (.iload 4, 2) := dk_21 4 (dk_at dksX0_move_3 20 rfl rfl)
theorem dX0_move_90 : decode cX0_move 90 = .ok (.aload 7, 2) := dk_25 7 (dk_at dksX0_move_3 22 rfl rfl)
theorem dX0_move_92 : decode cX0_move 92 = .ok (.invokevirtual 156, 3) := dk_182 0 156 (dk_at dksX0_move_4 0 rfl rfl)
theorem dX0_move_95 : decode cX0_move 95 = .ok (.iload 5, 2) := dk_21 5 (dk_at dksX0_move_4 3 rfl rfl)
theorem dX0_move_97 : decode cX0_move 97 = .ok (.isub, 1) := dk_100 (dk_at dksX0_move_4 5 rfl rfl)
theorem dX0_move_98 : decode cX0_move 98 = .ok (.if_icmp .gt 7, 3) := dk_163 0 7 (dk_at dksX0_move_4 6 rfl rfl)
theorem dX0_move_101 : decode cX0_move 101 = .ok (.iconst 1, 1) := dk_4 (dk_at dksX0_move_4 9 rfl rfl)
theorem dX0_move_102 : decode cX0_move 102 = .ok (.goto 4, 3) := dk_167 0 4 (dk_at dksX0_move_4 10 rfl rfl)
theorem dX0_move_105 : decode cX0_move 105 = .ok (.iconst 0, 1) := dk_3 (dk_at dksX0_move_4 13 rfl rfl)
theorem dX0_move_106 : decode cX0_move 106 = .ok (.iconst 1, 1) := dk_4 (dk_at dksX0_move_4 14 rfl rfl)
theorem dX0_move_107 : decode cX0_move 107 = .ok (.invokevirtual 126, 3) := dk_182 0 126 (dk_at dksX0_move_4 15 rfl rfl)
theorem dX0_move_110 : decode cX0_move 110 = .ok (.aload 6, 2) := dk_25 6 (dk_at dksX0_move_4 18 rfl rfl)
theorem dX0_move_112 : decode cX0_move 112 = .ok (.invokevirtual 415, 3) := dk_182 1 159 (dk_at dksX0_move_4 20 rfl rfl)
theorem dX0_move_115 : decode cX0_move 115 = .ok (.astore 8, 2) := dk_58 8 (dk_at dksX0_move_5 0 rfl rfl)
theorem dX0_move_117 : decode cX0_move 117 = .ok (.iconst 0, 1) := dk_3 (dk_at dksX0_move_5 2 rfl rfl)
theorem dX0_move_118 : decode cX0_move 118 = .ok (.istore 9, 2) := dk_54 9 (dk_at dksX0_move_5 3 rfl rfl)
theorem dX0_move_120 : decode cX0_move 120 = .ok (.iload 9, 2) := dk_21 9 (dk_at dksX0_move_5 5 rfl rfl)
theorem dX0_move_122 : decode cX0_move 122 = .ok (.iload 5, 2) := dk_21 5 (dk_at dksX0_move_5 7 rfl rfl)
theorem dX0_move_124 : decode cX0_move 124 = .ok (.if_icmp .ge 26, 3) := dk_162 0 26 (dk_at dksX0_move_5 9 rfl rfl)
theorem dX0_move_127 : decode cX0_move 127 = .ok (.aload 7, 2) := dk_25 7 (dk_at dksX0_move_5 12 rfl rfl)
theorem dX0_move_129 : decode cX0_move 129 = .ok (.iload 4, 2) := dk_21 4 (dk_at dksX0_move_5 14 rfl rfl)
theorem dX0_move_131 : decode cX0_move 131 = .ok (.iload 9, 2) := dk_21 9 (dk_at dksX0_move_5 16 rfl rfl)
theorem dX0_move_133 : decode cX0_move 133 = .ok (.iadd, 1) := dk_96 (dk_at dksX0_move_5 18 rfl rfl)
theorem dX0_move_134 : decode cX0_move 134 = .ok (.aload 8, 2) := dk_25 8 (dk_at dksX0_move_5 19 rfl rfl)
theorem dX0_move_136 : decode cX0_move 136 = .ok (.iload_n 2, 1) := dk_28 (dk_at dksX0_move_5 21 rfl rfl)
theorem dX0_move_137 : decode cX0_move 137 = .ok (.iload 9, 2) := dk_21 9 (dk_at dksX0_move_5 22 rfl rfl)
theorem dX0_move_139 : decode cX0_move 139 = .ok (.iadd, 1) := dk_96 (dk_at dksX0_move_6 0 rfl rfl)
theorem dX0_move_140 : decode cX0_move 140 = .ok (.iaload, 1) := dk_46 (dk_at dksX0_move_6 1 rfl rfl)
theorem dX0_move_141 : decode cX0_move 141 = .ok (.invokevirtual 409, 3) := dk_182 1 153 (dk_at dksX0_move_6 2 rfl rfl)
theorem dX0_move_144 : decode cX0_move 144 = .ok (.iinc 9 1, 3) := dk_132 9 1 (dk_at dksX0_move_6 5 rfl rfl)
theorem dX0_move_147 : decode cX0_move 147 = .ok (.goto (-27), 3) := dk_167 255 229 (dk_at dksX0_move_6 8 rfl rfl)
theorem dX0_move_150 : decode cX0_move 150 = .ok (.iload 5, 2) := dk_21 5 (dk_at dksX0_move_6 11 rfl rfl)
theorem dX0_move_152 : decode cX0_move 152 = .ok (.ireturn, 1) := dk_172 (dk_at dksX0_move_6 13 rfl rfl)
theorem dX0_move_153 : decode cX0_move 153 = .ok (.astore 6, 2) := dk_58 6 (dk_at dksX0_move_6 14 rfl rfl)
theorem dX0_move_155 : decode cX0_move 155 = .ok (.aload_n 0, 1) := dk_42 (dk_at dksX0_move_6 16 rfl rfl)
theorem dX0_move_156 : decode cX0_move 156 = .ok (.aload 6, 2) := dk_25 6 (dk_at dksX0_move_6 17 rfl rfl)
theorem dX0_move_158 : decode cX0_move 158 = .ok (.invokevirtual 136, 3) := dk_182 0 136 (dk_at dksX0_move_6 19 rfl rfl)
theorem dX0_move_161 : decode cX0_move 161 = .ok (.ireturn, 1) := dk_172 (dk_at dksX0_move_6 22 rfl rfl)
abbrev cX0_image : ByteArray := prog_1_method_68_code
def yX0_image : MethodName := ⟨RX0, "image", "()I"⟩
def dkwX0_image_1 : List UInt8 := [180, 1, 170, 172]
abbrev dktX0_image_1 : List UInt8 := dkwX0_image_1 ++ []
def dkwX0_image_0 : List UInt8 := [42, 42, 180, 0, 57, 182, 1, 163, 181, 1, 167, 42, 89, 180, 1, 170, 4, 96, 181, 1, 170, 42]
abbrev dktX0_image_0 : List UInt8 := dkwX0_image_0 ++ dktX0_image_1
theorem dksX0_image_0 : cX0_image.data.toList.drop 0 = dktX0_image_0 := by decide +kernel
theorem dksX0_image_1 : cX0_image.data.toList.drop 22 = dktX0_image_1 := dk_seg dksX0_image_0 22 rfl rfl
theorem dX0_image_0 : decode cX0_image 0 = .ok (.aload_n 0, 1) := dk_42 (dk_at dksX0_image_0 0 rfl rfl)
theorem dX0_image_1 : decode cX0_image 1 = .ok (.aload_n 0, 1) := dk_42 (dk_at dksX0_image_0 1 rfl rfl)
theorem dX0_image_2 : decode cX0_image 2 = .ok (.getfield 57, 3) := dk_180 0 57 (dk_at dksX0_image_0 2 rfl rfl)
theorem dX0_image_5 : decode cX0_image 5 = .ok (.invokevirtual 419, 3) := dk_182 1 163 (dk_at dksX0_image_0 5 rfl rfl)
theorem dX0_image_8 : decode cX0_image 8 = .ok (.putfield 423, 3) := dk_181 1 167 (dk_at dksX0_image_0 8 rfl rfl)
theorem dX0_image_11 : decode cX0_image 11 = .ok (.aload_n 0, 1) := dk_42 (dk_at dksX0_image_0 11 rfl rfl)
theorem dX0_image_12 : decode cX0_image 12 = .ok (.dup, 1) := dk_89 (dk_at dksX0_image_0 12 rfl rfl)
theorem dX0_image_13 : decode cX0_image 13 = .ok (.getfield 426, 3) := dk_180 1 170 (dk_at dksX0_image_0 13 rfl rfl)
theorem dX0_image_16 : decode cX0_image 16 = .ok (.iconst 1, 1) := dk_4 (dk_at dksX0_image_0 16 rfl rfl)
theorem dX0_image_17 : decode cX0_image 17 = .ok (.iadd, 1) := dk_96 (dk_at dksX0_image_0 17 rfl rfl)
theorem dX0_image_18 : decode cX0_image 18 = .ok (.putfield 426, 3) := dk_181 1 170 (dk_at dksX0_image_0 18 rfl rfl)
theorem dX0_image_21 : decode cX0_image 21 = .ok (.aload_n 0, 1) := dk_42 (dk_at dksX0_image_0 21 rfl rfl)
theorem dX0_image_22 : decode cX0_image 22 = .ok (.getfield 426, 3) := dk_180 1 170 (dk_at dksX0_image_1 0 rfl rfl)
theorem dX0_image_25 : decode cX0_image 25 = .ok (.ireturn, 1) := dk_172 (dk_at dksX0_image_1 3 rfl rfl)
abbrev cX0_restore : ByteArray := prog_1_method_69_code
def yX0_restore : MethodName := ⟨RX0, "restore", "()I"⟩
def dkwX0_restore_1 : List UInt8 := [182, 1, 163, 181, 0, 57, 42, 180, 0, 57, 180, 0, 112, 182, 0, 116, 172, 76, 42, 43, 182, 0, 136, 172]
abbrev dktX0_restore_1 : List UInt8 := dkwX0_restore_1 ++ []
def dkwX0_restore_0 : List UInt8 := [42, 42, 180, 1, 167, 198, 0, 7, 4, 167, 0, 4, 3, 5, 182, 0, 126, 42, 42, 180, 1, 167]
abbrev dktX0_restore_0 : List UInt8 := dkwX0_restore_0 ++ dktX0_restore_1
theorem dksX0_restore_0 : cX0_restore.data.toList.drop 0 = dktX0_restore_0 := by decide +kernel
theorem dksX0_restore_1 : cX0_restore.data.toList.drop 22 = dktX0_restore_1 := dk_seg dksX0_restore_0 22 rfl rfl
theorem dX0_restore_0 : decode cX0_restore 0 = .ok (.aload_n 0, 1) := dk_42 (dk_at dksX0_restore_0 0 rfl rfl)
theorem dX0_restore_1 : decode cX0_restore 1 = .ok (.aload_n 0, 1) := dk_42 (dk_at dksX0_restore_0 1 rfl rfl)
theorem dX0_restore_2 : decode cX0_restore 2 = .ok (.getfield 423, 3) := dk_180 1 167 (dk_at dksX0_restore_0 2 rfl rfl)
theorem dX0_restore_5 : decode cX0_restore 5 = .ok (.ifnull 7, 3) := dk_198 0 7 (dk_at dksX0_restore_0 5 rfl rfl)
theorem dX0_restore_8 : decode cX0_restore 8 = .ok (.iconst 1, 1) := dk_4 (dk_at dksX0_restore_0 8 rfl rfl)
theorem dX0_restore_9 : decode cX0_restore 9 = .ok (.goto 4, 3) := dk_167 0 4 (dk_at dksX0_restore_0 9 rfl rfl)
theorem dX0_restore_12 : decode cX0_restore 12 = .ok (.iconst 0, 1) := dk_3 (dk_at dksX0_restore_0 12 rfl rfl)
theorem dX0_restore_13 : decode cX0_restore 13 = .ok (.iconst 2, 1) := dk_5 (dk_at dksX0_restore_0 13 rfl rfl)
theorem dX0_restore_14 : decode cX0_restore 14 = .ok (.invokevirtual 126, 3) := dk_182 0 126 (dk_at dksX0_restore_0 14 rfl rfl)
theorem dX0_restore_17 : decode cX0_restore 17 = .ok (.aload_n 0, 1) := dk_42 (dk_at dksX0_restore_0 17 rfl rfl)
theorem dX0_restore_18 : decode cX0_restore 18 = .ok (.aload_n 0, 1) := dk_42 (dk_at dksX0_restore_0 18 rfl rfl)
theorem dX0_restore_19 : decode cX0_restore 19 = .ok (.getfield 423, 3) := dk_180 1 167 (dk_at dksX0_restore_0 19 rfl rfl)
theorem dX0_restore_22 : decode cX0_restore 22 = .ok (.invokevirtual 419, 3) := dk_182 1 163 (dk_at dksX0_restore_1 0 rfl rfl)
theorem dX0_restore_25 : decode cX0_restore 25 = .ok (.putfield 57, 3) := dk_181 0 57 (dk_at dksX0_restore_1 3 rfl rfl)
theorem dX0_restore_28 : decode cX0_restore 28 = .ok (.aload_n 0, 1) := dk_42 (dk_at dksX0_restore_1 6 rfl rfl)
theorem dX0_restore_29 : decode cX0_restore 29 = .ok (.getfield 57, 3) := dk_180 0 57 (dk_at dksX0_restore_1 7 rfl rfl)
theorem dX0_restore_32 : decode cX0_restore 32 = .ok (.getfield 112, 3) := dk_180 0 112 (dk_at dksX0_restore_1 10 rfl rfl)
theorem dX0_restore_35 : decode cX0_restore 35 = .ok (.invokevirtual 116, 3) := dk_182 0 116 (dk_at dksX0_restore_1 13 rfl rfl)
theorem dX0_restore_38 : decode cX0_restore 38 = .ok (.ireturn, 1) := dk_172 (dk_at dksX0_restore_1 16 rfl rfl)
theorem dX0_restore_39 : decode cX0_restore 39 = .ok (.astore_n 1, 1) := dk_76 (dk_at dksX0_restore_1 17 rfl rfl)
theorem dX0_restore_40 : decode cX0_restore 40 = .ok (.aload_n 0, 1) := dk_42 (dk_at dksX0_restore_1 18 rfl rfl)
theorem dX0_restore_41 : decode cX0_restore 41 = .ok (.aload_n 1, 1) := dk_43 (dk_at dksX0_restore_1 19 rfl rfl)
theorem dX0_restore_42 : decode cX0_restore 42 = .ok (.invokevirtual 136, 3) := dk_182 0 136 (dk_at dksX0_restore_1 20 rfl rfl)
theorem dX0_restore_45 : decode cX0_restore 45 = .ok (.ireturn, 1) := dk_172 (dk_at dksX0_restore_1 23 rfl rfl)
abbrev cX0_tell : ByteArray := prog_1_method_70_code
def yX0_tell : MethodName := ⟨RX0, "tell", "(I)I"⟩
def dkwX0_tell_2 : List UInt8 := [96, 181, 1, 173, 42, 180, 0, 57, 180, 1, 173, 172, 77, 42, 44, 182, 0, 136, 172]
abbrev dktX0_tell_2 : List UInt8 := dkwX0_tell_2 ++ []
def dkwX0_tell_1 : List UInt8 := [180, 0, 57, 180, 1, 176, 42, 180, 0, 57, 180, 1, 173, 27, 79, 42, 180, 0, 57, 89, 180, 1, 173, 4]
abbrev dktX0_tell_1 : List UInt8 := dkwX0_tell_1 ++ dktX0_tell_2
def dkwX0_tell_0 : List UInt8 := [42, 42, 180, 0, 57, 180, 1, 173, 16, 20, 162, 0, 7, 4, 167, 0, 4, 3, 7, 182, 0, 126, 42]
abbrev dktX0_tell_0 : List UInt8 := dkwX0_tell_0 ++ dktX0_tell_1
theorem dksX0_tell_0 : cX0_tell.data.toList.drop 0 = dktX0_tell_0 := by decide +kernel
theorem dksX0_tell_1 : cX0_tell.data.toList.drop 23 = dktX0_tell_1 := dk_seg dksX0_tell_0 23 rfl rfl
theorem dksX0_tell_2 : cX0_tell.data.toList.drop 47 = dktX0_tell_2 := dk_seg dksX0_tell_1 24 rfl rfl
theorem dX0_tell_0 : decode cX0_tell 0 = .ok (.aload_n 0, 1) := dk_42 (dk_at dksX0_tell_0 0 rfl rfl)
theorem dX0_tell_1 : decode cX0_tell 1 = .ok (.aload_n 0, 1) := dk_42 (dk_at dksX0_tell_0 1 rfl rfl)
theorem dX0_tell_2 : decode cX0_tell 2 = .ok (.getfield 57, 3) := dk_180 0 57 (dk_at dksX0_tell_0 2 rfl rfl)
theorem dX0_tell_5 : decode cX0_tell 5 = .ok (.getfield 429, 3) := dk_180 1 173 (dk_at dksX0_tell_0 5 rfl rfl)
theorem dX0_tell_8 : decode cX0_tell 8 = .ok (.bipush 20, 2) := dk_16 20 (dk_at dksX0_tell_0 8 rfl rfl)
theorem dX0_tell_10 : decode cX0_tell 10 = .ok (.if_icmp .ge 7, 3) := dk_162 0 7 (dk_at dksX0_tell_0 10 rfl rfl)
theorem dX0_tell_13 : decode cX0_tell 13 = .ok (.iconst 1, 1) := dk_4 (dk_at dksX0_tell_0 13 rfl rfl)
theorem dX0_tell_14 : decode cX0_tell 14 = .ok (.goto 4, 3) := dk_167 0 4 (dk_at dksX0_tell_0 14 rfl rfl)
theorem dX0_tell_17 : decode cX0_tell 17 = .ok (.iconst 0, 1) := dk_3 (dk_at dksX0_tell_0 17 rfl rfl)
theorem dX0_tell_18 : decode cX0_tell 18 = .ok (.iconst 4, 1) := dk_7 (dk_at dksX0_tell_0 18 rfl rfl)
theorem dX0_tell_19 : decode cX0_tell 19 = .ok (.invokevirtual 126, 3) := dk_182 0 126 (dk_at dksX0_tell_0 19 rfl rfl)
theorem dX0_tell_22 : decode cX0_tell 22 = .ok (.aload_n 0, 1) := dk_42 (dk_at dksX0_tell_0 22 rfl rfl)
theorem dX0_tell_23 : decode cX0_tell 23 = .ok (.getfield 57, 3) := dk_180 0 57 (dk_at dksX0_tell_1 0 rfl rfl)
theorem dX0_tell_26 : decode cX0_tell 26 = .ok (.getfield 432, 3) := dk_180 1 176 (dk_at dksX0_tell_1 3 rfl rfl)
theorem dX0_tell_29 : decode cX0_tell 29 = .ok (.aload_n 0, 1) := dk_42 (dk_at dksX0_tell_1 6 rfl rfl)
theorem dX0_tell_30 : decode cX0_tell 30 = .ok (.getfield 57, 3) := dk_180 0 57 (dk_at dksX0_tell_1 7 rfl rfl)
theorem dX0_tell_33 : decode cX0_tell 33 = .ok (.getfield 429, 3) := dk_180 1 173 (dk_at dksX0_tell_1 10 rfl rfl)
theorem dX0_tell_36 : decode cX0_tell 36 = .ok (.iload_n 1, 1) := dk_27 (dk_at dksX0_tell_1 13 rfl rfl)
theorem dX0_tell_37 : decode cX0_tell 37 = .ok (.iastore, 1) := dk_79 (dk_at dksX0_tell_1 14 rfl rfl)
theorem dX0_tell_38 : decode cX0_tell 38 = .ok (.aload_n 0, 1) := dk_42 (dk_at dksX0_tell_1 15 rfl rfl)
theorem dX0_tell_39 : decode cX0_tell 39 = .ok (.getfield 57, 3) := dk_180 0 57 (dk_at dksX0_tell_1 16 rfl rfl)
theorem dX0_tell_42 : decode cX0_tell 42 = .ok (.dup, 1) := dk_89 (dk_at dksX0_tell_1 19 rfl rfl)
theorem dX0_tell_43 : decode cX0_tell 43 = .ok (.getfield 429, 3) := dk_180 1 173 (dk_at dksX0_tell_1 20 rfl rfl)
theorem dX0_tell_46 : decode cX0_tell 46 = .ok (.iconst 1, 1) := dk_4 (dk_at dksX0_tell_1 23 rfl rfl)
theorem dX0_tell_47 : decode cX0_tell 47 = .ok (.iadd, 1) := dk_96 (dk_at dksX0_tell_2 0 rfl rfl)
theorem dX0_tell_48 : decode cX0_tell 48 = .ok (.putfield 429, 3) := dk_181 1 173 (dk_at dksX0_tell_2 1 rfl rfl)
theorem dX0_tell_51 : decode cX0_tell 51 = .ok (.aload_n 0, 1) := dk_42 (dk_at dksX0_tell_2 4 rfl rfl)
theorem dX0_tell_52 : decode cX0_tell 52 = .ok (.getfield 57, 3) := dk_180 0 57 (dk_at dksX0_tell_2 5 rfl rfl)
theorem dX0_tell_55 : decode cX0_tell 55 = .ok (.getfield 429, 3) := dk_180 1 173 (dk_at dksX0_tell_2 8 rfl rfl)
theorem dX0_tell_58 : decode cX0_tell 58 = .ok (.ireturn, 1) := dk_172 (dk_at dksX0_tell_2 11 rfl rfl)
theorem dX0_tell_59 : decode cX0_tell 59 = .ok (.astore_n 2, 1) := dk_77 (dk_at dksX0_tell_2 12 rfl rfl)
theorem dX0_tell_60 : decode cX0_tell 60 = .ok (.aload_n 0, 1) := dk_42 (dk_at dksX0_tell_2 13 rfl rfl)
theorem dX0_tell_61 : decode cX0_tell 61 = .ok (.aload_n 2, 1) := dk_44 (dk_at dksX0_tell_2 14 rfl rfl)
theorem dX0_tell_62 : decode cX0_tell 62 = .ok (.invokevirtual 136, 3) := dk_182 0 136 (dk_at dksX0_tell_2 15 rfl rfl)
theorem dX0_tell_65 : decode cX0_tell 65 = .ok (.ireturn, 1) := dk_172 (dk_at dksX0_tell_2 18 rfl rfl)
abbrev cX0_learn : ByteArray := prog_1_method_71_code
def yX0_learn : MethodName := ⟨RX0, "learn", "(I)I"⟩
def dkwX0_learn_4 : List UInt8 := [182, 0, 136, 172]
abbrev dktX0_learn_4 : List UInt8 := dkwX0_learn_4 ++ []
def dkwX0_learn_3 : List UInt8 := [180, 1, 32, 29, 46, 159, 0, 7, 4, 29, 96, 172, 132, 3, 1, 167, 255, 217, 3, 172, 78, 42, 45]
abbrev dktX0_learn_3 : List UInt8 := dkwX0_learn_3 ++ dktX0_learn_4
def dkwX0_learn_2 : List UInt8 := [28, 162, 0, 40, 29, 16, 12, 162, 0, 24, 42, 180, 0, 57, 180, 1, 176, 29, 46, 42, 180, 0, 78]
abbrev dktX0_learn_2 : List UInt8 := dkwX0_learn_2 ++ dktX0_learn_3
def dkwX0_learn_1 : List UInt8 := [182, 0, 126, 42, 42, 27, 182, 1, 29, 154, 0, 7, 4, 167, 0, 4, 3, 5, 182, 0, 126, 3, 62, 29]
abbrev dktX0_learn_1 : List UInt8 := dkwX0_learn_1 ++ dktX0_learn_2
def dkwX0_learn_0 : List UInt8 := [42, 180, 0, 57, 180, 1, 173, 61, 42, 180, 0, 57, 3, 181, 1, 173, 42, 42, 27, 182, 1, 26, 4]
abbrev dktX0_learn_0 : List UInt8 := dkwX0_learn_0 ++ dktX0_learn_1
theorem dksX0_learn_0 : cX0_learn.data.toList.drop 0 = dktX0_learn_0 := by decide +kernel
theorem dksX0_learn_1 : cX0_learn.data.toList.drop 23 = dktX0_learn_1 := dk_seg dksX0_learn_0 23 rfl rfl
theorem dksX0_learn_2 : cX0_learn.data.toList.drop 47 = dktX0_learn_2 := dk_seg dksX0_learn_1 24 rfl rfl
theorem dksX0_learn_3 : cX0_learn.data.toList.drop 70 = dktX0_learn_3 := dk_seg dksX0_learn_2 23 rfl rfl
theorem dksX0_learn_4 : cX0_learn.data.toList.drop 93 = dktX0_learn_4 := dk_seg dksX0_learn_3 23 rfl rfl
theorem dX0_learn_0 : decode cX0_learn 0 = .ok (.aload_n 0, 1) := dk_42 (dk_at dksX0_learn_0 0 rfl rfl)
theorem dX0_learn_1 : decode cX0_learn 1 = .ok (.getfield 57, 3) := dk_180 0 57 (dk_at dksX0_learn_0 1 rfl rfl)
theorem dX0_learn_4 : decode cX0_learn 4 = .ok (.getfield 429, 3) := dk_180 1 173 (dk_at dksX0_learn_0 4 rfl rfl)
theorem dX0_learn_7 : decode cX0_learn 7 = .ok (.istore_n 2, 1) := dk_61 (dk_at dksX0_learn_0 7 rfl rfl)
theorem dX0_learn_8 : decode cX0_learn 8 = .ok (.aload_n 0, 1) := dk_42 (dk_at dksX0_learn_0 8 rfl rfl)
theorem dX0_learn_9 : decode cX0_learn 9 = .ok (.getfield 57, 3) := dk_180 0 57 (dk_at dksX0_learn_0 9 rfl rfl)
theorem dX0_learn_12 : decode cX0_learn 12 = .ok (.iconst 0, 1) := dk_3 (dk_at dksX0_learn_0 12 rfl rfl)
theorem dX0_learn_13 : decode cX0_learn 13 = .ok (.putfield 429, 3) := dk_181 1 173 (dk_at dksX0_learn_0 13 rfl rfl)
theorem dX0_learn_16 : decode cX0_learn 16 = .ok (.aload_n 0, 1) := dk_42 (dk_at dksX0_learn_0 16 rfl rfl)
theorem dX0_learn_17 : decode cX0_learn 17 = .ok (.aload_n 0, 1) := dk_42 (dk_at dksX0_learn_0 17 rfl rfl)
theorem dX0_learn_18 : decode cX0_learn 18 = .ok (.iload_n 1, 1) := dk_27 (dk_at dksX0_learn_0 18 rfl rfl)
theorem dX0_learn_19 : decode cX0_learn 19 = .ok (.invokevirtual 282, 3) := dk_182 1 26 (dk_at dksX0_learn_0 19 rfl rfl)
theorem dX0_learn_22 : decode cX0_learn 22 = .ok (.iconst 1, 1) := dk_4 (dk_at dksX0_learn_0 22 rfl rfl)
theorem dX0_learn_23 : decode cX0_learn 23 = .ok (.invokevirtual 126, 3) := dk_182 0 126 (dk_at dksX0_learn_1 0 rfl rfl)
theorem dX0_learn_26 : decode cX0_learn 26 = .ok (.aload_n 0, 1) := dk_42 (dk_at dksX0_learn_1 3 rfl rfl)
theorem dX0_learn_27 : decode cX0_learn 27 = .ok (.aload_n 0, 1) := dk_42 (dk_at dksX0_learn_1 4 rfl rfl)
theorem dX0_learn_28 : decode cX0_learn 28 = .ok (.iload_n 1, 1) := dk_27 (dk_at dksX0_learn_1 5 rfl rfl)
theorem dX0_learn_29 : decode cX0_learn 29 = .ok (.invokevirtual 285, 3) := dk_182 1 29 (dk_at dksX0_learn_1 6 rfl rfl)
theorem dX0_learn_32 : decode cX0_learn 32 = .ok (.ifCond .ne 7, 3) := dk_154 0 7 (dk_at dksX0_learn_1 9 rfl rfl)
theorem dX0_learn_35 : decode cX0_learn 35 = .ok (.iconst 1, 1) := dk_4 (dk_at dksX0_learn_1 12 rfl rfl)
theorem dX0_learn_36 : decode cX0_learn 36 = .ok (.goto 4, 3) := dk_167 0 4 (dk_at dksX0_learn_1 13 rfl rfl)
theorem dX0_learn_39 : decode cX0_learn 39 = .ok (.iconst 0, 1) := dk_3 (dk_at dksX0_learn_1 16 rfl rfl)
theorem dX0_learn_40 : decode cX0_learn 40 = .ok (.iconst 2, 1) := dk_5 (dk_at dksX0_learn_1 17 rfl rfl)
theorem dX0_learn_41 : decode cX0_learn 41 = .ok (.invokevirtual 126, 3) := dk_182 0 126 (dk_at dksX0_learn_1 18 rfl rfl)
theorem dX0_learn_44 : decode cX0_learn 44 = .ok (.iconst 0, 1) := dk_3 (dk_at dksX0_learn_1 21 rfl rfl)
theorem dX0_learn_45 : decode cX0_learn 45 = .ok (.istore_n 3, 1) := dk_62 (dk_at dksX0_learn_1 22 rfl rfl)
theorem dX0_learn_46 : decode cX0_learn 46 = .ok (.iload_n 3, 1) := dk_29 (dk_at dksX0_learn_1 23 rfl rfl)
theorem dX0_learn_47 : decode cX0_learn 47 = .ok (.iload_n 2, 1) := dk_28 (dk_at dksX0_learn_2 0 rfl rfl)
theorem dX0_learn_48 : decode cX0_learn 48 = .ok (.if_icmp .ge 40, 3) := dk_162 0 40 (dk_at dksX0_learn_2 1 rfl rfl)
theorem dX0_learn_51 : decode cX0_learn 51 = .ok (.iload_n 3, 1) := dk_29 (dk_at dksX0_learn_2 4 rfl rfl)
theorem dX0_learn_52 : decode cX0_learn 52 = .ok (.bipush 12, 2) := dk_16 12 (dk_at dksX0_learn_2 5 rfl rfl)
theorem dX0_learn_54 : decode cX0_learn 54 = .ok (.if_icmp .ge 24, 3) := dk_162 0 24 (dk_at dksX0_learn_2 7 rfl rfl)
theorem dX0_learn_57 : decode cX0_learn 57 = .ok (.aload_n 0, 1) := dk_42 (dk_at dksX0_learn_2 10 rfl rfl)
theorem dX0_learn_58 : decode cX0_learn 58 = .ok (.getfield 57, 3) := dk_180 0 57 (dk_at dksX0_learn_2 11 rfl rfl)
theorem dX0_learn_61 : decode cX0_learn 61 = .ok (.getfield 432, 3) := dk_180 1 176 (dk_at dksX0_learn_2 14 rfl rfl)
theorem dX0_learn_64 : decode cX0_learn 64 = .ok (.iload_n 3, 1) := dk_29 (dk_at dksX0_learn_2 17 rfl rfl)
theorem dX0_learn_65 : decode cX0_learn 65 = .ok (.iaload, 1) := dk_46 (dk_at dksX0_learn_2 18 rfl rfl)
theorem dX0_learn_66 : decode cX0_learn 66 = .ok (.aload_n 0, 1) := dk_42 (dk_at dksX0_learn_2 19 rfl rfl)
theorem dX0_learn_67 : decode cX0_learn 67 = .ok (.getfield 78, 3) := dk_180 0 78 (dk_at dksX0_learn_2 20 rfl rfl)
theorem dX0_learn_70 : decode cX0_learn 70 = .ok (.getfield 288, 3) := dk_180 1 32 (dk_at dksX0_learn_3 0 rfl rfl)
theorem dX0_learn_73 : decode cX0_learn 73 = .ok (.iload_n 3, 1) := dk_29 (dk_at dksX0_learn_3 3 rfl rfl)
theorem dX0_learn_74 : decode cX0_learn 74 = .ok (.iaload, 1) := dk_46 (dk_at dksX0_learn_3 4 rfl rfl)
theorem dX0_learn_75 : decode cX0_learn 75 = .ok (.if_icmp .eq 7, 3) := dk_159 0 7 (dk_at dksX0_learn_3 5 rfl rfl)
theorem dX0_learn_78 : decode cX0_learn 78 = .ok (.iconst 1, 1) := dk_4 (dk_at dksX0_learn_3 8 rfl rfl)
theorem dX0_learn_79 : decode cX0_learn 79 = .ok (.iload_n 3, 1) := dk_29 (dk_at dksX0_learn_3 9 rfl rfl)
theorem dX0_learn_80 : decode cX0_learn 80 = .ok (.iadd, 1) := dk_96 (dk_at dksX0_learn_3 10 rfl rfl)
theorem dX0_learn_81 : decode cX0_learn 81 = .ok (.ireturn, 1) := dk_172 (dk_at dksX0_learn_3 11 rfl rfl)
theorem dX0_learn_82 : decode cX0_learn 82 = .ok (.iinc 3 1, 3) := dk_132 3 1 (dk_at dksX0_learn_3 12 rfl rfl)
theorem dX0_learn_85 : decode cX0_learn 85 = .ok (.goto (-39), 3) := dk_167 255 217 (dk_at dksX0_learn_3 15 rfl rfl)
theorem dX0_learn_88 : decode cX0_learn 88 = .ok (.iconst 0, 1) := dk_3 (dk_at dksX0_learn_3 18 rfl rfl)
theorem dX0_learn_89 : decode cX0_learn 89 = .ok (.ireturn, 1) := dk_172 (dk_at dksX0_learn_3 19 rfl rfl)
theorem dX0_learn_90 : decode cX0_learn 90 = .ok (.astore_n 3, 1) := dk_78 (dk_at dksX0_learn_3 20 rfl rfl)
theorem dX0_learn_91 : decode cX0_learn 91 = .ok (.aload_n 0, 1) := dk_42 (dk_at dksX0_learn_3 21 rfl rfl)
theorem dX0_learn_92 : decode cX0_learn 92 = .ok (.aload_n 3, 1) := dk_45 (dk_at dksX0_learn_3 22 rfl rfl)
theorem dX0_learn_93 : decode cX0_learn 93 = .ok (.invokevirtual 136, 3) := dk_182 0 136 (dk_at dksX0_learn_4 0 rfl rfl)
theorem dX0_learn_96 : decode cX0_learn 96 = .ok (.ireturn, 1) := dk_172 (dk_at dksX0_learn_4 3 rfl rfl)
abbrev cX0_count : ByteArray := prog_1_method_72_code
def yX0_count : MethodName := ⟨RX0, "count", "(I)I"⟩
def dkwX0_count_4 : List UInt8 := [180, 0, 57, 180, 1, 173, 172, 42, 180, 0, 64, 180, 1, 116, 172, 77, 42, 44, 182, 0, 136, 172]
abbrev dktX0_count_4 : List UInt8 := dkwX0_count_4 ++ []
def dkwX0_count_3 : List UInt8 := [182, 0, 116, 120, 4, 100, 182, 1, 99, 172, 42, 182, 1, 41, 172, 42, 180, 0, 57, 180, 0, 168, 172, 42]
abbrev dktX0_count_3 : List UInt8 := dkwX0_count_3 ++ dktX0_count_4
def dkwX0_count_2 : List UInt8 := [42, 180, 0, 57, 180, 0, 112, 182, 0, 116, 172, 42, 180, 0, 57, 4, 42, 180, 0, 57, 180, 0, 112]
abbrev dktX0_count_2 : List UInt8 := dkwX0_count_2 ++ dktX0_count_3
def dkwX0_count_1 : List UInt8 := [170, 0, 0, 0, 0, 0, 0, 90, 0, 0, 0, 0, 0, 0, 0, 4, 0, 0, 0, 36, 0, 0, 0, 47, 0, 0, 0, 69, 0, 0, 0, 74, 0, 0, 0, 82]
abbrev dktX0_count_1 : List UInt8 := dkwX0_count_1 ++ dktX0_count_2
def dkwX0_count_0 : List UInt8 := [42, 27, 3, 8, 184, 0, 108, 4, 182, 0, 126, 27]
abbrev dktX0_count_0 : List UInt8 := dkwX0_count_0 ++ dktX0_count_1
theorem dksX0_count_0 : cX0_count.data.toList.drop 0 = dktX0_count_0 := by decide +kernel
theorem dksX0_count_1 : cX0_count.data.toList.drop 12 = dktX0_count_1 := dk_seg dksX0_count_0 12 rfl rfl
theorem dksX0_count_2 : cX0_count.data.toList.drop 48 = dktX0_count_2 := dk_seg dksX0_count_1 36 rfl rfl
theorem dksX0_count_3 : cX0_count.data.toList.drop 71 = dktX0_count_3 := dk_seg dksX0_count_2 23 rfl rfl
theorem dksX0_count_4 : cX0_count.data.toList.drop 95 = dktX0_count_4 := dk_seg dksX0_count_3 24 rfl rfl
theorem dX0_count_0 : decode cX0_count 0 = .ok (.aload_n 0, 1) := dk_42 (dk_at dksX0_count_0 0 rfl rfl)
theorem dX0_count_1 : decode cX0_count 1 = .ok (.iload_n 1, 1) := dk_27 (dk_at dksX0_count_0 1 rfl rfl)
theorem dX0_count_2 : decode cX0_count 2 = .ok (.iconst 0, 1) := dk_3 (dk_at dksX0_count_0 2 rfl rfl)
theorem dX0_count_3 : decode cX0_count 3 = .ok (.iconst 5, 1) := dk_8 (dk_at dksX0_count_0 3 rfl rfl)
theorem dX0_count_4 : decode cX0_count 4 = .ok (.invokestatic 108, 3) := dk_184 0 108 (dk_at dksX0_count_0 4 rfl rfl)
theorem dX0_count_7 : decode cX0_count 7 = .ok (.iconst 1, 1) := dk_4 (dk_at dksX0_count_0 7 rfl rfl)
theorem dX0_count_8 : decode cX0_count 8 = .ok (.invokevirtual 126, 3) := dk_182 0 126 (dk_at dksX0_count_0 8 rfl rfl)
theorem dX0_count_11 : decode cX0_count 11 = .ok (.iload_n 1, 1) := dk_27 (dk_at dksX0_count_0 11 rfl rfl)
theorem dX0_count_12 : decode cX0_count 12 = .ok (.tableswitch 90 0 4 #[36, 47, 69, 74, 82], 36) := by decide +kernel
theorem dX0_count_48 : decode cX0_count 48 = .ok (.aload_n 0, 1) := dk_42 (dk_at dksX0_count_2 0 rfl rfl)
theorem dX0_count_49 : decode cX0_count 49 = .ok (.getfield 57, 3) := dk_180 0 57 (dk_at dksX0_count_2 1 rfl rfl)
theorem dX0_count_52 : decode cX0_count 52 = .ok (.getfield 112, 3) := dk_180 0 112 (dk_at dksX0_count_2 4 rfl rfl)
theorem dX0_count_55 : decode cX0_count 55 = .ok (.invokevirtual 116, 3) := dk_182 0 116 (dk_at dksX0_count_2 7 rfl rfl)
theorem dX0_count_58 : decode cX0_count 58 = .ok (.ireturn, 1) := dk_172 (dk_at dksX0_count_2 10 rfl rfl)
theorem dX0_count_59 : decode cX0_count 59 = .ok (.aload_n 0, 1) := dk_42 (dk_at dksX0_count_2 11 rfl rfl)
theorem dX0_count_60 : decode cX0_count 60 = .ok (.getfield 57, 3) := dk_180 0 57 (dk_at dksX0_count_2 12 rfl rfl)
theorem dX0_count_63 : decode cX0_count 63 = .ok (.iconst 1, 1) := dk_4 (dk_at dksX0_count_2 15 rfl rfl)
theorem dX0_count_64 : decode cX0_count 64 = .ok (.aload_n 0, 1) := dk_42 (dk_at dksX0_count_2 16 rfl rfl)
theorem dX0_count_65 : decode cX0_count 65 = .ok (.getfield 57, 3) := dk_180 0 57 (dk_at dksX0_count_2 17 rfl rfl)
theorem dX0_count_68 : decode cX0_count 68 = .ok (.getfield 112, 3) := dk_180 0 112 (dk_at dksX0_count_2 20 rfl rfl)
theorem dX0_count_71 : decode cX0_count 71 = .ok (.invokevirtual 116, 3) := dk_182 0 116 (dk_at dksX0_count_3 0 rfl rfl)
theorem dX0_count_74 : decode cX0_count 74 = .ok (.ishl, 1) := dk_120 (dk_at dksX0_count_3 3 rfl rfl)
theorem dX0_count_75 : decode cX0_count 75 = .ok (.iconst 1, 1) := dk_4 (dk_at dksX0_count_3 4 rfl rfl)
theorem dX0_count_76 : decode cX0_count 76 = .ok (.isub, 1) := dk_100 (dk_at dksX0_count_3 5 rfl rfl)
theorem dX0_count_77 : decode cX0_count 77 = .ok (.invokevirtual 355, 3) := dk_182 1 99 (dk_at dksX0_count_3 6 rfl rfl)
theorem dX0_count_80 : decode cX0_count 80 = .ok (.ireturn, 1) := dk_172 (dk_at dksX0_count_3 9 rfl rfl)
theorem dX0_count_81 : decode cX0_count 81 = .ok (.aload_n 0, 1) := dk_42 (dk_at dksX0_count_3 10 rfl rfl)
theorem dX0_count_82 : decode cX0_count 82 = .ok (.invokevirtual 297, 3) := dk_182 1 41 (dk_at dksX0_count_3 11 rfl rfl)
theorem dX0_count_85 : decode cX0_count 85 = .ok (.ireturn, 1) := dk_172 (dk_at dksX0_count_3 14 rfl rfl)
theorem dX0_count_86 : decode cX0_count 86 = .ok (.aload_n 0, 1) := dk_42 (dk_at dksX0_count_3 15 rfl rfl)
theorem dX0_count_87 : decode cX0_count 87 = .ok (.getfield 57, 3) := dk_180 0 57 (dk_at dksX0_count_3 16 rfl rfl)
theorem dX0_count_90 : decode cX0_count 90 = .ok (.getfield 168, 3) := dk_180 0 168 (dk_at dksX0_count_3 19 rfl rfl)
theorem dX0_count_93 : decode cX0_count 93 = .ok (.ireturn, 1) := dk_172 (dk_at dksX0_count_3 22 rfl rfl)
theorem dX0_count_94 : decode cX0_count 94 = .ok (.aload_n 0, 1) := dk_42 (dk_at dksX0_count_3 23 rfl rfl)
theorem dX0_count_95 : decode cX0_count 95 = .ok (.getfield 57, 3) := dk_180 0 57 (dk_at dksX0_count_4 0 rfl rfl)
theorem dX0_count_98 : decode cX0_count 98 = .ok (.getfield 429, 3) := dk_180 1 173 (dk_at dksX0_count_4 3 rfl rfl)
theorem dX0_count_101 : decode cX0_count 101 = .ok (.ireturn, 1) := dk_172 (dk_at dksX0_count_4 6 rfl rfl)
theorem dX0_count_102 : decode cX0_count 102 = .ok (.aload_n 0, 1) := dk_42 (dk_at dksX0_count_4 7 rfl rfl)
theorem dX0_count_103 : decode cX0_count 103 = .ok (.getfield 64, 3) := dk_180 0 64 (dk_at dksX0_count_4 8 rfl rfl)
theorem dX0_count_106 : decode cX0_count 106 = .ok (.getfield 372, 3) := dk_180 1 116 (dk_at dksX0_count_4 11 rfl rfl)
theorem dX0_count_109 : decode cX0_count 109 = .ok (.ireturn, 1) := dk_172 (dk_at dksX0_count_4 14 rfl rfl)
theorem dX0_count_110 : decode cX0_count 110 = .ok (.astore_n 2, 1) := dk_77 (dk_at dksX0_count_4 15 rfl rfl)
theorem dX0_count_111 : decode cX0_count 111 = .ok (.aload_n 0, 1) := dk_42 (dk_at dksX0_count_4 16 rfl rfl)
theorem dX0_count_112 : decode cX0_count 112 = .ok (.aload_n 2, 1) := dk_44 (dk_at dksX0_count_4 17 rfl rfl)
theorem dX0_count_113 : decode cX0_count 113 = .ok (.invokevirtual 136, 3) := dk_182 0 136 (dk_at dksX0_count_4 18 rfl rfl)
theorem dX0_count_116 : decode cX0_count 116 = .ok (.ireturn, 1) := dk_172 (dk_at dksX0_count_4 21 rfl rfl)
abbrev cX0_told : ByteArray := prog_1_method_73_code
def yX0_told : MethodName := ⟨RX0, "told", "(I)I"⟩
def dkwX0_told_1 : List UInt8 := [172]
abbrev dktX0_told_1 : List UInt8 := dkwX0_told_1 ++ []
def dkwX0_told_0 : List UInt8 := [42, 27, 4, 8, 184, 0, 108, 4, 182, 0, 126, 42, 180, 0, 93, 27, 46, 172, 77, 42, 44, 182, 0, 136]
abbrev dktX0_told_0 : List UInt8 := dkwX0_told_0 ++ dktX0_told_1
theorem dksX0_told_0 : cX0_told.data.toList.drop 0 = dktX0_told_0 := by decide +kernel
theorem dksX0_told_1 : cX0_told.data.toList.drop 24 = dktX0_told_1 := dk_seg dksX0_told_0 24 rfl rfl
theorem dX0_told_0 : decode cX0_told 0 = .ok (.aload_n 0, 1) := dk_42 (dk_at dksX0_told_0 0 rfl rfl)
theorem dX0_told_1 : decode cX0_told 1 = .ok (.iload_n 1, 1) := dk_27 (dk_at dksX0_told_0 1 rfl rfl)
theorem dX0_told_2 : decode cX0_told 2 = .ok (.iconst 1, 1) := dk_4 (dk_at dksX0_told_0 2 rfl rfl)
theorem dX0_told_3 : decode cX0_told 3 = .ok (.iconst 5, 1) := dk_8 (dk_at dksX0_told_0 3 rfl rfl)
theorem dX0_told_4 : decode cX0_told 4 = .ok (.invokestatic 108, 3) := dk_184 0 108 (dk_at dksX0_told_0 4 rfl rfl)
theorem dX0_told_7 : decode cX0_told 7 = .ok (.iconst 1, 1) := dk_4 (dk_at dksX0_told_0 7 rfl rfl)
theorem dX0_told_8 : decode cX0_told 8 = .ok (.invokevirtual 126, 3) := dk_182 0 126 (dk_at dksX0_told_0 8 rfl rfl)
theorem dX0_told_11 : decode cX0_told 11 = .ok (.aload_n 0, 1) := dk_42 (dk_at dksX0_told_0 11 rfl rfl)
theorem dX0_told_12 : decode cX0_told 12 = .ok (.getfield 93, 3) := dk_180 0 93 (dk_at dksX0_told_0 12 rfl rfl)
theorem dX0_told_15 : decode cX0_told 15 = .ok (.iload_n 1, 1) := dk_27 (dk_at dksX0_told_0 15 rfl rfl)
theorem dX0_told_16 : decode cX0_told 16 = .ok (.iaload, 1) := dk_46 (dk_at dksX0_told_0 16 rfl rfl)
theorem dX0_told_17 : decode cX0_told 17 = .ok (.ireturn, 1) := dk_172 (dk_at dksX0_told_0 17 rfl rfl)
theorem dX0_told_18 : decode cX0_told 18 = .ok (.astore_n 2, 1) := dk_77 (dk_at dksX0_told_0 18 rfl rfl)
theorem dX0_told_19 : decode cX0_told 19 = .ok (.aload_n 0, 1) := dk_42 (dk_at dksX0_told_0 19 rfl rfl)
theorem dX0_told_20 : decode cX0_told 20 = .ok (.aload_n 2, 1) := dk_44 (dk_at dksX0_told_0 20 rfl rfl)
theorem dX0_told_21 : decode cX0_told 21 = .ok (.invokevirtual 136, 3) := dk_182 0 136 (dk_at dksX0_told_0 21 rfl rfl)
theorem dX0_told_24 : decode cX0_told 24 = .ok (.ireturn, 1) := dk_172 (dk_at dksX0_told_1 0 rfl rfl)
theorem q91 : (Jvm.Cond.initialized "NineDemands") ∈ lw_all := lw_g (lw_at lw_m1 1 rfl) rfl
theorem q139 : (Jvm.Cond.instantiable "NineDemands" (11 : Nat)) ∈ lw_all := lw_g (lw_at lw_m1 49 rfl) rfl
theorem q141 : (Jvm.Cond.instanceMethod ({ cls := "NineDemands", name := "<init>", desc := "()V" } : Jvm.MethodName)) ∈ lw_all := lw_g (lw_at lw_m1 51 rfl) rfl
theorem q142 : (Jvm.Cond.code ({ cls := "NineDemands", name := "<init>", desc := "()V" } : Jvm.MethodName) prog_1_method_13_code (2 : Nat) (Option.none : Option Jvm.ClassFile.FieldType)) ∈ lw_all := lw_g (lw_at lw_m1 52 rfl) rfl
theorem q143 : (Jvm.Cond.methodLink "NineDemands" (48 : Nat) ({ cls := "java/lang/Object", name := "<init>", desc := "()V" } : Jvm.MethodName)) ∈ lw_all := lw_g (lw_at lw_m1 53 rfl) rfl
theorem q146 : (Jvm.Cond.classLink "NineDemands" (8 : Nat) "NineDemands$Finding") ∈ lw_all := lw_g (lw_at lw_m1 56 rfl) rfl
theorem q186 : (Jvm.Cond.methodLink "NineDemands" (53 : Nat) ({ cls := "NineDemands$Finding", name := "<init>", desc := "()V" } : Jvm.MethodName)) ∈ lw_all := lw_g (lw_at lw_m1 96 rfl) rfl
theorem q199 : (Jvm.Cond.fieldLinkNest "NineDemands" (103 : Nat) "NineDemands$Finding" "code" "I" "NineDemands") ∈ lw_tbl := lw_at lw_m1 109 rfl
theorem q215 : (Jvm.Cond.classLink "NineDemands" (54 : Nat) "NineDemands$Village") ∈ lw_all := lw_g (lw_at lw_m1 125 rfl) rfl
theorem q217 : (Jvm.Cond.methodLink "NineDemands" (56 : Nat) ({ cls := "NineDemands$Village", name := "<init>", desc := "()V" } : Jvm.MethodName)) ∈ lw_all := lw_g (lw_at lw_m1 127 rfl) rfl
theorem q249 : (Jvm.Cond.fieldLinkNest "NineDemands" (146 : Nat) "NineDemands$Village" "told" "[I" "NineDemands") ∈ lw_tbl := lw_at lw_m1 159 rfl
theorem q251 : (Jvm.Cond.fieldLinkNest "NineDemands" (112 : Nat) "NineDemands$Village" "laws" "Ljava/util/ArrayList;" "NineDemands") ∈ lw_tbl := lw_at lw_m1 161 rfl
theorem q253 : (Jvm.Cond.fieldLinkNest "NineDemands" (171 : Nat) "NineDemands$Village" "tape" "[B" "NineDemands") ∈ lw_tbl := lw_at lw_m1 163 rfl
theorem q255 : (Jvm.Cond.fieldLinkNest "NineDemands" (168 : Nat) "NineDemands$Village" "taped" "I" "NineDemands") ∈ lw_tbl := lw_at lw_m1 165 rfl
theorem q257 : (Jvm.Cond.fieldLinkNest "NineDemands" (432 : Nat) "NineDemands$Village" "waiting" "[I" "NineDemands") ∈ lw_tbl := lw_at lw_m1 167 rfl
theorem q259 : (Jvm.Cond.fieldLinkNest "NineDemands" (429 : Nat) "NineDemands$Village" "waits" "I" "NineDemands") ∈ lw_tbl := lw_at lw_m1 169 rfl
theorem q274 : (Jvm.Cond.classLink "NineDemands" (61 : Nat) "NineDemands$Trace") ∈ lw_all := lw_g (lw_at lw_m1 184 rfl) rfl
theorem q276 : (Jvm.Cond.methodLinkNest "NineDemands" (63 : Nat) ({ cls := "NineDemands$Trace", name := "<init>", desc := "()V" } : Jvm.MethodName) "NineDemands") ∈ lw_tbl := lw_at lw_m1 186 rfl
theorem q281 : (Jvm.Cond.fieldLinkNest "NineDemands" (393 : Nat) "NineDemands$Trace" "ran" "[I" "NineDemands") ∈ lw_tbl := lw_at lw_m1 191 rfl
theorem q283 : (Jvm.Cond.fieldLinkNest "NineDemands" (372 : Nat) "NineDemands$Trace" "many" "I" "NineDemands") ∈ lw_tbl := lw_at lw_m1 193 rfl
theorem q289 : (Jvm.Cond.classLink "NineDemands" (68 : Nat) "NineDemands$Facts") ∈ lw_all := lw_g (lw_at lw_m1 199 rfl) rfl
theorem q291 : (Jvm.Cond.methodLinkNest "NineDemands" (70 : Nat) ({ cls := "NineDemands$Facts", name := "<init>", desc := "()V" } : Jvm.MethodName) "NineDemands") ∈ lw_tbl := lw_at lw_m1 201 rfl
theorem q300 : (Jvm.Cond.classLink "NineDemands" (75 : Nat) "NineDemands$Search") ∈ lw_all := lw_g (lw_at lw_m1 210 rfl) rfl
theorem q302 : (Jvm.Cond.methodLinkNest "NineDemands" (77 : Nat) ({ cls := "NineDemands$Search", name := "<init>", desc := "()V" } : Jvm.MethodName) "NineDemands") ∈ lw_tbl := lw_at lw_m1 212 rfl
theorem q322 : (Jvm.Cond.fieldLinkNest "NineDemands" (257 : Nat) "NineDemands$Search" "web" "LNineDemands$Web;" "NineDemands") ∈ lw_tbl := lw_at lw_m1 232 rfl
theorem q325 : (Jvm.Cond.fieldLinkNest "NineDemands" (288 : Nat) "NineDemands$Search" "rule" "[I" "NineDemands") ∈ lw_tbl := lw_at lw_m1 235 rfl
theorem q339 : (Jvm.Cond.classLink "NineDemands" (82 : Nat) "NineDemands$Showing") ∈ lw_all := lw_g (lw_at lw_m2 9 rfl) rfl
theorem q341 : (Jvm.Cond.methodLinkNest "NineDemands" (84 : Nat) ({ cls := "NineDemands$Showing", name := "<init>", desc := "()V" } : Jvm.MethodName) "NineDemands") ∈ lw_tbl := lw_at lw_m2 11 rfl
theorem q346 : (Jvm.Cond.fieldLinkNest "NineDemands" (324 : Nat) "NineDemands$Showing" "steps" "[I" "NineDemands") ∈ lw_tbl := lw_at lw_m2 16 rfl
theorem q349 : (Jvm.Cond.fieldLinkNest "NineDemands" (323 : Nat) "NineDemands$Showing" "many" "I" "NineDemands") ∈ lw_tbl := lw_at lw_m2 19 rfl
theorem q351 : (Jvm.Cond.fieldLinkNest "NineDemands" (327 : Nat) "NineDemands$Showing" "isProof" "Z" "NineDemands") ∈ lw_tbl := lw_at lw_m2 21 rfl
theorem q361 : (Jvm.Cond.classLink "NineDemands" (96 : Nat) "NineDemands$Shelf") ∈ lw_all := lw_g (lw_at lw_m2 31 rfl) rfl
theorem q364 : (Jvm.Cond.methodLinkNest "NineDemands" (102 : Nat) ({ cls := "NineDemands$Shelf", name := "<init>", desc := "()V" } : Jvm.MethodName) "NineDemands") ∈ lw_tbl := lw_at lw_m2 34 rfl
theorem q368 : (Jvm.Cond.fieldLinkNest "NineDemands" (122 : Nat) "NineDemands$Shelf" "held" "Ljava/lang/Object;" "NineDemands") ∈ lw_tbl := lw_at lw_m2 38 rfl
theorem q372 : (Jvm.Cond.fieldLink "NineDemands" (3 : Nat) "NineDemands" "finding" "LNineDemands$Finding;") ∈ lw_all := lw_g (lw_at lw_m2 42 rfl) rfl
theorem q373 : (Jvm.Cond.fieldLink "NineDemands" (57 : Nat) "NineDemands" "village" "LNineDemands$Village;") ∈ lw_all := lw_g (lw_at lw_m2 43 rfl) rfl
theorem q374 : (Jvm.Cond.fieldLink "NineDemands" (423 : Nat) "NineDemands" "image" "LNineDemands$Village;") ∈ lw_all := lw_g (lw_at lw_m2 44 rfl) rfl
theorem q375 : (Jvm.Cond.fieldLink "NineDemands" (426 : Nat) "NineDemands" "images" "I") ∈ lw_all := lw_g (lw_at lw_m2 45 rfl) rfl
theorem q376 : (Jvm.Cond.fieldLink "NineDemands" (64 : Nat) "NineDemands" "trace" "LNineDemands$Trace;") ∈ lw_all := lw_g (lw_at lw_m2 46 rfl) rfl
theorem q377 : (Jvm.Cond.fieldLink "NineDemands" (71 : Nat) "NineDemands" "facts" "LNineDemands$Facts;") ∈ lw_all := lw_g (lw_at lw_m2 47 rfl) rfl
theorem q378 : (Jvm.Cond.fieldLink "NineDemands" (78 : Nat) "NineDemands" "search" "LNineDemands$Search;") ∈ lw_all := lw_g (lw_at lw_m2 48 rfl) rfl
theorem q379 : (Jvm.Cond.fieldLink "NineDemands" (85 : Nat) "NineDemands" "showing" "LNineDemands$Showing;") ∈ lw_all := lw_g (lw_at lw_m2 49 rfl) rfl
theorem q380 : (Jvm.Cond.fieldLink "NineDemands" (89 : Nat) "NineDemands" "formedRule" "[I") ∈ lw_all := lw_g (lw_at lw_m2 50 rfl) rfl
theorem q381 : (Jvm.Cond.fieldLink "NineDemands" (93 : Nat) "NineDemands" "errors" "[I") ∈ lw_all := lw_g (lw_at lw_m2 51 rfl) rfl
theorem q382 : (Jvm.Cond.fieldLink "NineDemands" (98 : Nat) "NineDemands" "sheets" "[LNineDemands$Shelf;") ∈ lw_all := lw_g (lw_at lw_m2 52 rfl) rfl
theorem q383 : (Jvm.Cond.laysFinal "NineDemands" "NineDemands" "finding" "LNineDemands$Finding;") ∈ lw_all := lw_g (lw_at lw_m2 53 rfl) rfl
theorem q384 : (Jvm.Cond.soleField "NineDemands" "finding") ∈ lw_all := lw_g (lw_at lw_m2 54 rfl) rfl
theorem q385 : (Jvm.Cond.lays "NineDemands" "NineDemands" "village" "LNineDemands$Village;") ∈ lw_all := lw_g (lw_at lw_m2 55 rfl) rfl
theorem q386 : (Jvm.Cond.soleField "NineDemands" "village") ∈ lw_all := lw_g (lw_at lw_m2 56 rfl) rfl
theorem q387 : (Jvm.Cond.lays "NineDemands" "NineDemands" "image" "LNineDemands$Village;") ∈ lw_all := lw_g (lw_at lw_m2 57 rfl) rfl
theorem q388 : (Jvm.Cond.soleField "NineDemands" "image") ∈ lw_all := lw_g (lw_at lw_m2 58 rfl) rfl
theorem q389 : (Jvm.Cond.lays "NineDemands" "NineDemands" "images" "I") ∈ lw_all := lw_g (lw_at lw_m2 59 rfl) rfl
theorem q390 : (Jvm.Cond.soleField "NineDemands" "images") ∈ lw_all := lw_g (lw_at lw_m2 60 rfl) rfl
theorem q391 : (Jvm.Cond.laysFinal "NineDemands" "NineDemands" "trace" "LNineDemands$Trace;") ∈ lw_all := lw_g (lw_at lw_m2 61 rfl) rfl
theorem q392 : (Jvm.Cond.soleField "NineDemands" "trace") ∈ lw_all := lw_g (lw_at lw_m2 62 rfl) rfl
theorem q393 : (Jvm.Cond.laysFinal "NineDemands" "NineDemands" "facts" "LNineDemands$Facts;") ∈ lw_all := lw_g (lw_at lw_m2 63 rfl) rfl
theorem q394 : (Jvm.Cond.soleField "NineDemands" "facts") ∈ lw_all := lw_g (lw_at lw_m2 64 rfl) rfl
theorem q395 : (Jvm.Cond.laysFinal "NineDemands" "NineDemands" "search" "LNineDemands$Search;") ∈ lw_all := lw_g (lw_at lw_m2 65 rfl) rfl
theorem q396 : (Jvm.Cond.soleField "NineDemands" "search") ∈ lw_all := lw_g (lw_at lw_m2 66 rfl) rfl
theorem q397 : (Jvm.Cond.laysFinal "NineDemands" "NineDemands" "showing" "LNineDemands$Showing;") ∈ lw_all := lw_g (lw_at lw_m2 67 rfl) rfl
theorem q398 : (Jvm.Cond.soleField "NineDemands" "showing") ∈ lw_all := lw_g (lw_at lw_m2 68 rfl) rfl
theorem q399 : (Jvm.Cond.laysFinal "NineDemands" "NineDemands" "formedRule" "[I") ∈ lw_all := lw_g (lw_at lw_m2 69 rfl) rfl
theorem q400 : (Jvm.Cond.soleField "NineDemands" "formedRule") ∈ lw_all := lw_g (lw_at lw_m2 70 rfl) rfl
theorem q401 : (Jvm.Cond.laysFinal "NineDemands" "NineDemands" "errors" "[I") ∈ lw_all := lw_g (lw_at lw_m2 71 rfl) rfl
theorem q402 : (Jvm.Cond.soleField "NineDemands" "errors") ∈ lw_all := lw_g (lw_at lw_m2 72 rfl) rfl
theorem q403 : (Jvm.Cond.laysFinal "NineDemands" "NineDemands" "sheets" "[LNineDemands$Shelf;") ∈ lw_all := lw_g (lw_at lw_m2 73 rfl) rfl
theorem q404 : (Jvm.Cond.soleField "NineDemands" "sheets") ∈ lw_all := lw_g (lw_at lw_m2 74 rfl) rfl
theorem q405 : (Jvm.Cond.superclass "NineDemands" "java/lang/Object") ∈ lw_all := lw_g (lw_at lw_m2 75 rfl) rfl
theorem q407 : (Jvm.Cond.instanceMethod ({ cls := "NineDemands", name := "hall", desc := "(II)I" } : Jvm.MethodName)) ∈ lw_all := lw_g (lw_at lw_m2 77 rfl) rfl
theorem q408 : (Jvm.Cond.selects "NineDemands" ({ cls := "NineDemands", name := "hall", desc := "(II)I" } : Jvm.MethodName) ({ cls := "NineDemands", name := "hall", desc := "(II)I" } : Jvm.MethodName)) ∈ lw_all := lw_g (lw_at lw_m2 78 rfl) rfl
theorem q409 : (Jvm.Cond.codeWith ({ cls := "NineDemands", name := "hall", desc := "(II)I" } : Jvm.MethodName) prog_1_method_22_code (4 : Nat) (Option.some Jvm.ClassFile.FieldType.int) [((0 : Nat), (71 : Nat), (72 : Nat), (8 : Nat))]) ∈ lw_all := lw_g (lw_at lw_m2 79 rfl) rfl
theorem q410 : (Jvm.Cond.methodLink "NineDemands" (132 : Nat) ({ cls := "NineDemands", name := "isHall", desc := "(I)Z" } : Jvm.MethodName)) ∈ lw_all := lw_g (lw_at lw_m2 80 rfl) rfl
theorem q411 : (Jvm.Cond.static ({ cls := "NineDemands", name := "isHall", desc := "(I)Z" } : Jvm.MethodName)) ∈ lw_all := lw_g (lw_at lw_m2 81 rfl) rfl
theorem q412 : (Jvm.Cond.code ({ cls := "NineDemands", name := "isHall", desc := "(I)Z" } : Jvm.MethodName) prog_1_method_15_code (1 : Nat) (Option.some Jvm.ClassFile.FieldType.boolean)) ∈ lw_all := lw_g (lw_at lw_m2 82 rfl) rfl
theorem q413 : (Jvm.Cond.methodLink "NineDemands" (108 : Nat) ({ cls := "NineDemands", name := "in", desc := "(III)Z" } : Jvm.MethodName)) ∈ lw_all := lw_g (lw_at lw_m2 83 rfl) rfl
theorem q414 : (Jvm.Cond.static ({ cls := "NineDemands", name := "in", desc := "(III)Z" } : Jvm.MethodName)) ∈ lw_all := lw_g (lw_at lw_m2 84 rfl) rfl
theorem q415 : (Jvm.Cond.code ({ cls := "NineDemands", name := "in", desc := "(III)Z" } : Jvm.MethodName) prog_1_method_1_code (3 : Nat) (Option.some Jvm.ClassFile.FieldType.boolean)) ∈ lw_all := lw_g (lw_at lw_m2 85 rfl) rfl
theorem q416 : (Jvm.Cond.methodLink "NineDemands" (126 : Nat) ({ cls := "NineDemands", name := "need", desc := "(ZI)V" } : Jvm.MethodName)) ∈ lw_all := lw_g (lw_at lw_m2 86 rfl) rfl
theorem q417 : (Jvm.Cond.privateMethod ({ cls := "NineDemands", name := "need", desc := "(ZI)V" } : Jvm.MethodName)) ∈ lw_tbl := lw_at lw_m2 87 rfl
theorem q418 : (Jvm.Cond.instanceMethod ({ cls := "NineDemands", name := "need", desc := "(ZI)V" } : Jvm.MethodName)) ∈ lw_all := lw_g (lw_at lw_m2 88 rfl) rfl
theorem q419 : (Jvm.Cond.code ({ cls := "NineDemands", name := "need", desc := "(ZI)V" } : Jvm.MethodName) prog_1_method_3_code (3 : Nat) (Option.none : Option Jvm.ClassFile.FieldType)) ∈ lw_all := lw_g (lw_at lw_m2 89 rfl) rfl
theorem q420 : (Jvm.Cond.methodLink "NineDemands" (7 : Nat) ({ cls := "NineDemands$Finding", name := "of", desc := "(I)LNineDemands$Finding;" } : Jvm.MethodName)) ∈ lw_all := lw_g (lw_at lw_m2 90 rfl) rfl
theorem q424 : (Jvm.Cond.methodLink "NineDemands" (13 : Nat) ({ cls := "NineDemands", name := "peopleOf", desc := "(I)I" } : Jvm.MethodName)) ∈ lw_all := lw_g (lw_at lw_m2 94 rfl) rfl
theorem q425 : (Jvm.Cond.static ({ cls := "NineDemands", name := "peopleOf", desc := "(I)I" } : Jvm.MethodName)) ∈ lw_all := lw_g (lw_at lw_m2 95 rfl) rfl
theorem q426 : (Jvm.Cond.code ({ cls := "NineDemands", name := "peopleOf", desc := "(I)I" } : Jvm.MethodName) prog_1_method_4_code (1 : Nat) (Option.some Jvm.ClassFile.FieldType.int)) ∈ lw_all := lw_g (lw_at lw_m2 96 rfl) rfl
theorem q427 : (Jvm.Cond.methodLink "NineDemands" (21 : Nat) ({ cls := "NineDemands", name := "wanting", desc := "(II)I" } : Jvm.MethodName)) ∈ lw_all := lw_g (lw_at lw_m2 97 rfl) rfl
theorem q428 : (Jvm.Cond.static ({ cls := "NineDemands", name := "wanting", desc := "(II)I" } : Jvm.MethodName)) ∈ lw_all := lw_g (lw_at lw_m2 98 rfl) rfl
theorem q429 : (Jvm.Cond.code ({ cls := "NineDemands", name := "wanting", desc := "(II)I" } : Jvm.MethodName) prog_1_method_6_code (4 : Nat) (Option.some Jvm.ClassFile.FieldType.int)) ∈ lw_all := lw_g (lw_at lw_m2 99 rfl) rfl
theorem q430 : (Jvm.Cond.methodLink "NineDemands" (17 : Nat) ({ cls := "NineDemands", name := "wants", desc := "(II)I" } : Jvm.MethodName)) ∈ lw_all := lw_g (lw_at lw_m2 100 rfl) rfl
theorem q431 : (Jvm.Cond.static ({ cls := "NineDemands", name := "wants", desc := "(II)I" } : Jvm.MethodName)) ∈ lw_all := lw_g (lw_at lw_m2 101 rfl) rfl
theorem q432 : (Jvm.Cond.code ({ cls := "NineDemands", name := "wants", desc := "(II)I" } : Jvm.MethodName) prog_1_method_5_code (2 : Nat) (Option.some Jvm.ClassFile.FieldType.int)) ∈ lw_all := lw_g (lw_at lw_m2 102 rfl) rfl
theorem q433 : (Jvm.Cond.methodLink "NineDemands" (136 : Nat) ({ cls := "NineDemands", name := "finds", desc := "(LNineDemands$Finding;)I" } : Jvm.MethodName)) ∈ lw_all := lw_g (lw_at lw_m2 103 rfl) rfl
theorem q434 : (Jvm.Cond.privateMethod ({ cls := "NineDemands", name := "finds", desc := "(LNineDemands$Finding;)I" } : Jvm.MethodName)) ∈ lw_tbl := lw_at lw_m2 104 rfl
theorem q435 : (Jvm.Cond.instanceMethod ({ cls := "NineDemands", name := "finds", desc := "(LNineDemands$Finding;)I" } : Jvm.MethodName)) ∈ lw_all := lw_g (lw_at lw_m2 105 rfl) rfl
theorem q436 : (Jvm.Cond.code ({ cls := "NineDemands", name := "finds", desc := "(LNineDemands$Finding;)I" } : Jvm.MethodName) prog_1_method_14_code (2 : Nat) (Option.some Jvm.ClassFile.FieldType.int)) ∈ lw_all := lw_g (lw_at lw_m2 106 rfl) rfl
theorem q437 : (Jvm.Cond.constant "NineDemands" (107 : Nat) (-1000000 : Int32)) ∈ lw_all := lw_g (lw_at lw_m2 107 rfl) rfl
theorem q439 : (Jvm.Cond.instanceMethod ({ cls := "NineDemands", name := "moved", desc := "(II)I" } : Jvm.MethodName)) ∈ lw_all := lw_g (lw_at lw_m2 109 rfl) rfl
theorem q440 : (Jvm.Cond.selects "NineDemands" ({ cls := "NineDemands", name := "moved", desc := "(II)I" } : Jvm.MethodName) ({ cls := "NineDemands", name := "moved", desc := "(II)I" } : Jvm.MethodName)) ∈ lw_all := lw_g (lw_at lw_m2 110 rfl) rfl
theorem q441 : (Jvm.Cond.codeWith ({ cls := "NineDemands", name := "moved", desc := "(II)I" } : Jvm.MethodName) prog_1_method_23_code (4 : Nat) (Option.some Jvm.ClassFile.FieldType.int) [((0 : Nat), (51 : Nat), (52 : Nat), (8 : Nat))]) ∈ lw_all := lw_g (lw_at lw_m2 111 rfl) rfl
theorem q442 : (Jvm.Cond.methodLink "NineDemands" (140 : Nat) ({ cls := "NineDemands", name := "changed", desc := "(II)I" } : Jvm.MethodName)) ∈ lw_all := lw_g (lw_at lw_m2 112 rfl) rfl
theorem q443 : (Jvm.Cond.static ({ cls := "NineDemands", name := "changed", desc := "(II)I" } : Jvm.MethodName)) ∈ lw_all := lw_g (lw_at lw_m2 113 rfl) rfl
theorem q444 : (Jvm.Cond.code ({ cls := "NineDemands", name := "changed", desc := "(II)I" } : Jvm.MethodName) prog_1_method_7_code (2 : Nat) (Option.some Jvm.ClassFile.FieldType.int)) ∈ lw_all := lw_g (lw_at lw_m2 114 rfl) rfl
theorem q446 : (Jvm.Cond.instanceMethod ({ cls := "NineDemands", name := "choose", desc := "(II)I" } : Jvm.MethodName)) ∈ lw_all := lw_g (lw_at lw_m2 116 rfl) rfl
theorem q447 : (Jvm.Cond.selects "NineDemands" ({ cls := "NineDemands", name := "choose", desc := "(II)I" } : Jvm.MethodName) ({ cls := "NineDemands", name := "choose", desc := "(II)I" } : Jvm.MethodName)) ∈ lw_all := lw_g (lw_at lw_m2 117 rfl) rfl
theorem q448 : (Jvm.Cond.codeWith ({ cls := "NineDemands", name := "choose", desc := "(II)I" } : Jvm.MethodName) prog_1_method_24_code (4 : Nat) (Option.some Jvm.ClassFile.FieldType.int) [((0 : Nat), (45 : Nat), (46 : Nat), (8 : Nat))]) ∈ lw_all := lw_g (lw_at lw_m2 118 rfl) rfl
theorem q449 : (Jvm.Cond.methodLink "NineDemands" (143 : Nat) ({ cls := "NineDemands", name := "isChoice", desc := "(I)Z" } : Jvm.MethodName)) ∈ lw_all := lw_g (lw_at lw_m2 119 rfl) rfl
theorem q450 : (Jvm.Cond.static ({ cls := "NineDemands", name := "isChoice", desc := "(I)Z" } : Jvm.MethodName)) ∈ lw_all := lw_g (lw_at lw_m2 120 rfl) rfl
theorem q451 : (Jvm.Cond.code ({ cls := "NineDemands", name := "isChoice", desc := "(I)Z" } : Jvm.MethodName) prog_1_method_16_code (1 : Nat) (Option.some Jvm.ClassFile.FieldType.boolean)) ∈ lw_all := lw_g (lw_at lw_m2 121 rfl) rfl
theorem q453 : (Jvm.Cond.instanceMethod ({ cls := "NineDemands", name := "chosen", desc := "(I)I" } : Jvm.MethodName)) ∈ lw_all := lw_g (lw_at lw_m2 123 rfl) rfl
theorem q454 : (Jvm.Cond.selects "NineDemands" ({ cls := "NineDemands", name := "chosen", desc := "(I)I" } : Jvm.MethodName) ({ cls := "NineDemands", name := "chosen", desc := "(I)I" } : Jvm.MethodName)) ∈ lw_all := lw_g (lw_at lw_m2 124 rfl) rfl
theorem q455 : (Jvm.Cond.codeWith ({ cls := "NineDemands", name := "chosen", desc := "(I)I" } : Jvm.MethodName) prog_1_method_25_code (3 : Nat) (Option.some Jvm.ClassFile.FieldType.int) [((0 : Nat), (18 : Nat), (19 : Nat), (8 : Nat))]) ∈ lw_all := lw_g (lw_at lw_m2 125 rfl) rfl
theorem q457 : (Jvm.Cond.instanceMethod ({ cls := "NineDemands", name := "block", desc := "(I)I" } : Jvm.MethodName)) ∈ lw_all := lw_g (lw_at lw_m2 127 rfl) rfl
theorem q458 : (Jvm.Cond.selects "NineDemands" ({ cls := "NineDemands", name := "block", desc := "(I)I" } : Jvm.MethodName) ({ cls := "NineDemands", name := "block", desc := "(I)I" } : Jvm.MethodName)) ∈ lw_all := lw_g (lw_at lw_m2 128 rfl) rfl
theorem q459 : (Jvm.Cond.codeWith ({ cls := "NineDemands", name := "block", desc := "(I)I" } : Jvm.MethodName) prog_1_method_26_code (6 : Nat) (Option.some Jvm.ClassFile.FieldType.int) [((0 : Nat), (98 : Nat), (99 : Nat), (8 : Nat))]) ∈ lw_all := lw_g (lw_at lw_m2 129 rfl) rfl
theorem q460 : (Jvm.Cond.methodLink "NineDemands" (149 : Nat) ({ cls := "NineDemands", name := "isSheet", desc := "(I)Z" } : Jvm.MethodName)) ∈ lw_all := lw_g (lw_at lw_m2 130 rfl) rfl
theorem q461 : (Jvm.Cond.static ({ cls := "NineDemands", name := "isSheet", desc := "(I)Z" } : Jvm.MethodName)) ∈ lw_all := lw_g (lw_at lw_m2 131 rfl) rfl
theorem q462 : (Jvm.Cond.code ({ cls := "NineDemands", name := "isSheet", desc := "(I)Z" } : Jvm.MethodName) prog_1_method_17_code (1 : Nat) (Option.some Jvm.ClassFile.FieldType.boolean)) ∈ lw_all := lw_g (lw_at lw_m2 132 rfl) rfl
theorem q463 : (Jvm.Cond.methodLink "NineDemands" (152 : Nat) ({ cls := "NineDemands", name := "sheetAt", desc := "(I)LNineDemands$Sheet;" } : Jvm.MethodName)) ∈ lw_all := lw_g (lw_at lw_m2 133 rfl) rfl
theorem q464 : (Jvm.Cond.privateMethod ({ cls := "NineDemands", name := "sheetAt", desc := "(I)LNineDemands$Sheet;" } : Jvm.MethodName)) ∈ lw_tbl := lw_at lw_m2 134 rfl
theorem q465 : (Jvm.Cond.instanceMethod ({ cls := "NineDemands", name := "sheetAt", desc := "(I)LNineDemands$Sheet;" } : Jvm.MethodName)) ∈ lw_all := lw_g (lw_at lw_m2 135 rfl) rfl
theorem q466 : (Jvm.Cond.code ({ cls := "NineDemands", name := "sheetAt", desc := "(I)LNineDemands$Sheet;" } : Jvm.MethodName) prog_1_method_21_code (2 : Nat) (Option.some (Jvm.ClassFile.FieldType.object "NineDemands$Sheet"))) ∈ lw_all := lw_g (lw_at lw_m2 136 rfl) rfl
theorem q467 : (Jvm.Cond.classLink "NineDemands" (130 : Nat) "NineDemands$Sheet") ∈ lw_all := lw_g (lw_at lw_m2 137 rfl) rfl
theorem q468 : (Jvm.Cond.methodLink "NineDemands" (156 : Nat) ({ cls := "NineDemands$Sheet", name := "size", desc := "()I" } : Jvm.MethodName)) ∈ lw_all := lw_g (lw_at lw_m2 138 rfl) rfl
theorem q480 : (Jvm.Cond.methodLink "NineDemands" (157 : Nat) ({ cls := "java/lang/Math", name := "min", desc := "(II)I" } : Jvm.MethodName)) ∈ lw_all := lw_g (lw_at lw_m2 150 rfl) rfl
theorem q483 : (Jvm.Cond.methodLink "NineDemands" (162 : Nat) ({ cls := "NineDemands$Sheet", name := "get", desc := "(I)I" } : Jvm.MethodName)) ∈ lw_all := lw_g (lw_at lw_m2 153 rfl) rfl
theorem q496 : (Jvm.Cond.instanceMethod ({ cls := "NineDemands", name := "form", desc := "(I)I" } : Jvm.MethodName)) ∈ lw_all := lw_g (lw_at lw_m2 166 rfl) rfl
theorem q497 : (Jvm.Cond.selects "NineDemands" ({ cls := "NineDemands", name := "form", desc := "(I)I" } : Jvm.MethodName) ({ cls := "NineDemands", name := "form", desc := "(I)I" } : Jvm.MethodName)) ∈ lw_all := lw_g (lw_at lw_m2 167 rfl) rfl
theorem q498 : (Jvm.Cond.codeWith ({ cls := "NineDemands", name := "form", desc := "(I)I" } : Jvm.MethodName) prog_1_method_27_code (4 : Nat) (Option.some Jvm.ClassFile.FieldType.int) [((0 : Nat), (68 : Nat), (69 : Nat), (8 : Nat))]) ∈ lw_all := lw_g (lw_at lw_m2 168 rfl) rfl
theorem q499 : (Jvm.Cond.methodLink "NineDemands" (165 : Nat) ({ cls := "NineDemands", name := "formed", desc := "(II)I" } : Jvm.MethodName)) ∈ lw_all := lw_g (lw_at lw_m2 169 rfl) rfl
theorem q500 : (Jvm.Cond.static ({ cls := "NineDemands", name := "formed", desc := "(II)I" } : Jvm.MethodName)) ∈ lw_all := lw_g (lw_at lw_m2 170 rfl) rfl
theorem q501 : (Jvm.Cond.code ({ cls := "NineDemands", name := "formed", desc := "(II)I" } : Jvm.MethodName) prog_1_method_9_code (4 : Nat) (Option.some Jvm.ClassFile.FieldType.int)) ∈ lw_all := lw_g (lw_at lw_m2 171 rfl) rfl
theorem q502 : (Jvm.Cond.methodLink "NineDemands" (24 : Nat) ({ cls := "NineDemands", name := "evenly", desc := "(II)I" } : Jvm.MethodName)) ∈ lw_all := lw_g (lw_at lw_m2 172 rfl) rfl
theorem q503 : (Jvm.Cond.static ({ cls := "NineDemands", name := "evenly", desc := "(II)I" } : Jvm.MethodName)) ∈ lw_all := lw_g (lw_at lw_m2 173 rfl) rfl
theorem q504 : (Jvm.Cond.code ({ cls := "NineDemands", name := "evenly", desc := "(II)I" } : Jvm.MethodName) prog_1_method_10_code (2 : Nat) (Option.some Jvm.ClassFile.FieldType.int)) ∈ lw_all := lw_g (lw_at lw_m2 174 rfl) rfl
theorem q506 : (Jvm.Cond.instanceMethod ({ cls := "NineDemands", name := "feed", desc := "(JI)I" } : Jvm.MethodName)) ∈ lw_all := lw_g (lw_at lw_m2 176 rfl) rfl
theorem q507 : (Jvm.Cond.selects "NineDemands" ({ cls := "NineDemands", name := "feed", desc := "(JI)I" } : Jvm.MethodName) ({ cls := "NineDemands", name := "feed", desc := "(JI)I" } : Jvm.MethodName)) ∈ lw_all := lw_g (lw_at lw_m2 177 rfl) rfl
theorem q508 : (Jvm.Cond.codeWith ({ cls := "NineDemands", name := "feed", desc := "(JI)I" } : Jvm.MethodName) prog_1_method_28_code (5 : Nat) (Option.some Jvm.ClassFile.FieldType.int) [((0 : Nat), (95 : Nat), (96 : Nat), (8 : Nat))]) ∈ lw_all := lw_g (lw_at lw_m2 178 rfl) rfl
theorem q510 : (Jvm.Cond.instanceMethod ({ cls := "NineDemands", name := "law", desc := "(II)I" } : Jvm.MethodName)) ∈ lw_all := lw_g (lw_at lw_m2 180 rfl) rfl
theorem q511 : (Jvm.Cond.selects "NineDemands" ({ cls := "NineDemands", name := "law", desc := "(II)I" } : Jvm.MethodName) ({ cls := "NineDemands", name := "law", desc := "(II)I" } : Jvm.MethodName)) ∈ lw_all := lw_g (lw_at lw_m2 181 rfl) rfl
theorem q512 : (Jvm.Cond.codeWith ({ cls := "NineDemands", name := "law", desc := "(II)I" } : Jvm.MethodName) prog_1_method_30_code (4 : Nat) (Option.some Jvm.ClassFile.FieldType.int) [((0 : Nat), (100 : Nat), (101 : Nat), (211 : Nat)), ((0 : Nat), (100 : Nat), (110 : Nat), (8 : Nat))]) ∈ lw_all := lw_g (lw_at lw_m2 182 rfl) rfl
theorem q513 : (Jvm.Cond.classLink "NineDemands" (211 : Nat) "NineDemands$Fault") ∈ lw_all := lw_g (lw_at lw_m2 183 rfl) rfl
theorem q514 : (Jvm.Cond.methodLink "NineDemands" (116 : Nat) ({ cls := "java/util/ArrayList", name := "size", desc := "()I" } : Jvm.MethodName)) ∈ lw_all := lw_g (lw_at lw_m2 184 rfl) rfl
theorem q518 : (Jvm.Cond.methodLink "NineDemands" (200 : Nat) ({ cls := "NineDemands", name := "demand", desc := "(ILNineDemands$Trace;II)LNineDemands$Demand;" } : Jvm.MethodName)) ∈ lw_all := lw_g (lw_at lw_m2 188 rfl) rfl
theorem q519 : (Jvm.Cond.static ({ cls := "NineDemands", name := "demand", desc := "(ILNineDemands$Trace;II)LNineDemands$Demand;" } : Jvm.MethodName)) ∈ lw_all := lw_g (lw_at lw_m2 189 rfl) rfl
theorem q520 : (Jvm.Cond.code ({ cls := "NineDemands", name := "demand", desc := "(ILNineDemands$Trace;II)LNineDemands$Demand;" } : Jvm.MethodName) prog_1_method_12_code (4 : Nat) (Option.some (Jvm.ClassFile.FieldType.object "NineDemands$Demand"))) ∈ lw_all := lw_g (lw_at lw_m2 190 rfl) rfl
theorem q521 : (Jvm.Cond.classLink "NineDemands" (27 : Nat) "NineDemands$Moved") ∈ lw_all := lw_g (lw_at lw_m2 191 rfl) rfl
theorem q523 : (Jvm.Cond.methodLink "NineDemands" (29 : Nat) ({ cls := "NineDemands$Moved", name := "<init>", desc := "(LNineDemands$Trace;II)V" } : Jvm.MethodName)) ∈ lw_all := lw_g (lw_at lw_m2 193 rfl) rfl
theorem q565 : (Jvm.Cond.fieldLink "NineDemands" (222 : Nat) "NineDemands$Demand" "price" "I") ∈ lw_all := lw_g (lw_at lw_m2 235 rfl) rfl
theorem q567 : (Jvm.Cond.fieldLink "NineDemands" (192 : Nat) "NineDemands$Demand" "text" "LNineDemands$Term;") ∈ lw_all := lw_g (lw_at lw_m2 237 rfl) rfl
theorem q580 : (Jvm.Cond.fieldLink "NineDemands" (228 : Nat) "NineDemands$Demand" "cases" "LNineDemands$Cases;") ∈ lw_all := lw_g (lw_at lw_m3 10 rfl) rfl
theorem q592 : (Jvm.Cond.classLink "NineDemands" (33 : Nat) "NineDemands$Alike") ∈ lw_all := lw_g (lw_at lw_m3 22 rfl) rfl
theorem q594 : (Jvm.Cond.methodLink "NineDemands" (35 : Nat) ({ cls := "NineDemands$Alike", name := "<init>", desc := "(LNineDemands$Trace;II)V" } : Jvm.MethodName)) ∈ lw_all := lw_g (lw_at lw_m3 24 rfl) rfl
theorem q604 : (Jvm.Cond.classLink "NineDemands" (36 : Nat) "NineDemands$Turns") ∈ lw_all := lw_g (lw_at lw_m3 34 rfl) rfl
theorem q606 : (Jvm.Cond.methodLink "NineDemands" (38 : Nat) ({ cls := "NineDemands$Turns", name := "<init>", desc := "(LNineDemands$Trace;II)V" } : Jvm.MethodName)) ∈ lw_all := lw_g (lw_at lw_m3 36 rfl) rfl
theorem q616 : (Jvm.Cond.classLink "NineDemands" (39 : Nat) "NineDemands$Comes") ∈ lw_all := lw_g (lw_at lw_m3 46 rfl) rfl
theorem q618 : (Jvm.Cond.methodLink "NineDemands" (41 : Nat) ({ cls := "NineDemands$Comes", name := "<init>", desc := "(LNineDemands$Trace;II)V" } : Jvm.MethodName)) ∈ lw_all := lw_g (lw_at lw_m3 48 rfl) rfl
theorem q628 : (Jvm.Cond.classLink "NineDemands" (42 : Nat) "NineDemands$Single") ∈ lw_all := lw_g (lw_at lw_m3 58 rfl) rfl
theorem q630 : (Jvm.Cond.methodLink "NineDemands" (44 : Nat) ({ cls := "NineDemands$Single", name := "<init>", desc := "(LNineDemands$Trace;II)V" } : Jvm.MethodName)) ∈ lw_all := lw_g (lw_at lw_m3 60 rfl) rfl
theorem q640 : (Jvm.Cond.classLink "NineDemands" (45 : Nat) "NineDemands$Demand") ∈ lw_all := lw_g (lw_at lw_m3 70 rfl) rfl
theorem q642 : (Jvm.Cond.methodLink "NineDemands" (47 : Nat) ({ cls := "NineDemands$Demand", name := "<init>", desc := "(LNineDemands$Trace;II)V" } : Jvm.MethodName)) ∈ lw_all := lw_g (lw_at lw_m3 72 rfl) rfl
theorem q649 : (Jvm.Cond.methodLink "NineDemands" (204 : Nat) ({ cls := "NineDemands", name := "read", desc := "(LNineDemands$Demand;)LNineDemands$Demand;" } : Jvm.MethodName)) ∈ lw_all := lw_g (lw_at lw_m3 79 rfl) rfl
theorem q650 : (Jvm.Cond.privateMethod ({ cls := "NineDemands", name := "read", desc := "(LNineDemands$Demand;)LNineDemands$Demand;" } : Jvm.MethodName)) ∈ lw_tbl := lw_at lw_m3 80 rfl
theorem q651 : (Jvm.Cond.instanceMethod ({ cls := "NineDemands", name := "read", desc := "(LNineDemands$Demand;)LNineDemands$Demand;" } : Jvm.MethodName)) ∈ lw_all := lw_g (lw_at lw_m3 81 rfl) rfl
theorem q652 : (Jvm.Cond.code ({ cls := "NineDemands", name := "read", desc := "(LNineDemands$Demand;)LNineDemands$Demand;" } : Jvm.MethodName) prog_1_method_29_code (3 : Nat) (Option.some (Jvm.ClassFile.FieldType.object "NineDemands$Demand"))) ∈ lw_all := lw_g (lw_at lw_m3 82 rfl) rfl
theorem q653 : (Jvm.Cond.methodLink "NineDemands" (175 : Nat) ({ cls := "NineDemands$Demand", name := "hasText", desc := "()Z" } : Jvm.MethodName)) ∈ lw_all := lw_g (lw_at lw_m3 83 rfl) rfl
theorem q672 : (Jvm.Cond.classLink "NineDemands" (179 : Nat) "NineDemands$Reader") ∈ lw_all := lw_g (lw_at lw_m3 102 rfl) rfl
theorem q674 : (Jvm.Cond.methodLink "NineDemands" (181 : Nat) ({ cls := "NineDemands$Demand", name := "names", desc := "()Ljava/lang/String;" } : Jvm.MethodName)) ∈ lw_all := lw_g (lw_at lw_m3 104 rfl) rfl
theorem q913 : (Jvm.Cond.methodLink "NineDemands" (185 : Nat) ({ cls := "NineDemands$Reader", name := "<init>", desc := "(Ljava/lang/String;[BI)V" } : Jvm.MethodName)) ∈ lw_all := lw_g (lw_at lw_m4 103 rfl) rfl
theorem q933 : (Jvm.Cond.methodLink "NineDemands" (188 : Nat) ({ cls := "NineDemands$Reader", name := "read", desc := "()LNineDemands$Term;" } : Jvm.MethodName)) ∈ lw_all := lw_g (lw_at lw_m4 123 rfl) rfl
theorem q1055 : (Jvm.Cond.fieldLinkNest "NineDemands" (213 : Nat) "NineDemands$Fault" "place" "I" "NineDemands") ∈ lw_tbl := lw_at lw_m5 5 rfl
theorem q1103 : (Jvm.Cond.methodLink "NineDemands" (196 : Nat) ({ cls := "NineDemands$Demand", name := "lay", desc := "(LNineDemands$Facts;)V" } : Jvm.MethodName)) ∈ lw_all := lw_g (lw_at lw_m5 53 rfl) rfl
theorem q1125 : (Jvm.Cond.fieldLinkNest "NineDemands" (244 : Nat) "NineDemands$Cases" "first" "[I" "NineDemands") ∈ lw_tbl := lw_at lw_m5 75 rfl
theorem q1131 : (Jvm.Cond.fieldLinkNest "NineDemands" (247 : Nat) "NineDemands$Cases" "second" "[I" "NineDemands") ∈ lw_tbl := lw_at lw_m5 81 rfl
theorem q1142 : (Jvm.Cond.fieldLinkNest "NineDemands" (232 : Nat) "NineDemands$Cases" "many" "I" "NineDemands") ∈ lw_tbl := lw_at lw_m5 92 rfl
theorem q1207 : (Jvm.Cond.static ({ cls := "NineDemands", name := "turnedChoice", desc := "(I)I" } : Jvm.MethodName)) ∈ lw_all := lw_g (lw_at lw_m5 157 rfl) rfl
theorem q1208 : (Jvm.Cond.code ({ cls := "NineDemands", name := "turnedChoice", desc := "(I)I" } : Jvm.MethodName) prog_1_method_8_code (1 : Nat) (Option.some Jvm.ClassFile.FieldType.int)) ∈ lw_all := lw_g (lw_at lw_m5 158 rfl) rfl
theorem q1258 : (Jvm.Cond.static ({ cls := "NineDemands", name := "bitOf", desc := "(II)I" } : Jvm.MethodName)) ∈ lw_all := lw_g (lw_at lw_m5 208 rfl) rfl
theorem q1259 : (Jvm.Cond.code ({ cls := "NineDemands", name := "bitOf", desc := "(II)I" } : Jvm.MethodName) prog_1_method_11_code (2 : Nat) (Option.some Jvm.ClassFile.FieldType.int)) ∈ lw_all := lw_g (lw_at lw_m5 209 rfl) rfl
theorem q1260 : (Jvm.Cond.methodLink "NineDemands" (207 : Nat) ({ cls := "java/util/ArrayList", name := "add", desc := "(Ljava/lang/Object;)Z" } : Jvm.MethodName)) ∈ lw_all := lw_g (lw_at lw_m5 210 rfl) rfl
theorem q1283 : (Jvm.Cond.selects "NineDemands" ({ cls := "java/lang/Object", name := "getClass", desc := "()Ljava/lang/Class;" } : Jvm.MethodName) ({ cls := "java/lang/Object", name := "getClass", desc := "()Ljava/lang/Class;" } : Jvm.MethodName)) ∈ lw_all := lw_g (lw_at lw_m5 233 rfl) rfl
theorem q1322 : (Jvm.Cond.instanceMethod ({ cls := "NineDemands", name := "price", desc := "(II)I" } : Jvm.MethodName)) ∈ lw_all := lw_g (lw_at lw_m6 32 rfl) rfl
theorem q1323 : (Jvm.Cond.selects "NineDemands" ({ cls := "NineDemands", name := "price", desc := "(II)I" } : Jvm.MethodName) ({ cls := "NineDemands", name := "price", desc := "(II)I" } : Jvm.MethodName)) ∈ lw_all := lw_g (lw_at lw_m6 33 rfl) rfl
theorem q1324 : (Jvm.Cond.codeWith ({ cls := "NineDemands", name := "price", desc := "(II)I" } : Jvm.MethodName) prog_1_method_31_code (5 : Nat) (Option.some Jvm.ClassFile.FieldType.int) [((0 : Nat), (56 : Nat), (57 : Nat), (8 : Nat))]) ∈ lw_all := lw_g (lw_at lw_m6 34 rfl) rfl
theorem q1325 : (Jvm.Cond.methodLink "NineDemands" (216 : Nat) ({ cls := "NineDemands", name := "isLaw", desc := "(I)Z" } : Jvm.MethodName)) ∈ lw_all := lw_g (lw_at lw_m6 35 rfl) rfl
theorem q1326 : (Jvm.Cond.privateMethod ({ cls := "NineDemands", name := "isLaw", desc := "(I)Z" } : Jvm.MethodName)) ∈ lw_tbl := lw_at lw_m6 36 rfl
theorem q1327 : (Jvm.Cond.instanceMethod ({ cls := "NineDemands", name := "isLaw", desc := "(I)Z" } : Jvm.MethodName)) ∈ lw_all := lw_g (lw_at lw_m6 37 rfl) rfl
theorem q1328 : (Jvm.Cond.code ({ cls := "NineDemands", name := "isLaw", desc := "(I)Z" } : Jvm.MethodName) prog_1_method_19_code (2 : Nat) (Option.some Jvm.ClassFile.FieldType.boolean)) ∈ lw_all := lw_g (lw_at lw_m6 38 rfl) rfl
theorem q1329 : (Jvm.Cond.methodLink "NineDemands" (219 : Nat) ({ cls := "java/util/ArrayList", name := "get", desc := "(I)Ljava/lang/Object;" } : Jvm.MethodName)) ∈ lw_all := lw_g (lw_at lw_m6 39 rfl) rfl
theorem q1344 : (Jvm.Cond.instanceMethod ({ cls := "NineDemands", name := "as", desc := "(II)I" } : Jvm.MethodName)) ∈ lw_all := lw_g (lw_at lw_m6 54 rfl) rfl
theorem q1345 : (Jvm.Cond.selects "NineDemands" ({ cls := "NineDemands", name := "as", desc := "(II)I" } : Jvm.MethodName) ({ cls := "NineDemands", name := "as", desc := "(II)I" } : Jvm.MethodName)) ∈ lw_all := lw_g (lw_at lw_m6 55 rfl) rfl
theorem q1346 : (Jvm.Cond.codeWith ({ cls := "NineDemands", name := "as", desc := "(II)I" } : Jvm.MethodName) prog_1_method_32_code (4 : Nat) (Option.some Jvm.ClassFile.FieldType.int) [((0 : Nat), (59 : Nat), (60 : Nat), (8 : Nat))]) ∈ lw_all := lw_g (lw_at lw_m6 56 rfl) rfl
theorem q1347 : (Jvm.Cond.methodLink "NineDemands" (225 : Nat) ({ cls := "NineDemands$Demand", name := "isOf", desc := "(I)Z" } : Jvm.MethodName)) ∈ lw_all := lw_g (lw_at lw_m6 57 rfl) rfl
theorem q1373 : (Jvm.Cond.instanceMethod ({ cls := "NineDemands", name := "part", desc := "(III)I" } : Jvm.MethodName)) ∈ lw_all := lw_g (lw_at lw_m6 83 rfl) rfl
theorem q1374 : (Jvm.Cond.selects "NineDemands" ({ cls := "NineDemands", name := "part", desc := "(III)I" } : Jvm.MethodName) ({ cls := "NineDemands", name := "part", desc := "(III)I" } : Jvm.MethodName)) ∈ lw_all := lw_g (lw_at lw_m6 84 rfl) rfl
theorem q1375 : (Jvm.Cond.codeWith ({ cls := "NineDemands", name := "part", desc := "(III)I" } : Jvm.MethodName) prog_1_method_34_code (5 : Nat) (Option.some Jvm.ClassFile.FieldType.int) [((0 : Nat), (63 : Nat), (64 : Nat), (8 : Nat))]) ∈ lw_all := lw_g (lw_at lw_m6 85 rfl) rfl
theorem q1376 : (Jvm.Cond.methodLink "NineDemands" (237 : Nat) ({ cls := "NineDemands", name := "casesOf", desc := "(II)LNineDemands$Cases;" } : Jvm.MethodName)) ∈ lw_all := lw_g (lw_at lw_m6 86 rfl) rfl
theorem q1377 : (Jvm.Cond.privateMethod ({ cls := "NineDemands", name := "casesOf", desc := "(II)LNineDemands$Cases;" } : Jvm.MethodName)) ∈ lw_tbl := lw_at lw_m6 87 rfl
theorem q1378 : (Jvm.Cond.instanceMethod ({ cls := "NineDemands", name := "casesOf", desc := "(II)LNineDemands$Cases;" } : Jvm.MethodName)) ∈ lw_all := lw_g (lw_at lw_m6 88 rfl) rfl
theorem q1379 : (Jvm.Cond.code ({ cls := "NineDemands", name := "casesOf", desc := "(II)LNineDemands$Cases;" } : Jvm.MethodName) prog_1_method_33_code (4 : Nat) (Option.some (Jvm.ClassFile.FieldType.object "NineDemands$Cases"))) ∈ lw_all := lw_g (lw_at lw_m6 89 rfl) rfl
theorem q1380 : (Jvm.Cond.methodLink "NineDemands" (241 : Nat) ({ cls := "NineDemands$Cases", name := "isPair", desc := "(I)Z" } : Jvm.MethodName)) ∈ lw_all := lw_g (lw_at lw_m6 90 rfl) rfl
theorem q1385 : (Jvm.Cond.instanceMethod ({ cls := "NineDemands", name := "so", desc := "(IIII)I" } : Jvm.MethodName)) ∈ lw_all := lw_g (lw_at lw_m6 95 rfl) rfl
theorem q1386 : (Jvm.Cond.selects "NineDemands" ({ cls := "NineDemands", name := "so", desc := "(IIII)I" } : Jvm.MethodName) ({ cls := "NineDemands", name := "so", desc := "(IIII)I" } : Jvm.MethodName)) ∈ lw_all := lw_g (lw_at lw_m6 96 rfl) rfl
theorem q1387 : (Jvm.Cond.codeWith ({ cls := "NineDemands", name := "so", desc := "(IIII)I" } : Jvm.MethodName) prog_1_method_35_code (6 : Nat) (Option.some Jvm.ClassFile.FieldType.int) [((0 : Nat), (84 : Nat), (85 : Nat), (8 : Nat))]) ∈ lw_all := lw_g (lw_at lw_m6 97 rfl) rfl
theorem q1388 : (Jvm.Cond.methodLink "NineDemands" (250 : Nat) ({ cls := "NineDemands$Demand", name := "goes", desc := "(III)Z" } : Jvm.MethodName)) ∈ lw_all := lw_g (lw_at lw_m6 98 rfl) rfl
theorem q1399 : (Jvm.Cond.instanceMethod ({ cls := "NineDemands", name := "breach", desc := "(I)I" } : Jvm.MethodName)) ∈ lw_all := lw_g (lw_at lw_m6 109 rfl) rfl
theorem q1400 : (Jvm.Cond.selects "NineDemands" ({ cls := "NineDemands", name := "breach", desc := "(I)I" } : Jvm.MethodName) ({ cls := "NineDemands", name := "breach", desc := "(I)I" } : Jvm.MethodName)) ∈ lw_all := lw_g (lw_at lw_m6 110 rfl) rfl
theorem q1401 : (Jvm.Cond.codeWith ({ cls := "NineDemands", name := "breach", desc := "(I)I" } : Jvm.MethodName) prog_1_method_36_code (3 : Nat) (Option.some Jvm.ClassFile.FieldType.int) [((0 : Nat), (51 : Nat), (52 : Nat), (8 : Nat))]) ∈ lw_all := lw_g (lw_at lw_m6 111 rfl) rfl
theorem q1402 : (Jvm.Cond.methodLink "NineDemands" (253 : Nat) ({ cls := "NineDemands$Village", name := "breachOf", desc := "(LNineDemands$Demand;[I)I" } : Jvm.MethodName)) ∈ lw_all := lw_g (lw_at lw_m6 112 rfl) rfl
theorem q1408 : (Jvm.Cond.instanceMethod ({ cls := "NineDemands", name := "kept", desc := "()I" } : Jvm.MethodName)) ∈ lw_all := lw_g (lw_at lw_m6 118 rfl) rfl
theorem q1409 : (Jvm.Cond.selects "NineDemands" ({ cls := "NineDemands", name := "kept", desc := "()I" } : Jvm.MethodName) ({ cls := "NineDemands", name := "kept", desc := "()I" } : Jvm.MethodName)) ∈ lw_all := lw_g (lw_at lw_m6 119 rfl) rfl
theorem q1410 : (Jvm.Cond.code ({ cls := "NineDemands", name := "kept", desc := "()I" } : Jvm.MethodName) prog_1_method_37_code (3 : Nat) (Option.some Jvm.ClassFile.FieldType.int)) ∈ lw_all := lw_g (lw_at lw_m6 120 rfl) rfl
theorem q1412 : (Jvm.Cond.instanceMethod ({ cls := "NineDemands", name := "find", desc := "(II)I" } : Jvm.MethodName)) ∈ lw_all := lw_g (lw_at lw_m6 122 rfl) rfl
theorem q1413 : (Jvm.Cond.selects "NineDemands" ({ cls := "NineDemands", name := "find", desc := "(II)I" } : Jvm.MethodName) ({ cls := "NineDemands", name := "find", desc := "(II)I" } : Jvm.MethodName)) ∈ lw_all := lw_g (lw_at lw_m6 123 rfl) rfl
theorem q1414 : (Jvm.Cond.codeWith ({ cls := "NineDemands", name := "find", desc := "(II)I" } : Jvm.MethodName) prog_1_method_40_code (4 : Nat) (Option.some Jvm.ClassFile.FieldType.int) [((0 : Nat), (52 : Nat), (53 : Nat), (8 : Nat))]) ∈ lw_all := lw_g (lw_at lw_m6 124 rfl) rfl
theorem q1415 : (Jvm.Cond.methodLink "NineDemands" (282 : Nat) ({ cls := "NineDemands", name := "isSet", desc := "(I)Z" } : Jvm.MethodName)) ∈ lw_all := lw_g (lw_at lw_m6 125 rfl) rfl
theorem q1416 : (Jvm.Cond.privateMethod ({ cls := "NineDemands", name := "isSet", desc := "(I)Z" } : Jvm.MethodName)) ∈ lw_tbl := lw_at lw_m6 126 rfl
theorem q1417 : (Jvm.Cond.instanceMethod ({ cls := "NineDemands", name := "isSet", desc := "(I)Z" } : Jvm.MethodName)) ∈ lw_all := lw_g (lw_at lw_m6 127 rfl) rfl
theorem q1418 : (Jvm.Cond.code ({ cls := "NineDemands", name := "isSet", desc := "(I)Z" } : Jvm.MethodName) prog_1_method_20_code (2 : Nat) (Option.some Jvm.ClassFile.FieldType.boolean)) ∈ lw_all := lw_g (lw_at lw_m6 128 rfl) rfl
theorem q1419 : (Jvm.Cond.methodLink "NineDemands" (285 : Nat) ({ cls := "NineDemands", name := "isOut", desc := "(I)Z" } : Jvm.MethodName)) ∈ lw_all := lw_g (lw_at lw_m6 129 rfl) rfl
theorem q1420 : (Jvm.Cond.privateMethod ({ cls := "NineDemands", name := "isOut", desc := "(I)Z" } : Jvm.MethodName)) ∈ lw_tbl := lw_at lw_m6 130 rfl
theorem q1421 : (Jvm.Cond.instanceMethod ({ cls := "NineDemands", name := "isOut", desc := "(I)Z" } : Jvm.MethodName)) ∈ lw_all := lw_g (lw_at lw_m6 131 rfl) rfl
theorem q1422 : (Jvm.Cond.code ({ cls := "NineDemands", name := "isOut", desc := "(I)Z" } : Jvm.MethodName) prog_1_method_39_code (2 : Nat) (Option.some Jvm.ClassFile.FieldType.boolean)) ∈ lw_all := lw_g (lw_at lw_m6 132 rfl) rfl
theorem q1423 : (Jvm.Cond.methodLink "NineDemands" (273 : Nat) ({ cls := "NineDemands", name := "weave", desc := "(I)V" } : Jvm.MethodName)) ∈ lw_all := lw_g (lw_at lw_m6 133 rfl) rfl
theorem q1424 : (Jvm.Cond.privateMethod ({ cls := "NineDemands", name := "weave", desc := "(I)V" } : Jvm.MethodName)) ∈ lw_tbl := lw_at lw_m6 134 rfl
theorem q1425 : (Jvm.Cond.instanceMethod ({ cls := "NineDemands", name := "weave", desc := "(I)V" } : Jvm.MethodName)) ∈ lw_all := lw_g (lw_at lw_m6 135 rfl) rfl
theorem q1426 : (Jvm.Cond.code ({ cls := "NineDemands", name := "weave", desc := "(I)V" } : Jvm.MethodName) prog_1_method_38_code (3 : Nat) (Option.none : Option Jvm.ClassFile.FieldType)) ∈ lw_all := lw_g (lw_at lw_m6 136 rfl) rfl
theorem q1427 : (Jvm.Cond.methodLink "NineDemands" (261 : Nat) ({ cls := "NineDemands$Web", name := "clear", desc := "()V" } : Jvm.MethodName)) ∈ lw_all := lw_g (lw_at lw_m6 137 rfl) rfl
theorem q1431 : (Jvm.Cond.methodLink "NineDemands" (266 : Nat) ({ cls := "NineDemands", name := "has", desc := "(II)Z" } : Jvm.MethodName)) ∈ lw_all := lw_g (lw_at lw_m6 141 rfl) rfl
theorem q1432 : (Jvm.Cond.static ({ cls := "NineDemands", name := "has", desc := "(II)Z" } : Jvm.MethodName)) ∈ lw_all := lw_g (lw_at lw_m6 142 rfl) rfl
theorem q1433 : (Jvm.Cond.code ({ cls := "NineDemands", name := "has", desc := "(II)Z" } : Jvm.MethodName) prog_1_method_2_code (2 : Nat) (Option.some Jvm.ClassFile.FieldType.boolean)) ∈ lw_all := lw_g (lw_at lw_m6 143 rfl) rfl
theorem q1434 : (Jvm.Cond.methodLink "NineDemands" (270 : Nat) ({ cls := "NineDemands$Web", name := "add", desc := "(LNineDemands$Demand;)V" } : Jvm.MethodName)) ∈ lw_all := lw_g (lw_at lw_m6 144 rfl) rfl
theorem q1449 : (Jvm.Cond.methodLink "NineDemands" (277 : Nat) ({ cls := "NineDemands$Search", name := "begin", desc := "(I)V" } : Jvm.MethodName)) ∈ lw_all := lw_g (lw_at lw_m6 159 rfl) rfl
theorem q1453 : (Jvm.Cond.methodLink "NineDemands" (280 : Nat) ({ cls := "NineDemands$Search", name := "finds", desc := "()Z" } : Jvm.MethodName)) ∈ lw_all := lw_g (lw_at lw_m6 163 rfl) rfl
theorem q1476 : (Jvm.Cond.instanceMethod ({ cls := "NineDemands", name := "write", desc := "(I)I" } : Jvm.MethodName)) ∈ lw_all := lw_g (lw_at lw_m6 186 rfl) rfl
theorem q1477 : (Jvm.Cond.selects "NineDemands" ({ cls := "NineDemands", name := "write", desc := "(I)I" } : Jvm.MethodName) ({ cls := "NineDemands", name := "write", desc := "(I)I" } : Jvm.MethodName)) ∈ lw_all := lw_g (lw_at lw_m6 187 rfl) rfl
theorem q1478 : (Jvm.Cond.codeWith ({ cls := "NineDemands", name := "write", desc := "(I)I" } : Jvm.MethodName) prog_1_method_42_code (3 : Nat) (Option.some Jvm.ClassFile.FieldType.int) [((0 : Nat), (53 : Nat), (54 : Nat), (8 : Nat))]) ∈ lw_all := lw_g (lw_at lw_m6 188 rfl) rfl
theorem q1479 : (Jvm.Cond.methodLink "NineDemands" (291 : Nat) ({ cls := "java/lang/System", name := "arraycopy", desc := "(Ljava/lang/Object;ILjava/lang/Object;II)V" } : Jvm.MethodName)) ∈ lw_all := lw_g (lw_at lw_m6 189 rfl) rfl
theorem q1480 : (Jvm.Cond.methodLink "NineDemands" (297 : Nat) ({ cls := "NineDemands", name := "boths", desc := "()I" } : Jvm.MethodName)) ∈ lw_all := lw_g (lw_at lw_m6 190 rfl) rfl
theorem q1481 : (Jvm.Cond.privateMethod ({ cls := "NineDemands", name := "boths", desc := "()I" } : Jvm.MethodName)) ∈ lw_tbl := lw_at lw_m6 191 rfl
theorem q1482 : (Jvm.Cond.instanceMethod ({ cls := "NineDemands", name := "boths", desc := "()I" } : Jvm.MethodName)) ∈ lw_all := lw_g (lw_at lw_m6 192 rfl) rfl
theorem q1483 : (Jvm.Cond.code ({ cls := "NineDemands", name := "boths", desc := "()I" } : Jvm.MethodName) prog_1_method_41_code (3 : Nat) (Option.some Jvm.ClassFile.FieldType.int)) ∈ lw_all := lw_g (lw_at lw_m6 193 rfl) rfl
theorem q1485 : (Jvm.Cond.instanceMethod ({ cls := "NineDemands", name := "rules", desc := "(I)J" } : Jvm.MethodName)) ∈ lw_all := lw_g (lw_at lw_m6 195 rfl) rfl
theorem q1486 : (Jvm.Cond.selects "NineDemands" ({ cls := "NineDemands", name := "rules", desc := "(I)J" } : Jvm.MethodName) ({ cls := "NineDemands", name := "rules", desc := "(I)J" } : Jvm.MethodName)) ∈ lw_all := lw_g (lw_at lw_m6 196 rfl) rfl
theorem q1487 : (Jvm.Cond.codeWith ({ cls := "NineDemands", name := "rules", desc := "(I)J" } : Jvm.MethodName) prog_1_method_43_code (3 : Nat) (Option.some Jvm.ClassFile.FieldType.long) [((0 : Nat), (22 : Nat), (23 : Nat), (8 : Nat))]) ∈ lw_all := lw_g (lw_at lw_m6 197 rfl) rfl
theorem q1488 : (Jvm.Cond.methodLink "NineDemands" (300 : Nat) ({ cls := "NineDemands$Search", name := "counts", desc := "()J" } : Jvm.MethodName)) ∈ lw_all := lw_g (lw_at lw_m6 198 rfl) rfl
theorem q1503 : (Jvm.Cond.instanceMethod ({ cls := "NineDemands", name := "may", desc := "(II)I" } : Jvm.MethodName)) ∈ lw_all := lw_g (lw_at lw_m6 213 rfl) rfl
theorem q1504 : (Jvm.Cond.selects "NineDemands" ({ cls := "NineDemands", name := "may", desc := "(II)I" } : Jvm.MethodName) ({ cls := "NineDemands", name := "may", desc := "(II)I" } : Jvm.MethodName)) ∈ lw_all := lw_g (lw_at lw_m6 214 rfl) rfl
theorem q1505 : (Jvm.Cond.codeWith ({ cls := "NineDemands", name := "may", desc := "(II)I" } : Jvm.MethodName) prog_1_method_44_code (5 : Nat) (Option.some Jvm.ClassFile.FieldType.int) [((0 : Nat), (89 : Nat), (90 : Nat), (8 : Nat))]) ∈ lw_all := lw_g (lw_at lw_m6 215 rfl) rfl
theorem q1506 : (Jvm.Cond.methodLink "NineDemands" (304 : Nat) ({ cls := "NineDemands$Search", name := "keep", desc := "(II)V" } : Jvm.MethodName)) ∈ lw_all := lw_g (lw_at lw_m6 216 rfl) rfl
theorem q1511 : (Jvm.Cond.instanceMethod ({ cls := "NineDemands", name := "near", desc := "(I)I" } : Jvm.MethodName)) ∈ lw_all := lw_g (lw_at lw_m6 221 rfl) rfl
theorem q1512 : (Jvm.Cond.selects "NineDemands" ({ cls := "NineDemands", name := "near", desc := "(I)I" } : Jvm.MethodName) ({ cls := "NineDemands", name := "near", desc := "(I)I" } : Jvm.MethodName)) ∈ lw_all := lw_g (lw_at lw_m6 222 rfl) rfl
theorem q1513 : (Jvm.Cond.codeWith ({ cls := "NineDemands", name := "near", desc := "(I)I" } : Jvm.MethodName) prog_1_method_45_code (3 : Nat) (Option.some Jvm.ClassFile.FieldType.int) [((0 : Nat), (42 : Nat), (43 : Nat), (8 : Nat))]) ∈ lw_all := lw_g (lw_at lw_m6 223 rfl) rfl
theorem q1514 : (Jvm.Cond.methodLink "NineDemands" (308 : Nat) ({ cls := "NineDemands$Search", name := "nearest", desc := "([I)I" } : Jvm.MethodName)) ∈ lw_all := lw_g (lw_at lw_m6 224 rfl) rfl
theorem q1523 : (Jvm.Cond.instanceMethod ({ cls := "NineDemands", name := "word", desc := "(I)I" } : Jvm.MethodName)) ∈ lw_all := lw_g (lw_at lw_m6 233 rfl) rfl
theorem q1524 : (Jvm.Cond.selects "NineDemands" ({ cls := "NineDemands", name := "word", desc := "(I)I" } : Jvm.MethodName) ({ cls := "NineDemands", name := "word", desc := "(I)I" } : Jvm.MethodName)) ∈ lw_all := lw_g (lw_at lw_m6 234 rfl) rfl
theorem q1525 : (Jvm.Cond.codeWith ({ cls := "NineDemands", name := "word", desc := "(I)I" } : Jvm.MethodName) prog_1_method_47_code (3 : Nat) (Option.some Jvm.ClassFile.FieldType.int) [((0 : Nat), (50 : Nat), (51 : Nat), (8 : Nat))]) ∈ lw_all := lw_g (lw_at lw_m6 235 rfl) rfl
theorem q1526 : (Jvm.Cond.methodLink "NineDemands" (316 : Nat) ({ cls := "NineDemands", name := "fitsForm", desc := "(II)Z" } : Jvm.MethodName)) ∈ lw_all := lw_g (lw_at lw_m6 236 rfl) rfl
theorem q1527 : (Jvm.Cond.privateMethod ({ cls := "NineDemands", name := "fitsForm", desc := "(II)Z" } : Jvm.MethodName)) ∈ lw_tbl := lw_at lw_m6 237 rfl
theorem q1528 : (Jvm.Cond.instanceMethod ({ cls := "NineDemands", name := "fitsForm", desc := "(II)Z" } : Jvm.MethodName)) ∈ lw_all := lw_g (lw_at lw_m6 238 rfl) rfl
theorem q1529 : (Jvm.Cond.code ({ cls := "NineDemands", name := "fitsForm", desc := "(II)Z" } : Jvm.MethodName) prog_1_method_46_code (4 : Nat) (Option.some Jvm.ClassFile.FieldType.boolean)) ∈ lw_all := lw_g (lw_at lw_m6 239 rfl) rfl
theorem q1530 : (Jvm.Cond.methodLink "NineDemands" (312 : Nat) ({ cls := "NineDemands$Village", name := "fits", desc := "(I[I)Z" } : Jvm.MethodName)) ∈ lw_all := lw_g (lw_at lw_m7 0 rfl) rfl
theorem q1540 : (Jvm.Cond.instanceMethod ({ cls := "NineDemands", name := "show", desc := "(II)I" } : Jvm.MethodName)) ∈ lw_all := lw_g (lw_at lw_m7 10 rfl) rfl
theorem q1541 : (Jvm.Cond.selects "NineDemands" ({ cls := "NineDemands", name := "show", desc := "(II)I" } : Jvm.MethodName) ({ cls := "NineDemands", name := "show", desc := "(II)I" } : Jvm.MethodName)) ∈ lw_all := lw_g (lw_at lw_m7 11 rfl) rfl
theorem q1542 : (Jvm.Cond.codeWith ({ cls := "NineDemands", name := "show", desc := "(II)I" } : Jvm.MethodName) prog_1_method_48_code (4 : Nat) (Option.some Jvm.ClassFile.FieldType.int) [((0 : Nat), (106 : Nat), (107 : Nat), (8 : Nat))]) ∈ lw_all := lw_g (lw_at lw_m7 12 rfl) rfl
theorem q1543 : (Jvm.Cond.methodLink "NineDemands" (319 : Nat) ({ cls := "NineDemands$Showing", name := "shows", desc := "(Ljava/util/ArrayList;I)V" } : Jvm.MethodName)) ∈ lw_all := lw_g (lw_at lw_m7 13 rfl) rfl
theorem q1582 : (Jvm.Cond.instanceMethod ({ cls := "NineDemands", name := "check", desc := "(II)I" } : Jvm.MethodName)) ∈ lw_all := lw_g (lw_at lw_m7 52 rfl) rfl
theorem q1583 : (Jvm.Cond.selects "NineDemands" ({ cls := "NineDemands", name := "check", desc := "(II)I" } : Jvm.MethodName) ({ cls := "NineDemands", name := "check", desc := "(II)I" } : Jvm.MethodName)) ∈ lw_all := lw_g (lw_at lw_m7 53 rfl) rfl
theorem q1584 : (Jvm.Cond.codeWith ({ cls := "NineDemands", name := "check", desc := "(II)I" } : Jvm.MethodName) prog_1_method_50_code (5 : Nat) (Option.some Jvm.ClassFile.FieldType.int) [((0 : Nat), (97 : Nat), (98 : Nat), (8 : Nat))]) ∈ lw_all := lw_g (lw_at lw_m7 54 rfl) rfl
theorem q1585 : (Jvm.Cond.methodLink "NineDemands" (339 : Nat) ({ cls := "NineDemands$Showing", name := "begin", desc := "()V" } : Jvm.MethodName)) ∈ lw_all := lw_g (lw_at lw_m7 55 rfl) rfl
theorem q1586 : (Jvm.Cond.methodLink "NineDemands" (341 : Nat) ({ cls := "NineDemands", name := "isStep", desc := "(II)Z" } : Jvm.MethodName)) ∈ lw_all := lw_g (lw_at lw_m7 56 rfl) rfl
theorem q1587 : (Jvm.Cond.privateMethod ({ cls := "NineDemands", name := "isStep", desc := "(II)Z" } : Jvm.MethodName)) ∈ lw_tbl := lw_at lw_m7 57 rfl
theorem q1588 : (Jvm.Cond.instanceMethod ({ cls := "NineDemands", name := "isStep", desc := "(II)Z" } : Jvm.MethodName)) ∈ lw_all := lw_g (lw_at lw_m7 58 rfl) rfl
theorem q1589 : (Jvm.Cond.code ({ cls := "NineDemands", name := "isStep", desc := "(II)Z" } : Jvm.MethodName) prog_1_method_49_code (6 : Nat) (Option.some Jvm.ClassFile.FieldType.boolean)) ∈ lw_all := lw_g (lw_at lw_m7 59 rfl) rfl
theorem q1590 : (Jvm.Cond.methodLink "NineDemands" (331 : Nat) ({ cls := "NineDemands$Showing", name := "follows", desc := "(LNineDemands$Demand;II)Z" } : Jvm.MethodName)) ∈ lw_all := lw_g (lw_at lw_m7 60 rfl) rfl
theorem q1594 : (Jvm.Cond.methodLink "NineDemands" (335 : Nat) ({ cls := "NineDemands$Showing", name := "strike", desc := "(LNineDemands$Demand;II)V" } : Jvm.MethodName)) ∈ lw_all := lw_g (lw_at lw_m7 64 rfl) rfl
theorem q1596 : (Jvm.Cond.instanceMethod ({ cls := "NineDemands", name := "small", desc := "(I)I" } : Jvm.MethodName)) ∈ lw_all := lw_g (lw_at lw_m7 66 rfl) rfl
theorem q1597 : (Jvm.Cond.selects "NineDemands" ({ cls := "NineDemands", name := "small", desc := "(I)I" } : Jvm.MethodName) ({ cls := "NineDemands", name := "small", desc := "(I)I" } : Jvm.MethodName)) ∈ lw_all := lw_g (lw_at lw_m7 67 rfl) rfl
theorem q1598 : (Jvm.Cond.codeWith ({ cls := "NineDemands", name := "small", desc := "(I)I" } : Jvm.MethodName) prog_1_method_52_code (3 : Nat) (Option.some Jvm.ClassFile.FieldType.int) [((0 : Nat), (25 : Nat), (26 : Nat), (8 : Nat))]) ∈ lw_all := lw_g (lw_at lw_m7 68 rfl) rfl
theorem q1599 : (Jvm.Cond.methodLink "NineDemands" (349 : Nat) ({ cls := "NineDemands", name := "smallOf", desc := "(I)I" } : Jvm.MethodName)) ∈ lw_all := lw_g (lw_at lw_m7 69 rfl) rfl
theorem q1600 : (Jvm.Cond.privateMethod ({ cls := "NineDemands", name := "smallOf", desc := "(I)I" } : Jvm.MethodName)) ∈ lw_tbl := lw_at lw_m7 70 rfl
theorem q1601 : (Jvm.Cond.instanceMethod ({ cls := "NineDemands", name := "smallOf", desc := "(I)I" } : Jvm.MethodName)) ∈ lw_all := lw_g (lw_at lw_m7 71 rfl) rfl
theorem q1602 : (Jvm.Cond.code ({ cls := "NineDemands", name := "smallOf", desc := "(I)I" } : Jvm.MethodName) prog_1_method_51_code (4 : Nat) (Option.some Jvm.ClassFile.FieldType.int)) ∈ lw_all := lw_g (lw_at lw_m7 72 rfl) rfl
theorem q1603 : (Jvm.Cond.methodLink "NineDemands" (344 : Nat) ({ cls := "java/lang/Integer", name := "bitCount", desc := "(I)I" } : Jvm.MethodName)) ∈ lw_all := lw_g (lw_at lw_m7 73 rfl) rfl
theorem q1610 : (Jvm.Cond.instanceMethod ({ cls := "NineDemands", name := "few", desc := "(I)I" } : Jvm.MethodName)) ∈ lw_all := lw_g (lw_at lw_m7 80 rfl) rfl
theorem q1611 : (Jvm.Cond.selects "NineDemands" ({ cls := "NineDemands", name := "few", desc := "(I)I" } : Jvm.MethodName) ({ cls := "NineDemands", name := "few", desc := "(I)I" } : Jvm.MethodName)) ∈ lw_all := lw_g (lw_at lw_m7 81 rfl) rfl
theorem q1612 : (Jvm.Cond.codeWith ({ cls := "NineDemands", name := "few", desc := "(I)I" } : Jvm.MethodName) prog_1_method_53_code (3 : Nat) (Option.some Jvm.ClassFile.FieldType.int) [((0 : Nat), (24 : Nat), (25 : Nat), (8 : Nat))]) ∈ lw_all := lw_g (lw_at lw_m7 82 rfl) rfl
theorem q1613 : (Jvm.Cond.methodLink "NineDemands" (352 : Nat) ({ cls := "NineDemands", name := "fewOf", desc := "()I" } : Jvm.MethodName)) ∈ lw_all := lw_g (lw_at lw_m7 83 rfl) rfl
theorem q1614 : (Jvm.Cond.privateMethod ({ cls := "NineDemands", name := "fewOf", desc := "()I" } : Jvm.MethodName)) ∈ lw_tbl := lw_at lw_m7 84 rfl
theorem q1615 : (Jvm.Cond.instanceMethod ({ cls := "NineDemands", name := "fewOf", desc := "()I" } : Jvm.MethodName)) ∈ lw_all := lw_g (lw_at lw_m7 85 rfl) rfl
theorem q1616 : (Jvm.Cond.code ({ cls := "NineDemands", name := "fewOf", desc := "()I" } : Jvm.MethodName) prog_1_method_54_code (3 : Nat) (Option.some Jvm.ClassFile.FieldType.int)) ∈ lw_all := lw_g (lw_at lw_m7 86 rfl) rfl
theorem q1618 : (Jvm.Cond.instanceMethod ({ cls := "NineDemands", name := "give", desc := "(II)I" } : Jvm.MethodName)) ∈ lw_all := lw_g (lw_at lw_m7 88 rfl) rfl
theorem q1619 : (Jvm.Cond.selects "NineDemands" ({ cls := "NineDemands", name := "give", desc := "(II)I" } : Jvm.MethodName) ({ cls := "NineDemands", name := "give", desc := "(II)I" } : Jvm.MethodName)) ∈ lw_all := lw_g (lw_at lw_m7 89 rfl) rfl
theorem q1620 : (Jvm.Cond.codeWith ({ cls := "NineDemands", name := "give", desc := "(II)I" } : Jvm.MethodName) prog_1_method_56_code (5 : Nat) (Option.some Jvm.ClassFile.FieldType.int) [((0 : Nat), (98 : Nat), (99 : Nat), (8 : Nat))]) ∈ lw_all := lw_g (lw_at lw_m7 90 rfl) rfl
theorem q1621 : (Jvm.Cond.methodLink "NineDemands" (358 : Nat) ({ cls := "NineDemands", name := "isLess", desc := "(II)Z" } : Jvm.MethodName)) ∈ lw_all := lw_g (lw_at lw_m7 91 rfl) rfl
theorem q1622 : (Jvm.Cond.privateMethod ({ cls := "NineDemands", name := "isLess", desc := "(II)Z" } : Jvm.MethodName)) ∈ lw_tbl := lw_at lw_m7 92 rfl
theorem q1623 : (Jvm.Cond.instanceMethod ({ cls := "NineDemands", name := "isLess", desc := "(II)Z" } : Jvm.MethodName)) ∈ lw_all := lw_g (lw_at lw_m7 93 rfl) rfl
theorem q1624 : (Jvm.Cond.code ({ cls := "NineDemands", name := "isLess", desc := "(II)Z" } : Jvm.MethodName) prog_1_method_55_code (4 : Nat) (Option.some Jvm.ClassFile.FieldType.boolean)) ∈ lw_all := lw_g (lw_at lw_m7 94 rfl) rfl
theorem q1625 : (Jvm.Cond.methodLink "NineDemands" (355 : Nat) ({ cls := "NineDemands$Village", name := "prices", desc := "(I)I" } : Jvm.MethodName)) ∈ lw_all := lw_g (lw_at lw_m7 95 rfl) rfl
theorem q1630 : (Jvm.Cond.instanceMethod ({ cls := "NineDemands", name := "follows", desc := "(II)I" } : Jvm.MethodName)) ∈ lw_all := lw_g (lw_at lw_m7 100 rfl) rfl
theorem q1631 : (Jvm.Cond.selects "NineDemands" ({ cls := "NineDemands", name := "follows", desc := "(II)I" } : Jvm.MethodName) ({ cls := "NineDemands", name := "follows", desc := "(II)I" } : Jvm.MethodName)) ∈ lw_all := lw_g (lw_at lw_m7 101 rfl) rfl
theorem q1632 : (Jvm.Cond.codeWith ({ cls := "NineDemands", name := "follows", desc := "(II)I" } : Jvm.MethodName) prog_1_method_59_code (4 : Nat) (Option.some Jvm.ClassFile.FieldType.int) [((0 : Nat), (57 : Nat), (58 : Nat), (8 : Nat))]) ∈ lw_all := lw_g (lw_at lw_m7 102 rfl) rfl
theorem q1633 : (Jvm.Cond.methodLink "NineDemands" (365 : Nat) ({ cls := "NineDemands", name := "holds", desc := "(LNineDemands$Demand;)Z" } : Jvm.MethodName)) ∈ lw_all := lw_g (lw_at lw_m7 103 rfl) rfl
theorem q1634 : (Jvm.Cond.privateMethod ({ cls := "NineDemands", name := "holds", desc := "(LNineDemands$Demand;)Z" } : Jvm.MethodName)) ∈ lw_tbl := lw_at lw_m7 104 rfl
theorem q1635 : (Jvm.Cond.instanceMethod ({ cls := "NineDemands", name := "holds", desc := "(LNineDemands$Demand;)Z" } : Jvm.MethodName)) ∈ lw_all := lw_g (lw_at lw_m7 105 rfl) rfl
theorem q1636 : (Jvm.Cond.code ({ cls := "NineDemands", name := "holds", desc := "(LNineDemands$Demand;)Z" } : Jvm.MethodName) prog_1_method_58_code (7 : Nat) (Option.some Jvm.ClassFile.FieldType.boolean)) ∈ lw_all := lw_g (lw_at lw_m7 106 rfl) rfl
theorem q1637 : (Jvm.Cond.methodLink "NineDemands" (361 : Nat) ({ cls := "NineDemands", name := "canBe", desc := "(LNineDemands$Cases;III)Z" } : Jvm.MethodName)) ∈ lw_all := lw_g (lw_at lw_m7 107 rfl) rfl
theorem q1638 : (Jvm.Cond.privateMethod ({ cls := "NineDemands", name := "canBe", desc := "(LNineDemands$Cases;III)Z" } : Jvm.MethodName)) ∈ lw_tbl := lw_at lw_m7 108 rfl
theorem q1639 : (Jvm.Cond.instanceMethod ({ cls := "NineDemands", name := "canBe", desc := "(LNineDemands$Cases;III)Z" } : Jvm.MethodName)) ∈ lw_all := lw_g (lw_at lw_m7 109 rfl) rfl
theorem q1640 : (Jvm.Cond.code ({ cls := "NineDemands", name := "canBe", desc := "(LNineDemands$Cases;III)Z" } : Jvm.MethodName) prog_1_method_57_code (5 : Nat) (Option.some Jvm.ClassFile.FieldType.boolean)) ∈ lw_all := lw_g (lw_at lw_m7 110 rfl) rfl
theorem q1642 : (Jvm.Cond.instanceMethod ({ cls := "NineDemands", name := "spare", desc := "(I)I" } : Jvm.MethodName)) ∈ lw_all := lw_g (lw_at lw_m7 112 rfl) rfl
theorem q1643 : (Jvm.Cond.selects "NineDemands" ({ cls := "NineDemands", name := "spare", desc := "(I)I" } : Jvm.MethodName) ({ cls := "NineDemands", name := "spare", desc := "(I)I" } : Jvm.MethodName)) ∈ lw_all := lw_g (lw_at lw_m7 113 rfl) rfl
theorem q1644 : (Jvm.Cond.codeWith ({ cls := "NineDemands", name := "spare", desc := "(I)I" } : Jvm.MethodName) prog_1_method_60_code (4 : Nat) (Option.some Jvm.ClassFile.FieldType.int) [((0 : Nat), (83 : Nat), (84 : Nat), (8 : Nat))]) ∈ lw_all := lw_g (lw_at lw_m7 114 rfl) rfl
theorem q1646 : (Jvm.Cond.instanceMethod ({ cls := "NineDemands", name := "same", desc := "(II)I" } : Jvm.MethodName)) ∈ lw_all := lw_g (lw_at lw_m7 116 rfl) rfl
theorem q1647 : (Jvm.Cond.selects "NineDemands" ({ cls := "NineDemands", name := "same", desc := "(II)I" } : Jvm.MethodName) ({ cls := "NineDemands", name := "same", desc := "(II)I" } : Jvm.MethodName)) ∈ lw_all := lw_g (lw_at lw_m7 117 rfl) rfl
theorem q1648 : (Jvm.Cond.codeWith ({ cls := "NineDemands", name := "same", desc := "(II)I" } : Jvm.MethodName) prog_1_method_62_code (4 : Nat) (Option.some Jvm.ClassFile.FieldType.int) [((0 : Nat), (49 : Nat), (50 : Nat), (8 : Nat))]) ∈ lw_all := lw_g (lw_at lw_m7 118 rfl) rfl
theorem q1649 : (Jvm.Cond.methodLink "NineDemands" (369 : Nat) ({ cls := "NineDemands", name := "isUnder", desc := "(II)Z" } : Jvm.MethodName)) ∈ lw_all := lw_g (lw_at lw_m7 119 rfl) rfl
theorem q1650 : (Jvm.Cond.privateMethod ({ cls := "NineDemands", name := "isUnder", desc := "(II)Z" } : Jvm.MethodName)) ∈ lw_tbl := lw_at lw_m7 120 rfl
theorem q1651 : (Jvm.Cond.instanceMethod ({ cls := "NineDemands", name := "isUnder", desc := "(II)Z" } : Jvm.MethodName)) ∈ lw_all := lw_g (lw_at lw_m7 121 rfl) rfl
theorem q1652 : (Jvm.Cond.code ({ cls := "NineDemands", name := "isUnder", desc := "(II)Z" } : Jvm.MethodName) prog_1_method_61_code (5 : Nat) (Option.some Jvm.ClassFile.FieldType.boolean)) ∈ lw_all := lw_g (lw_at lw_m7 122 rfl) rfl
theorem q1654 : (Jvm.Cond.instanceMethod ({ cls := "NineDemands", name := "voice", desc := "(III)I" } : Jvm.MethodName)) ∈ lw_all := lw_g (lw_at lw_m7 124 rfl) rfl
theorem q1655 : (Jvm.Cond.selects "NineDemands" ({ cls := "NineDemands", name := "voice", desc := "(III)I" } : Jvm.MethodName) ({ cls := "NineDemands", name := "voice", desc := "(III)I" } : Jvm.MethodName)) ∈ lw_all := lw_g (lw_at lw_m7 125 rfl) rfl
theorem q1656 : (Jvm.Cond.codeWith ({ cls := "NineDemands", name := "voice", desc := "(III)I" } : Jvm.MethodName) prog_1_method_63_code (5 : Nat) (Option.some Jvm.ClassFile.FieldType.int) [((0 : Nat), (88 : Nat), (116 : Nat), (8 : Nat)), ((89 : Nat), (97 : Nat), (116 : Nat), (8 : Nat)), ((98 : Nat), (106 : Nat), (116 : Nat), (8 : Nat)), ((107 : Nat), (115 : Nat), (116 : Nat), (8 : Nat))]) ∈ lw_all := lw_g (lw_at lw_m7 126 rfl) rfl
theorem q1657 : (Jvm.Cond.classLink "NineDemands" (373 : Nat) "NineDemands$Stands") ∈ lw_all := lw_g (lw_at lw_m7 127 rfl) rfl
theorem q1658 : (Jvm.Cond.interfaceEntry "NineDemands" (375 : Nat)) ∈ lw_tbl := lw_at lw_m7 128 rfl
theorem q1659 : (Jvm.Cond.methodLink "NineDemands" (375 : Nat) ({ cls := "NineDemands$Bids", name := "bids", desc := "(I)I" } : Jvm.MethodName)) ∈ lw_all := lw_g (lw_at lw_m7 129 rfl) rfl
theorem q1699 : (Jvm.Cond.interfaceEntry "NineDemands" (380 : Nat)) ∈ lw_tbl := lw_at lw_m7 169 rfl
theorem q1700 : (Jvm.Cond.methodLink "NineDemands" (380 : Nat) ({ cls := "NineDemands$Bars", name := "bars", desc := "(I)I" } : Jvm.MethodName)) ∈ lw_all := lw_g (lw_at lw_m7 170 rfl) rfl
theorem q1748 : (Jvm.Cond.interfaceEntry "NineDemands" (385 : Nat)) ∈ lw_tbl := lw_at lw_m7 218 rfl
theorem q1749 : (Jvm.Cond.methodLink "NineDemands" (385 : Nat) ({ cls := "NineDemands$Yields", name := "yields", desc := "(I)I" } : Jvm.MethodName)) ∈ lw_all := lw_g (lw_at lw_m7 219 rfl) rfl
theorem q1777 : (Jvm.Cond.interfaceEntry "NineDemands" (390 : Nat)) ∈ lw_tbl := lw_at lw_m8 7 rfl
theorem q1778 : (Jvm.Cond.methodLink "NineDemands" (390 : Nat) ({ cls := "NineDemands$Stands", name := "stands", desc := "(I)I" } : Jvm.MethodName)) ∈ lw_all := lw_g (lw_at lw_m8 8 rfl) rfl
theorem q1818 : (Jvm.Cond.instanceMethod ({ cls := "NineDemands", name := "trace", desc := "(I)I" } : Jvm.MethodName)) ∈ lw_all := lw_g (lw_at lw_m8 48 rfl) rfl
theorem q1819 : (Jvm.Cond.selects "NineDemands" ({ cls := "NineDemands", name := "trace", desc := "(I)I" } : Jvm.MethodName) ({ cls := "NineDemands", name := "trace", desc := "(I)I" } : Jvm.MethodName)) ∈ lw_all := lw_g (lw_at lw_m8 49 rfl) rfl
theorem q1820 : (Jvm.Cond.codeWith ({ cls := "NineDemands", name := "trace", desc := "(I)I" } : Jvm.MethodName) prog_1_method_64_code (3 : Nat) (Option.some Jvm.ClassFile.FieldType.int) [((0 : Nat), (28 : Nat), (29 : Nat), (8 : Nat))]) ∈ lw_all := lw_g (lw_at lw_m8 50 rfl) rfl
theorem q1822 : (Jvm.Cond.instanceMethod ({ cls := "NineDemands", name := "sheet", desc := "(III)I" } : Jvm.MethodName)) ∈ lw_all := lw_g (lw_at lw_m8 52 rfl) rfl
theorem q1823 : (Jvm.Cond.selects "NineDemands" ({ cls := "NineDemands", name := "sheet", desc := "(III)I" } : Jvm.MethodName) ({ cls := "NineDemands", name := "sheet", desc := "(III)I" } : Jvm.MethodName)) ∈ lw_all := lw_g (lw_at lw_m8 53 rfl) rfl
theorem q1824 : (Jvm.Cond.codeWith ({ cls := "NineDemands", name := "sheet", desc := "(III)I" } : Jvm.MethodName) prog_1_method_65_code (5 : Nat) (Option.some Jvm.ClassFile.FieldType.int) [((0 : Nat), (43 : Nat), (127 : Nat), (8 : Nat)), ((44 : Nat), (126 : Nat), (127 : Nat), (8 : Nat))]) ∈ lw_all := lw_g (lw_at lw_m8 54 rfl) rfl
theorem q1825 : (Jvm.Cond.methodLink "NineDemands" (396 : Nat) ({ cls := "NineDemands", name := "isWidth", desc := "(I)Z" } : Jvm.MethodName)) ∈ lw_all := lw_g (lw_at lw_m8 55 rfl) rfl
theorem q1826 : (Jvm.Cond.static ({ cls := "NineDemands", name := "isWidth", desc := "(I)Z" } : Jvm.MethodName)) ∈ lw_all := lw_g (lw_at lw_m8 56 rfl) rfl
theorem q1827 : (Jvm.Cond.code ({ cls := "NineDemands", name := "isWidth", desc := "(I)Z" } : Jvm.MethodName) prog_1_method_18_code (1 : Nat) (Option.some Jvm.ClassFile.FieldType.boolean)) ∈ lw_all := lw_g (lw_at lw_m8 57 rfl) rfl
theorem q1828 : (Jvm.Cond.classLink "NineDemands" (399 : Nat) "NineDemands$Bytes") ∈ lw_all := lw_g (lw_at lw_m8 58 rfl) rfl
theorem q1830 : (Jvm.Cond.methodLink "NineDemands" (401 : Nat) ({ cls := "NineDemands$Bytes", name := "<init>", desc := "(I)V" } : Jvm.MethodName)) ∈ lw_all := lw_g (lw_at lw_m8 60 rfl) rfl
theorem q1841 : (Jvm.Cond.classLink "NineDemands" (403 : Nat) "NineDemands$Shorts") ∈ lw_all := lw_g (lw_at lw_m8 71 rfl) rfl
theorem q1843 : (Jvm.Cond.methodLink "NineDemands" (405 : Nat) ({ cls := "NineDemands$Shorts", name := "<init>", desc := "(I)V" } : Jvm.MethodName)) ∈ lw_all := lw_g (lw_at lw_m8 73 rfl) rfl
theorem q1852 : (Jvm.Cond.classLink "NineDemands" (406 : Nat) "NineDemands$Ints") ∈ lw_all := lw_g (lw_at lw_m8 82 rfl) rfl
theorem q1854 : (Jvm.Cond.methodLink "NineDemands" (408 : Nat) ({ cls := "NineDemands$Ints", name := "<init>", desc := "(I)V" } : Jvm.MethodName)) ∈ lw_all := lw_g (lw_at lw_m8 84 rfl) rfl
theorem q1863 : (Jvm.Cond.instanceMethod ({ cls := "NineDemands", name := "put", desc := "(III)I" } : Jvm.MethodName)) ∈ lw_all := lw_g (lw_at lw_m8 93 rfl) rfl
theorem q1864 : (Jvm.Cond.selects "NineDemands" ({ cls := "NineDemands", name := "put", desc := "(III)I" } : Jvm.MethodName) ({ cls := "NineDemands", name := "put", desc := "(III)I" } : Jvm.MethodName)) ∈ lw_all := lw_g (lw_at lw_m8 94 rfl) rfl
theorem q1865 : (Jvm.Cond.codeWith ({ cls := "NineDemands", name := "put", desc := "(III)I" } : Jvm.MethodName) prog_1_method_66_code (5 : Nat) (Option.some Jvm.ClassFile.FieldType.int) [((0 : Nat), (41 : Nat), (42 : Nat), (8 : Nat))]) ∈ lw_all := lw_g (lw_at lw_m8 95 rfl) rfl
theorem q1866 : (Jvm.Cond.methodLink "NineDemands" (409 : Nat) ({ cls := "NineDemands$Sheet", name := "put", desc := "(II)V" } : Jvm.MethodName)) ∈ lw_all := lw_g (lw_at lw_m8 96 rfl) rfl
theorem q1879 : (Jvm.Cond.instanceMethod ({ cls := "NineDemands", name := "move", desc := "(IIIII)I" } : Jvm.MethodName)) ∈ lw_all := lw_g (lw_at lw_m8 109 rfl) rfl
theorem q1880 : (Jvm.Cond.selects "NineDemands" ({ cls := "NineDemands", name := "move", desc := "(IIIII)I" } : Jvm.MethodName) ({ cls := "NineDemands", name := "move", desc := "(IIIII)I" } : Jvm.MethodName)) ∈ lw_all := lw_g (lw_at lw_m8 110 rfl) rfl
theorem q1881 : (Jvm.Cond.codeWith ({ cls := "NineDemands", name := "move", desc := "(IIIII)I" } : Jvm.MethodName) prog_1_method_67_code (10 : Nat) (Option.some Jvm.ClassFile.FieldType.int) [((0 : Nat), (152 : Nat), (153 : Nat), (8 : Nat))]) ∈ lw_all := lw_g (lw_at lw_m8 111 rfl) rfl
theorem q1882 : (Jvm.Cond.methodLink "NineDemands" (412 : Nat) ({ cls := "NineDemands$Sheet", name := "width", desc := "()I" } : Jvm.MethodName)) ∈ lw_all := lw_g (lw_at lw_m8 112 rfl) rfl
theorem q1894 : (Jvm.Cond.methodLink "NineDemands" (415 : Nat) ({ cls := "NineDemands$Sheet", name := "row", desc := "()[I" } : Jvm.MethodName)) ∈ lw_all := lw_g (lw_at lw_m8 124 rfl) rfl
theorem q1904 : (Jvm.Cond.instanceMethod ({ cls := "NineDemands", name := "image", desc := "()I" } : Jvm.MethodName)) ∈ lw_all := lw_g (lw_at lw_m8 134 rfl) rfl
theorem q1905 : (Jvm.Cond.selects "NineDemands" ({ cls := "NineDemands", name := "image", desc := "()I" } : Jvm.MethodName) ({ cls := "NineDemands", name := "image", desc := "()I" } : Jvm.MethodName)) ∈ lw_all := lw_g (lw_at lw_m8 135 rfl) rfl
theorem q1906 : (Jvm.Cond.code ({ cls := "NineDemands", name := "image", desc := "()I" } : Jvm.MethodName) prog_1_method_68_code (1 : Nat) (Option.some Jvm.ClassFile.FieldType.int)) ∈ lw_all := lw_g (lw_at lw_m8 136 rfl) rfl
theorem q1907 : (Jvm.Cond.methodLink "NineDemands" (419 : Nat) ({ cls := "NineDemands$Village", name := "copy", desc := "()LNineDemands$Village;" } : Jvm.MethodName)) ∈ lw_all := lw_g (lw_at lw_m8 137 rfl) rfl
theorem q1958 : (Jvm.Cond.instanceMethod ({ cls := "NineDemands", name := "restore", desc := "()I" } : Jvm.MethodName)) ∈ lw_all := lw_g (lw_at lw_m8 188 rfl) rfl
theorem q1959 : (Jvm.Cond.selects "NineDemands" ({ cls := "NineDemands", name := "restore", desc := "()I" } : Jvm.MethodName) ({ cls := "NineDemands", name := "restore", desc := "()I" } : Jvm.MethodName)) ∈ lw_all := lw_g (lw_at lw_m8 189 rfl) rfl
theorem q1960 : (Jvm.Cond.codeWith ({ cls := "NineDemands", name := "restore", desc := "()I" } : Jvm.MethodName) prog_1_method_69_code (2 : Nat) (Option.some Jvm.ClassFile.FieldType.int) [((0 : Nat), (38 : Nat), (39 : Nat), (8 : Nat))]) ∈ lw_all := lw_g (lw_at lw_m8 190 rfl) rfl
theorem q1962 : (Jvm.Cond.instanceMethod ({ cls := "NineDemands", name := "tell", desc := "(I)I" } : Jvm.MethodName)) ∈ lw_all := lw_g (lw_at lw_m8 192 rfl) rfl
theorem q1963 : (Jvm.Cond.selects "NineDemands" ({ cls := "NineDemands", name := "tell", desc := "(I)I" } : Jvm.MethodName) ({ cls := "NineDemands", name := "tell", desc := "(I)I" } : Jvm.MethodName)) ∈ lw_all := lw_g (lw_at lw_m8 193 rfl) rfl
theorem q1964 : (Jvm.Cond.codeWith ({ cls := "NineDemands", name := "tell", desc := "(I)I" } : Jvm.MethodName) prog_1_method_70_code (3 : Nat) (Option.some Jvm.ClassFile.FieldType.int) [((0 : Nat), (58 : Nat), (59 : Nat), (8 : Nat))]) ∈ lw_all := lw_g (lw_at lw_m8 194 rfl) rfl
theorem q1966 : (Jvm.Cond.instanceMethod ({ cls := "NineDemands", name := "learn", desc := "(I)I" } : Jvm.MethodName)) ∈ lw_all := lw_g (lw_at lw_m8 196 rfl) rfl
theorem q1967 : (Jvm.Cond.selects "NineDemands" ({ cls := "NineDemands", name := "learn", desc := "(I)I" } : Jvm.MethodName) ({ cls := "NineDemands", name := "learn", desc := "(I)I" } : Jvm.MethodName)) ∈ lw_all := lw_g (lw_at lw_m8 197 rfl) rfl
theorem q1968 : (Jvm.Cond.codeWith ({ cls := "NineDemands", name := "learn", desc := "(I)I" } : Jvm.MethodName) prog_1_method_71_code (4 : Nat) (Option.some Jvm.ClassFile.FieldType.int) [((16 : Nat), (81 : Nat), (90 : Nat), (8 : Nat)), ((82 : Nat), (89 : Nat), (90 : Nat), (8 : Nat))]) ∈ lw_all := lw_g (lw_at lw_m8 198 rfl) rfl
theorem q1970 : (Jvm.Cond.instanceMethod ({ cls := "NineDemands", name := "count", desc := "(I)I" } : Jvm.MethodName)) ∈ lw_all := lw_g (lw_at lw_m8 200 rfl) rfl
theorem q1971 : (Jvm.Cond.selects "NineDemands" ({ cls := "NineDemands", name := "count", desc := "(I)I" } : Jvm.MethodName) ({ cls := "NineDemands", name := "count", desc := "(I)I" } : Jvm.MethodName)) ∈ lw_all := lw_g (lw_at lw_m8 201 rfl) rfl
theorem q1972 : (Jvm.Cond.codeWith ({ cls := "NineDemands", name := "count", desc := "(I)I" } : Jvm.MethodName) prog_1_method_72_code (3 : Nat) (Option.some Jvm.ClassFile.FieldType.int) [((0 : Nat), (58 : Nat), (110 : Nat), (8 : Nat)), ((59 : Nat), (80 : Nat), (110 : Nat), (8 : Nat)), ((81 : Nat), (85 : Nat), (110 : Nat), (8 : Nat)), ((86 : Nat), (93 : Nat), (110 : Nat), (8 : Nat)), ((94 : Nat), (101 : Nat), (110 : Nat), (8 : Nat)), ((102 : Nat), (109 : Nat), (110 : Nat), (8 : Nat))]) ∈ lw_all := lw_g (lw_at lw_m8 202 rfl) rfl
theorem q1974 : (Jvm.Cond.instanceMethod ({ cls := "NineDemands", name := "told", desc := "(I)I" } : Jvm.MethodName)) ∈ lw_all := lw_g (lw_at lw_m8 204 rfl) rfl
theorem q1975 : (Jvm.Cond.selects "NineDemands" ({ cls := "NineDemands", name := "told", desc := "(I)I" } : Jvm.MethodName) ({ cls := "NineDemands", name := "told", desc := "(I)I" } : Jvm.MethodName)) ∈ lw_all := lw_g (lw_at lw_m8 205 rfl) rfl
theorem q1976 : (Jvm.Cond.codeWith ({ cls := "NineDemands", name := "told", desc := "(I)I" } : Jvm.MethodName) prog_1_method_73_code (3 : Nat) (Option.some Jvm.ClassFile.FieldType.int) [((0 : Nat), (17 : Nat), (18 : Nat), (8 : Nat))]) ∈ lw_all := lw_g (lw_at lw_m8 206 rfl) rfl
theorem q2523 : (Jvm.Cond.castable "NineDemands" "java/lang/Object") ∈ lw_tbl := lw_at lw_m11 33 rfl
theorem in_X0 : ∀ w ∈ wsX00, w ∈ lw_all := lw_in wsX00 [383, 385, 387, 389, 391, 393, 395, 397, 399, 401, 403] (by decide +kernel) (by decide +kernel)
