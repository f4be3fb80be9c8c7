/-! NineDemandsModel -/
set_option maxRecDepth 100000
def RX9 : String := "NineDemandsModel"
def TX9 : u_T := fun k => match k with
  | 0 => ("NineDemandsModel", "now", "[I", true)
  | 1 => ("NineDemandsModel", "kept", "[I", true)
  | 2 => ("NineDemandsModel", "images", "I", false)
  | 3 => ("NineDemandsModel", "found", "[I", true)
  | 4 => ("NineDemandsModel", "firstCase", "[I", true)
  | 5 => ("NineDemandsModel", "caseH", "[I", true)
  | 6 => ("NineDemandsModel", "caseK", "[I", true)
  | 7 => ("NineDemandsModel", "caseWho", "[I", true)
  | 8 => ("NineDemandsModel", "cases", "I", false)
  | 9 => ("NineDemandsModel", "at", "I", false)
  | 10 => ("NineDemandsModel", "open", "I", false)
  | 11 => ("NineDemandsModel", "named", "I", false)
  | 12 => ("NineDemandsModel", "isWrong", "Z", false)
  | 13 => ("NineDemandsModel", "code", "[I", true)
  | 14 => ("NineDemandsModel", "coded", "I", false)
  | 15 => ("NineDemandsModel", "caseAt", "I", false)
  | 16 => ("NineDemandsModel", "choiceC", "I", false)
  | 17 => ("NineDemandsModel", "choiceD", "I", false)
  | 18 => ("NineDemandsModel", "pile", "[I", true)
  | 19 => ("NineDemandsModel", "may", "[I", true)
  | 20 => ("NineDemandsModel", "pair", "[I", true)
  | 21 => ("NineDemandsModel", "rule", "[I", true)
  | 22 => ("NineDemandsModel", "waysOf", "[I", true)
  | 23 => ("NineDemandsModel", "left", "[I", true)
  | 24 => ("NineDemandsModel", "step", "[I", true)
  | 25 => ("NineDemandsModel", "steps", "I", false)
  | 26 => ("NineDemandsModel", "trace", "[I", true)
  | 27 => ("NineDemandsModel", "traced", "I", false)
  | 28 => ("NineDemandsModel", "speaker", "I", false)
  | 29 => ("NineDemandsModel", "widths", "[I", true)
  | 30 => ("NineDemandsModel", "sizes", "[I", true)
  | 31 => ("NineDemandsModel", "numbers", "[I", true)
  | _ => ("NineDemandsModel", "carried", "[I", true)
def tyX9 : Nat → FieldType := fun k => match k with
  | 0 => .array .int
  | 1 => .array .int
  | 2 => .int
  | 3 => .array .int
  | 4 => .array .int
  | 5 => .array .int
  | 6 => .array .int
  | 7 => .array .int
  | 8 => .int
  | 9 => .int
  | 10 => .int
  | 11 => .int
  | 12 => .boolean
  | 13 => .array .int
  | 14 => .int
  | 15 => .int
  | 16 => .int
  | 17 => .int
  | 18 => .array .int
  | 19 => .array .int
  | 20 => .array .int
  | 21 => .array .int
  | 22 => .array .int
  | 23 => .array .int
  | 24 => .array .int
  | 25 => .int
  | 26 => .array .int
  | 27 => .int
  | 28 => .int
  | 29 => .array .int
  | 30 => .array .int
  | 31 => .array .int
  | _ => .array .int
abbrev wsX90 : List Cond := u_ws RX9 TX9 33
set_option maxRecDepth 100000 in
theorem nmX9 : ∀ a, a < 33 → ∀ b, b < 33 → a ≠ b → (TX9 a).2.1 ≠ (TX9 b).2.1 := by decide +kernel
set_option maxRecDepth 100000 in
theorem tyX9_ok : ∀ k, k < 33 → parseFieldDescriptor (TX9 k).2.2.1 = some (tyX9 k) := by decide +kernel
abbrev cX9_init : ByteArray := prog_33_method_1_code
def yX9_init : MethodName := ⟨RX9, "<init>", "()V"⟩
def dkwX9_init_10 : List UInt8 := [180, 0, 19, 16, 6, 42, 180, 0, 70, 79, 177]
abbrev dktX9_init_10 : List UInt8 := dkwX9_init_10 ++ []
def dkwX9_init_9 : List UInt8 := [16, 12, 162, 0, 15, 42, 27, 28, 182, 0, 74, 132, 2, 1, 167, 255, 241, 132, 1, 1, 167, 255, 218, 42]
abbrev dktX9_init_9 : List UInt8 := dkwX9_init_9 ++ dktX9_init_10
def dkwX9_init_8 : List UInt8 := [167, 255, 237, 3, 60, 27, 8, 163, 0, 39, 42, 180, 0, 19, 27, 42, 180, 0, 70, 79, 3, 61, 28]
abbrev dktX9_init_8 : List UInt8 := dkwX9_init_8 ++ dktX9_init_9
def dkwX9_init_7 : List UInt8 := [181, 0, 67, 3, 60, 27, 16, 12, 162, 0, 19, 42, 180, 0, 9, 16, 10, 27, 96, 6, 79, 132, 1, 1]
abbrev dktX9_init_7 : List UInt8 := dkwX9_init_7 ++ dktX9_init_8
def dkwX9_init_6 : List UInt8 := [181, 0, 58, 42, 7, 188, 10, 181, 0, 61, 42, 17, 0, 160, 188, 10, 181, 0, 64, 42, 16, 40, 188, 10]
abbrev dktX9_init_6 : List UInt8 := dkwX9_init_6 ++ dktX9_init_7
def dkwX9_init_5 : List UInt8 := [181, 0, 49, 42, 16, 36, 188, 10, 181, 0, 52, 42, 16, 40, 188, 10, 181, 0, 55, 42, 7, 188, 10]
abbrev dktX9_init_5 : List UInt8 := dkwX9_init_5 ++ dktX9_init_6
def dkwX9_init_4 : List UInt8 := [42, 16, 12, 188, 10, 181, 0, 43, 42, 17, 16, 0, 188, 10, 181, 0, 46, 42, 16, 12, 188, 10]
abbrev dktX9_init_4 : List UInt8 := dkwX9_init_4 ++ dktX9_init_5
def dkwX9_init_3 : List UInt8 := [16, 60, 188, 10, 181, 0, 34, 42, 16, 12, 188, 10, 181, 0, 37, 42, 17, 0, 144, 188, 10, 181, 0, 40]
abbrev dktX9_init_3 : List UInt8 := dkwX9_init_3 ++ dktX9_init_4
def dkwX9_init_2 : List UInt8 := [16, 90, 188, 10, 181, 0, 25, 42, 16, 90, 188, 10, 181, 0, 28, 42, 16, 60, 188, 10, 181, 0, 31, 42]
abbrev dktX9_init_2 : List UInt8 := dkwX9_init_2 ++ dktX9_init_3
def dkwX9_init_1 : List UInt8 := [16, 6, 188, 10, 181, 0, 16, 42, 16, 7, 188, 10, 181, 0, 19, 42, 16, 90, 188, 10, 181, 0, 22, 42]
abbrev dktX9_init_1 : List UInt8 := dkwX9_init_1 ++ dktX9_init_2
def dkwX9_init_0 : List UInt8 := [42, 183, 0, 3, 42, 17, 1, 110, 188, 10, 181, 0, 9, 42, 17, 1, 110, 188, 10, 181, 0, 13, 42]
abbrev dktX9_init_0 : List UInt8 := dkwX9_init_0 ++ dktX9_init_1
theorem dksX9_init_0 : cX9_init.data.toList.drop 0 = dktX9_init_0 := by decide +kernel
theorem dksX9_init_1 : cX9_init.data.toList.drop 23 = dktX9_init_1 := dk_seg dksX9_init_0 23 rfl rfl
theorem dksX9_init_2 : cX9_init.data.toList.drop 47 = dktX9_init_2 := dk_seg dksX9_init_1 24 rfl rfl
theorem dksX9_init_3 : cX9_init.data.toList.drop 71 = dktX9_init_3 := dk_seg dksX9_init_2 24 rfl rfl
theorem dksX9_init_4 : cX9_init.data.toList.drop 95 = dktX9_init_4 := dk_seg dksX9_init_3 24 rfl rfl
theorem dksX9_init_5 : cX9_init.data.toList.drop 117 = dktX9_init_5 := dk_seg dksX9_init_4 22 rfl rfl
theorem dksX9_init_6 : cX9_init.data.toList.drop 140 = dktX9_init_6 := dk_seg dksX9_init_5 23 rfl rfl
theorem dksX9_init_7 : cX9_init.data.toList.drop 164 = dktX9_init_7 := dk_seg dksX9_init_6 24 rfl rfl
theorem dksX9_init_8 : cX9_init.data.toList.drop 188 = dktX9_init_8 := dk_seg dksX9_init_7 24 rfl rfl
theorem dksX9_init_9 : cX9_init.data.toList.drop 211 = dktX9_init_9 := dk_seg dksX9_init_8 23 rfl rfl
theorem dksX9_init_10 : cX9_init.data.toList.drop 235 = dktX9_init_10 := dk_seg dksX9_init_9 24 rfl rfl
theorem dX9_init_0 : decode cX9_init 0 = .ok (.aload_n 0, 1) := dk_42 (dk_at dksX9_init_0 0 rfl rfl)
theorem dX9_init_1 : decode cX9_init 1 = .ok (.invokespecial 3, 3) := dk_183 0 3 (dk_at dksX9_init_0 1 rfl rfl)
theorem dX9_init_4 : decode cX9_init 4 = .ok (.aload_n 0, 1) := dk_42 (dk_at dksX9_init_0 4 rfl rfl)
theorem dX9_init_5 : decode cX9_init 5 = .ok (.sipush 366, 3) := dk_17 1 110 (dk_at dksX9_init_0 5 rfl rfl)
theorem dX9_init_8 : decode cX9_init 8 = .ok (.newarray .int, 2) := dk_188_10 (dk_at dksX9_init_0 8 rfl rfl)
theorem dX9_init_10 : decode cX9_init 10 = .ok (.putfield 9, 3) := dk_181 0 9 (dk_at dksX9_init_0 10 rfl rfl)
theorem dX9_init_13 : decode cX9_init 13 = .ok (.aload_n 0, 1) := dk_42 (dk_at dksX9_init_0 13 rfl rfl)
theorem dX9_init_14 : decode cX9_init 14 = .ok (.sipush 366, 3) := dk_17 1 110 (dk_at dksX9_init_0 14 rfl rfl)
theorem dX9_init_17 : decode cX9_init 17 = .ok (.newarray .int, 2) := dk_188_10 (dk_at dksX9_init_0 17 rfl rfl)
theorem dX9_init_19 : decode cX9_init 19 = .ok (.putfield 13, 3) := dk_181 0 13 (dk_at dksX9_init_0 19 rfl rfl)
theorem dX9_init_22 : decode cX9_init 22 = .ok (.aload_n 0, 1) := dk_42 (dk_at dksX9_init_0 22 rfl rfl)
theorem dX9_init_23 : decode cX9_init 23 = .ok (.bipush 6, 2) := dk_16 6 (dk_at dksX9_init_1 0 rfl rfl)
theorem dX9_init_25 : decode cX9_init 25 = .ok (.newarray .int, 2) := dk_188_10 (dk_at dksX9_init_1 2 rfl rfl)
theorem dX9_init_27 : decode cX9_init 27 = .ok (.putfield 16, 3) := dk_181 0 16 (dk_at dksX9_init_1 4 rfl rfl)
theorem dX9_init_30 : decode cX9_init 30 = .ok (.aload_n 0, 1) := dk_42 (dk_at dksX9_init_1 7 rfl rfl)
theorem dX9_init_31 : decode cX9_init 31 = .ok (.bipush 7, 2) := dk_16 7 (dk_at dksX9_init_1 8 rfl rfl)
theorem dX9_init_33 : decode cX9_init 33 = .ok (.newarray .int, 2) := dk_188_10 (dk_at dksX9_init_1 10 rfl rfl)
theorem dX9_init_35 : decode cX9_init 35 = .ok (.putfield 19, 3) := dk_181 0 19 (dk_at dksX9_init_1 12 rfl rfl)
theorem dX9_init_38 : decode cX9_init 38 = .ok (.aload_n 0, 1) := dk_42 (dk_at dksX9_init_1 15 rfl rfl)
theorem dX9_init_39 : decode cX9_init 39 = .ok (.bipush 90, 2) := dk_16 90 (dk_at dksX9_init_1 16 rfl rfl)
theorem dX9_init_41 : decode cX9_init 41 = .ok (.newarray .int, 2) := dk_188_10 (dk_at dksX9_init_1 18 rfl rfl)
theorem dX9_init_43 : decode cX9_init 43 = .ok (.putfield 22, 3) := dk_181 0 22 (dk_at dksX9_init_1 20 rfl rfl)
theorem dX9_init_46 : decode cX9_init 46 = .ok (.aload_n 0, 1) := dk_42 (dk_at dksX9_init_1 23 rfl rfl)
theorem dX9_init_47 : decode cX9_init 47 = .ok (.bipush 90, 2) := dk_16 90 (dk_at dksX9_init_2 0 rfl rfl)
theorem dX9_init_49 : decode cX9_init 49 = .ok (.newarray .int, 2) := dk_188_10 (dk_at dksX9_init_2 2 rfl rfl)
theorem dX9_init_51 : decode cX9_init 51 = .ok (.putfield 25, 3) := dk_181 0 25 (dk_at dksX9_init_2 4 rfl rfl)
theorem dX9_init_54 : decode cX9_init 54 = .ok (.aload_n 0, 1) := dk_42 (dk_at dksX9_init_2 7 rfl rfl)
theorem dX9_init_55 : decode cX9_init 55 = .ok (.bipush 90, 2) := dk_16 90 (dk_at dksX9_init_2 8 rfl rfl)
theorem dX9_init_57 : decode cX9_init 57 = .ok (.newarray .int, 2) := dk_188_10 (dk_at dksX9_init_2 10 rfl rfl)
theorem dX9_init_59 : decode cX9_init 59 = .ok (.putfield 28, 3) := dk_181 0 28 (dk_at dksX9_init_2 12 rfl rfl)
theorem dX9_init_62 : decode cX9_init 62 = .ok (.aload_n 0, 1) := dk_42 (dk_at dksX9_init_2 15 rfl rfl)
theorem dX9_init_63 : decode cX9_init 63 = .ok (.bipush 60, 2) := dk_16 60 (dk_at dksX9_init_2 16 rfl rfl)
theorem dX9_init_65 : decode cX9_init 65 = .ok (.newarray .int, 2) := dk_188_10 (dk_at dksX9_init_2 18 rfl rfl)
theorem dX9_init_67 : decode cX9_init 67 = .ok (.putfield 31, 3) := dk_181 0 31 (dk_at dksX9_init_2 20 rfl rfl)
theorem dX9_init_70 : decode cX9_init 70 = .ok (.aload_n 0, 1) := dk_42 (dk_at dksX9_init_2 23 rfl rfl)
theorem dX9_init_71 : decode cX9_init 71 = .ok (.bipush 60, 2) := dk_16 60 (dk_at dksX9_init_3 0 rfl rfl)
theorem dX9_init_73 : decode cX9_init 73 = .ok (.newarray .int, 2) := dk_188_10 (dk_at dksX9_init_3 2 rfl rfl)
theorem dX9_init_75 : decode cX9_init 75 = .ok (.putfield 34, 3) := dk_181 0 34 (dk_at dksX9_init_3 4 rfl rfl)
theorem dX9_init_78 : decode cX9_init 78 = .ok (.aload_n 0, 1) := dk_42 (dk_at dksX9_init_3 7 rfl rfl)
theorem dX9_init_79 : decode cX9_init 79 = .ok (.bipush 12, 2) := dk_16 12 (dk_at dksX9_init_3 8 rfl rfl)
theorem dX9_init_81 : decode cX9_init 81 = .ok (.newarray .int, 2) := dk_188_10 (dk_at dksX9_init_3 10 rfl rfl)
theorem dX9_init_83 : decode cX9_init 83 = .ok (.putfield 37, 3) := dk_181 0 37 (dk_at dksX9_init_3 12 rfl rfl)
theorem dX9_init_86 : decode cX9_init 86 = .ok (.aload_n 0, 1) := dk_42 (dk_at dksX9_init_3 15 rfl rfl)
theorem dX9_init_87 : decode cX9_init 87 = .ok (.sipush 144, 3) := dk_17 0 144 (dk_at dksX9_init_3 16 rfl rfl)
theorem dX9_init_90 : decode cX9_init 90 = .ok (.newarray .int, 2) := dk_188_10 (dk_at dksX9_init_3 19 rfl rfl)
theorem dX9_init_92 : decode cX9_init 92 = .ok (.putfield 40, 3) := dk_181 0 40 (dk_at dksX9_init_3 21 rfl rfl)
theorem dX9_init_95 : decode cX9_init 95 = .ok (.aload_n 0, 1) := dk_42 (dk_at dksX9_init_4 0 rfl rfl)
theorem dX9_init_96 : decode cX9_init 96 = .ok (.bipush 12, 2) := dk_16 12 (dk_at dksX9_init_4 1 rfl rfl)
theorem dX9_init_98 : decode cX9_init 98 = .ok (.newarray .int, 2) := dk_188_10 (dk_at dksX9_init_4 3 rfl rfl)
theorem dX9_init_100 : decode cX9_init 100 = .ok (.putfield 43, 3) := dk_181 0 43 (dk_at dksX9_init_4 5 rfl rfl)
theorem dX9_init_103 : decode cX9_init 103 = .ok (.aload_n 0, 1) := dk_42 (dk_at dksX9_init_4 8 rfl rfl)
theorem dX9_init_104 : decode cX9_init 104 = .ok (.sipush 4096, 3) := dk_17 16 0 (dk_at dksX9_init_4 9 rfl rfl)
theorem dX9_init_107 : decode cX9_init 107 = .ok (.newarray .int, 2) := dk_188_10 (dk_at dksX9_init_4 12 rfl rfl)
theorem dX9_init_109 : decode cX9_init 109 = .ok (.putfield 46, 3) := dk_181 0 46 (dk_at dksX9_init_4 14 rfl rfl)
theorem dX9_init_112 : decode cX9_init 112 = .ok (.aload_n 0, 1) := dk_42 (dk_at dksX9_init_4 17 rfl rfl)
theorem dX9_init_113 : decode cX9_init 113 = .ok (.bipush 12, 2) := dk_16 12 (dk_at dksX9_init_4 18 rfl rfl)
theorem dX9_init_115 : decode cX9_init 115 = .ok (.newarray .int, 2) := dk_188_10 (dk_at dksX9_init_4 20 rfl rfl)
theorem dX9_init_117 : decode cX9_init 117 = .ok (.putfield 49, 3) := dk_181 0 49 (dk_at dksX9_init_5 0 rfl rfl)
theorem dX9_init_120 : decode cX9_init 120 = .ok (.aload_n 0, 1) := dk_42 (dk_at dksX9_init_5 3 rfl rfl)
theorem dX9_init_121 : decode cX9_init 121 = .ok (.bipush 36, 2) := dk_16 36 (dk_at dksX9_init_5 4 rfl rfl)
theorem dX9_init_123 : decode cX9_init 123 = .ok (.newarray .int, 2) := dk_188_10 (dk_at dksX9_init_5 6 rfl rfl)
theorem dX9_init_125 : decode cX9_init 125 = .ok (.putfield 52, 3) := dk_181 0 52 (dk_at dksX9_init_5 8 rfl rfl)
theorem dX9_init_128 : decode cX9_init 128 = .ok (.aload_n 0, 1) := dk_42 (dk_at dksX9_init_5 11 rfl rfl)
theorem dX9_init_129 : decode cX9_init 129 = .ok (.bipush 40, 2) := dk_16 40 (dk_at dksX9_init_5 12 rfl rfl)
theorem dX9_init_131 : decode cX9_init 131 = .ok (.newarray .int, 2) := dk_188_10 (dk_at dksX9_init_5 14 rfl rfl)
theorem dX9_init_133 : decode cX9_init 133 = .ok (.putfield 55, 3) := dk_181 0 55 (dk_at dksX9_init_5 16 rfl rfl)
theorem dX9_init_136 : decode cX9_init 136 = .ok (.aload_n 0, 1) := dk_42 (dk_at dksX9_init_5 19 rfl rfl)
theorem dX9_init_137 : decode cX9_init 137 = .ok (.iconst 4, 1) := dk_7 (dk_at dksX9_init_5 20 rfl rfl)
theorem dX9_init_138 : decode cX9_init 138 = .ok (.newarray .int, 2) := dk_188_10 (dk_at dksX9_init_5 21 rfl rfl)
theorem dX9_init_140 : decode cX9_init 140 = .ok (.putfield 58, 3) := dk_181 0 58 (dk_at dksX9_init_6 0 rfl rfl)
theorem dX9_init_143 : decode cX9_init 143 = .ok (.aload_n 0, 1) := dk_42 (dk_at dksX9_init_6 3 rfl rfl)
theorem dX9_init_144 : decode cX9_init 144 = .ok (.iconst 4, 1) := dk_7 (dk_at dksX9_init_6 4 rfl rfl)
theorem dX9_init_145 : decode cX9_init 145 = .ok (.newarray .int, 2) := dk_188_10 (dk_at dksX9_init_6 5 rfl rfl)
theorem dX9_init_147 : decode cX9_init 147 = .ok (.putfield 61, 3) := dk_181 0 61 (dk_at dksX9_init_6 7 rfl rfl)
theorem dX9_init_150 : decode cX9_init 150 = .ok (.aload_n 0, 1) := dk_42 (dk_at dksX9_init_6 10 rfl rfl)
theorem dX9_init_151 : decode cX9_init 151 = .ok (.sipush 160, 3) := dk_17 0 160 (dk_at dksX9_init_6 11 rfl rfl)
theorem dX9_init_154 : decode cX9_init 154 = .ok (.newarray .int, 2) := dk_188_10 (dk_at dksX9_init_6 14 rfl rfl)
theorem dX9_init_156 : decode cX9_init 156 = .ok (.putfield 64, 3) := dk_181 0 64 (dk_at dksX9_init_6 16 rfl rfl)
theorem dX9_init_159 : decode cX9_init 159 = .ok (.aload_n 0, 1) := dk_42 (dk_at dksX9_init_6 19 rfl rfl)
theorem dX9_init_160 : decode cX9_init 160 = .ok (.bipush 40, 2) := dk_16 40 (dk_at dksX9_init_6 20 rfl rfl)
theorem dX9_init_162 : decode cX9_init 162 = .ok (.newarray .int, 2) := dk_188_10 (dk_at dksX9_init_6 22 rfl rfl)
theorem dX9_init_164 : decode cX9_init 164 = .ok (.putfield 67, 3) := dk_181 0 67 (dk_at dksX9_init_7 0 rfl rfl)
theorem dX9_init_167 : decode cX9_init 167 = .ok (.iconst 0, 1) := dk_3 (dk_at dksX9_init_7 3 rfl rfl)
theorem dX9_init_168 : decode cX9_init 168 = .ok (.istore_n 1, 1) := dk_60 (dk_at dksX9_init_7 4 rfl rfl)
theorem dX9_init_169 : decode cX9_init 169 = .ok (.iload_n 1, 1) := dk_27 (dk_at dksX9_init_7 5 rfl rfl)
theorem dX9_init_170 : decode cX9_init 170 = .ok (.bipush 12, 2) := dk_16 12 (dk_at dksX9_init_7 6 rfl rfl)
theorem dX9_init_172 : decode cX9_init 172 = .ok (.if_icmp .ge 19, 3) := dk_162 0 19 (dk_at dksX9_init_7 8 rfl rfl)
theorem dX9_init_175 : decode cX9_init 175 = .ok (.aload_n 0, 1) := dk_42 (dk_at dksX9_init_7 11 rfl rfl)
theorem dX9_init_176 : decode cX9_init 176 = .ok (.getfield 9, 3) := dk_180 0 9 (dk_at dksX9_init_7 12 rfl rfl)
theorem dX9_init_179 : decode cX9_init 179 = .ok (.bipush 10, 2) := dk_16 10 (dk_at dksX9_init_7 15 rfl rfl)
theorem dX9_init_181 : decode cX9_init 181 = .ok (.iload_n 1, 1) := dk_27 (dk_at dksX9_init_7 17 rfl rfl)
theorem dX9_init_182 : decode cX9_init 182 = .ok (.iadd, 1) := dk_96 (dk_at dksX9_init_7 18 rfl rfl)
theorem dX9_init_183 : decode cX9_init 183 = .ok (.iconst 3, 1) := dk_6 (dk_at dksX9_init_7 19 rfl rfl)
theorem dX9_init_184 : decode cX9_init 184 = .ok (.iastore, 1) := dk_79 (dk_at dksX9_init_7 20 rfl rfl)
theorem dX9_init_185 : decode cX9_init 185 = .ok (.iinc 1 1, 3) := dk_132 1 1 (dk_at dksX9_init_7 21 rfl rfl)
theorem dX9_init_188 : decode cX9_init 188 = .ok (.goto (-19), 3) := dk_167 255 237 (dk_at dksX9_init_8 0 rfl rfl)
theorem dX9_init_191 : decode cX9_init 191 = .ok (.iconst 0, 1) := dk_3 (dk_at dksX9_init_8 3 rfl rfl)
theorem dX9_init_192 : decode cX9_init 192 = .ok (.istore_n 1, 1) := dk_60 (dk_at dksX9_init_8 4 rfl rfl)
theorem dX9_init_193 : decode cX9_init 193 = .ok (.iload_n 1, 1) := dk_27 (dk_at dksX9_init_8 5 rfl rfl)
theorem dX9_init_194 : decode cX9_init 194 = .ok (.iconst 5, 1) := dk_8 (dk_at dksX9_init_8 6 rfl rfl)
theorem dX9_init_195 : decode cX9_init 195 = .ok (.if_icmp .gt 39, 3) := dk_163 0 39 (dk_at dksX9_init_8 7 rfl rfl)
theorem dX9_init_198 : decode cX9_init 198 = .ok (.aload_n 0, 1) := dk_42 (dk_at dksX9_init_8 10 rfl rfl)
theorem dX9_init_199 : decode cX9_init 199 = .ok (.getfield 19, 3) := dk_180 0 19 (dk_at dksX9_init_8 11 rfl rfl)
theorem dX9_init_202 : decode cX9_init 202 = .ok (.iload_n 1, 1) := dk_27 (dk_at dksX9_init_8 14 rfl rfl)
theorem dX9_init_203 : decode cX9_init 203 = .ok (.aload_n 0, 1) := dk_42 (dk_at dksX9_init_8 15 rfl rfl)
theorem dX9_init_204 : decode cX9_init 204 = .ok (.getfield 70, 3) := dk_180 0 70 (dk_at dksX9_init_8 16 rfl rfl)
theorem dX9_init_207 : decode cX9_init 207 = .ok (.iastore, 1) := dk_79 (dk_at dksX9_init_8 19 rfl rfl)
theorem dX9_init_208 : decode cX9_init 208 = .ok (.iconst 0, 1) := dk_3 (dk_at dksX9_init_8 20 rfl rfl)
theorem dX9_init_209 : decode cX9_init 209 = .ok (.istore_n 2, 1) := dk_61 (dk_at dksX9_init_8 21 rfl rfl)
theorem dX9_init_210 : decode cX9_init 210 = .ok (.iload_n 2, 1) := dk_28 (dk_at dksX9_init_8 22 rfl rfl)
theorem dX9_init_211 : decode cX9_init 211 = .ok (.bipush 12, 2) := dk_16 12 (dk_at dksX9_init_9 0 rfl rfl)
theorem dX9_init_213 : decode cX9_init 213 = .ok (.if_icmp .ge 15, 3) := dk_162 0 15 (dk_at dksX9_init_9 2 rfl rfl)
theorem dX9_init_216 : decode cX9_init 216 = .ok (.aload_n 0, 1) := dk_42 (dk_at dksX9_init_9 5 rfl rfl)
theorem dX9_init_217 : decode cX9_init 217 = .ok (.iload_n 1, 1) := dk_27 (dk_at dksX9_init_9 6 rfl rfl)
theorem dX9_init_218 : decode cX9_init 218 = .ok (.iload_n 2, 1) := dk_28 (dk_at dksX9_init_9 7 rfl rfl)
theorem dX9_init_219 : decode cX9_init 219 = .ok (.invokevirtual 74, 3) := dk_182 0 74 (dk_at dksX9_init_9 8 rfl rfl)
theorem dX9_init_222 : decode cX9_init 222 = .ok (.iinc 2 1, 3) := dk_132 2 1 (dk_at dksX9_init_9 11 rfl rfl)
theorem dX9_init_225 : decode cX9_init 225 = .ok (.goto (-15), 3) := dk_167 255 241 (dk_at dksX9_init_9 14 rfl rfl)
theorem dX9_init_228 : decode cX9_init 228 = .ok (.iinc 1 1, 3) := dk_132 1 1 (dk_at dksX9_init_9 17 rfl rfl)
theorem dX9_init_231 : decode cX9_init 231 = .ok (.goto (-38), 3) := dk_167 255 218 (dk_at dksX9_init_9 20 rfl rfl)
theorem dX9_init_234 : decode cX9_init 234 = .ok (.aload_n 0, 1) := dk_42 (dk_at dksX9_init_9 23 rfl rfl)
theorem dX9_init_235 : decode cX9_init 235 = .ok (.getfield 19, 3) := dk_180 0 19 (dk_at dksX9_init_10 0 rfl rfl)
theorem dX9_init_238 : decode cX9_init 238 = .ok (.bipush 6, 2) := dk_16 6 (dk_at dksX9_init_10 3 rfl rfl)
theorem dX9_init_240 : decode cX9_init 240 = .ok (.aload_n 0, 1) := dk_42 (dk_at dksX9_init_10 5 rfl rfl)
theorem dX9_init_241 : decode cX9_init 241 = .ok (.getfield 70, 3) := dk_180 0 70 (dk_at dksX9_init_10 6 rfl rfl)
theorem dX9_init_244 : decode cX9_init 244 = .ok (.iastore, 1) := dk_79 (dk_at dksX9_init_10 9 rfl rfl)
theorem dX9_init_245 : decode cX9_init 245 = .ok (.return_, 1) := dk_177 (dk_at dksX9_init_10 10 rfl rfl)
abbrev cX9_addCases : ByteArray := prog_33_method_6_code
def yX9_addCases : MethodName := ⟨RX9, "addCases", "(II)V"⟩
def dkwX9_addCases_8 : List UInt8 := [28, 96, 5, 182, 0, 86, 167, 0, 10, 42, 28, 2, 3, 182, 0, 86, 177]
abbrev dktX9_addCases_8 : List UInt8 := dkwX9_addCases_8 ++ []
def dkwX9_addCases_7 : List UInt8 := [182, 0, 86, 167, 0, 37, 28, 7, 162, 0, 32, 42, 28, 7, 28, 96, 5, 182, 0, 86, 42, 28, 16, 8]
abbrev dktX9_addCases_7 : List UInt8 := dkwX9_addCases_7 ++ dktX9_addCases_8
def dkwX9_addCases_6 : List UInt8 := [132, 3, 1, 167, 255, 193, 167, 0, 58, 42, 28, 28, 4, 28, 184, 0, 78, 120, 4, 100, 184, 0, 82, 3]
abbrev dktX9_addCases_6 : List UInt8 := dkwX9_addCases_6 ++ dktX9_addCases_7
def dkwX9_addCases_5 : List UInt8 := [28, 28, 4, 29, 120, 4, 21, 4, 120, 128, 184, 0, 82, 29, 182, 0, 86, 132, 4, 1, 167, 255, 212]
abbrev dktX9_addCases_5 : List UInt8 := dkwX9_addCases_5 ++ dktX9_addCases_6
def dkwX9_addCases_4 : List UInt8 := [21, 4, 28, 184, 0, 78, 162, 0, 41, 28, 29, 184, 0, 90, 28, 21, 4, 184, 0, 90, 159, 0, 21, 42]
abbrev dktX9_addCases_4 : List UInt8 := dkwX9_addCases_4 ++ dktX9_addCases_5
def dkwX9_addCases_3 : List UInt8 := [132, 3, 1, 167, 255, 232, 167, 0, 129, 3, 62, 29, 28, 184, 0, 78, 162, 0, 61, 29, 4, 96, 54, 4]
abbrev dktX9_addCases_3 : List UInt8 := dkwX9_addCases_3 ++ dktX9_addCases_4
def dkwX9_addCases_2 : List UInt8 := [3, 62, 29, 28, 184, 0, 78, 162, 0, 22, 42, 28, 28, 4, 29, 120, 184, 0, 82, 29, 182, 0, 86]
abbrev dktX9_addCases_2 : List UInt8 := dkwX9_addCases_2 ++ dktX9_addCases_3
def dkwX9_addCases_1 : List UInt8 := [170, 0, 0, 0, 0, 0, 182, 0, 0, 0, 1, 0, 0, 0, 4, 0, 0, 0, 31, 0, 0, 0, 63, 0, 0, 0, 134, 0, 0, 0, 155]
abbrev dktX9_addCases_1 : List UInt8 := dkwX9_addCases_1 ++ dktX9_addCases_2
def dkwX9_addCases_0 : List UInt8 := [27]
abbrev dktX9_addCases_0 : List UInt8 := dkwX9_addCases_0 ++ dktX9_addCases_1
theorem dksX9_addCases_0 : cX9_addCases.data.toList.drop 0 = dktX9_addCases_0 := by decide +kernel
theorem dksX9_addCases_1 : cX9_addCases.data.toList.drop 1 = dktX9_addCases_1 := dk_seg dksX9_addCases_0 1 rfl rfl
theorem dksX9_addCases_2 : cX9_addCases.data.toList.drop 32 = dktX9_addCases_2 := dk_seg dksX9_addCases_1 31 rfl rfl
theorem dksX9_addCases_3 : cX9_addCases.data.toList.drop 55 = dktX9_addCases_3 := dk_seg dksX9_addCases_2 23 rfl rfl
theorem dksX9_addCases_4 : cX9_addCases.data.toList.drop 79 = dktX9_addCases_4 := dk_seg dksX9_addCases_3 24 rfl rfl
theorem dksX9_addCases_5 : cX9_addCases.data.toList.drop 103 = dktX9_addCases_5 := dk_seg dksX9_addCases_4 24 rfl rfl
theorem dksX9_addCases_6 : cX9_addCases.data.toList.drop 126 = dktX9_addCases_6 := dk_seg dksX9_addCases_5 23 rfl rfl
theorem dksX9_addCases_7 : cX9_addCases.data.toList.drop 150 = dktX9_addCases_7 := dk_seg dksX9_addCases_6 24 rfl rfl
theorem dksX9_addCases_8 : cX9_addCases.data.toList.drop 174 = dktX9_addCases_8 := dk_seg dksX9_addCases_7 24 rfl rfl
theorem dX9_addCases_0 : decode cX9_addCases 0 = .ok (.iload_n 1, 1) := dk_27 (dk_at dksX9_addCases_0 0 rfl rfl)
theorem dX9_addCases_1 : decode cX9_addCases 1 = .ok (.tableswitch 182 1 4 #[31, 63, 134, 155], 31) := by decide +kernel
theorem dX9_addCases_32 : decode cX9_addCases 32 = .ok (.iconst 0, 1) := dk_3 (dk_at dksX9_addCases_2 0 rfl rfl)
theorem dX9_addCases_33 : decode cX9_addCases 33 = .ok (.istore_n 3, 1) := dk_62 (dk_at dksX9_addCases_2 1 rfl rfl)
theorem dX9_addCases_34 : decode cX9_addCases 34 = .ok (.iload_n 3, 1) := dk_29 (dk_at dksX9_addCases_2 2 rfl rfl)
theorem dX9_addCases_35 : decode cX9_addCases 35 = .ok (.iload_n 2, 1) := dk_28 (dk_at dksX9_addCases_2 3 rfl rfl)
theorem dX9_addCases_36 : decode cX9_addCases 36 = .ok (.invokestatic 78, 3) := dk_184 0 78 (dk_at dksX9_addCases_2 4 rfl rfl)
theorem dX9_addCases_39 : decode cX9_addCases 39 = .ok (.if_icmp .ge 22, 3) := dk_162 0 22 (dk_at dksX9_addCases_2 7 rfl rfl)
theorem dX9_addCases_42 : decode cX9_addCases 42 = .ok (.aload_n 0, 1) := dk_42 (dk_at dksX9_addCases_2 10 rfl rfl)
theorem dX9_addCases_43 : decode cX9_addCases 43 = .ok (.iload_n 2, 1) := dk_28 (dk_at dksX9_addCases_2 11 rfl rfl)
theorem dX9_addCases_44 : decode cX9_addCases 44 = .ok (.iload_n 2, 1) := dk_28 (dk_at dksX9_addCases_2 12 rfl rfl)
theorem dX9_addCases_45 : decode cX9_addCases 45 = .ok (.iconst 1, 1) := dk_4 (dk_at dksX9_addCases_2 13 rfl rfl)
theorem dX9_addCases_46 : decode cX9_addCases 46 = .ok (.iload_n 3, 1) := dk_29 (dk_at dksX9_addCases_2 14 rfl rfl)
theorem dX9_addCases_47 : decode cX9_addCases 47 = .ok (.ishl, 1) := dk_120 (dk_at dksX9_addCases_2 15 rfl rfl)
theorem dX9_addCases_48 : decode cX9_addCases 48 = .ok (.invokestatic 82, 3) := dk_184 0 82 (dk_at dksX9_addCases_2 16 rfl rfl)
theorem dX9_addCases_51 : decode cX9_addCases 51 = .ok (.iload_n 3, 1) := dk_29 (dk_at dksX9_addCases_2 19 rfl rfl)
theorem dX9_addCases_52 : decode cX9_addCases 52 = .ok (.invokevirtual 86, 3) := dk_182 0 86 (dk_at dksX9_addCases_2 20 rfl rfl)
theorem dX9_addCases_55 : decode cX9_addCases 55 = .ok (.iinc 3 1, 3) := dk_132 3 1 (dk_at dksX9_addCases_3 0 rfl rfl)
theorem dX9_addCases_58 : decode cX9_addCases 58 = .ok (.goto (-24), 3) := dk_167 255 232 (dk_at dksX9_addCases_3 3 rfl rfl)
theorem dX9_addCases_61 : decode cX9_addCases 61 = .ok (.goto 129, 3) := dk_167 0 129 (dk_at dksX9_addCases_3 6 rfl rfl)
theorem dX9_addCases_64 : decode cX9_addCases 64 = .ok (.iconst 0, 1) := dk_3 (dk_at dksX9_addCases_3 9 rfl rfl)
theorem dX9_addCases_65 : decode cX9_addCases 65 = .ok (.istore_n 3, 1) := dk_62 (dk_at dksX9_addCases_3 10 rfl rfl)
theorem dX9_addCases_66 : decode cX9_addCases 66 = .ok (.iload_n 3, 1) := dk_29 (dk_at dksX9_addCases_3 11 rfl rfl)
theorem dX9_addCases_67 : decode cX9_addCases 67 = .ok (.iload_n 2, 1) := dk_28 (dk_at dksX9_addCases_3 12 rfl rfl)
theorem dX9_addCases_68 : decode cX9_addCases 68 = .ok (.invokestatic 78, 3) := dk_184 0 78 (dk_at dksX9_addCases_3 13 rfl rfl)
theorem dX9_addCases_71 : decode cX9_addCases 71 = .ok (.if_icmp .ge 61, 3) := dk_162 0 61 (dk_at dksX9_addCases_3 16 rfl rfl)
theorem dX9_addCases_74 : decode cX9_addCases 74 = .ok (.iload_n 3, 1) := dk_29 (dk_at dksX9_addCases_3 19 rfl rfl)
theorem dX9_addCases_75 : decode cX9_addCases 75 = .ok (.iconst 1, 1) := dk_4 (dk_at dksX9_addCases_3 20 rfl rfl)
theorem dX9_addCases_76 : decode cX9_addCases 76 = .ok (.iadd, 1) := dk_96 (dk_at dksX9_addCases_3 21 rfl rfl)
theorem dX9_addCases_77 : decode cX9_addCases 77 = .ok (.istore 4, 2) := dk_54 4 (dk_at dksX9_addCases_3 22 rfl rfl)
theorem dX9_addCases_79 : decode cX9_addCases 79 = .ok (.iload 4, 2) := dk_21 4 (dk_at dksX9_addCases_4 0 rfl rfl)
theorem dX9_addCases_81 : decode cX9_addCases 81 = .ok (.iload_n 2, 1) := dk_28 (dk_at dksX9_addCases_4 2 rfl rfl)
theorem dX9_addCases_82 : decode cX9_addCases 82 = .ok (.invokestatic 78, 3) := dk_184 0 78 (dk_at dksX9_addCases_4 3 rfl rfl)
theorem dX9_addCases_85 : decode cX9_addCases 85 = .ok (.if_icmp .ge 41, 3) := dk_162 0 41 (dk_at dksX9_addCases_4 6 rfl rfl)
theorem dX9_addCases_88 : decode cX9_addCases 88 = .ok (.iload_n 2, 1) := dk_28 (dk_at dksX9_addCases_4 9 rfl rfl)
theorem dX9_addCases_89 : decode cX9_addCases 89 = .ok (.iload_n 3, 1) := dk_29 (dk_at dksX9_addCases_4 10 rfl rfl)
theorem dX9_addCases_90 : decode cX9_addCases 90 = .ok (.invokestatic 90, 3) := dk_184 0 90 (dk_at dksX9_addCases_4 11 rfl rfl)
theorem dX9_addCases_93 : decode cX9_addCases 93 = .ok (.iload_n 2, 1) := dk_28 (dk_at dksX9_addCases_4 14 rfl rfl)
theorem dX9_addCases_94 : decode cX9_addCases 94 = .ok (.iload 4, 2) := dk_21 4 (dk_at dksX9_addCases_4 15 rfl rfl)
theorem dX9_addCases_96 : decode cX9_addCases 96 = .ok (.invokestatic 90, 3) := dk_184 0 90 (dk_at dksX9_addCases_4 17 rfl rfl)
theorem dX9_addCases_99 : decode cX9_addCases 99 = .ok (.if_icmp .eq 21, 3) := dk_159 0 21 (dk_at dksX9_addCases_4 20 rfl rfl)
theorem dX9_addCases_102 : decode cX9_addCases 102 = .ok (.aload_n 0, 1) := dk_42 (dk_at dksX9_addCases_4 23 rfl rfl)
theorem dX9_addCases_103 : decode cX9_addCases 103 = .ok (.iload_n 2, 1) := dk_28 (dk_at dksX9_addCases_5 0 rfl rfl)
theorem dX9_addCases_104 : decode cX9_addCases 104 = .ok (.iload_n 2, 1) := dk_28 (dk_at dksX9_addCases_5 1 rfl rfl)
theorem dX9_addCases_105 : decode cX9_addCases 105 = .ok (.iconst 1, 1) := dk_4 (dk_at dksX9_addCases_5 2 rfl rfl)
theorem dX9_addCases_106 : decode cX9_addCases 106 = .ok (.iload_n 3, 1) := dk_29 (dk_at dksX9_addCases_5 3 rfl rfl)
theorem dX9_addCases_107 : decode cX9_addCases 107 = .ok (.ishl, 1) := dk_120 (dk_at dksX9_addCases_5 4 rfl rfl)
theorem dX9_addCases_108 : decode cX9_addCases 108 = .ok (.iconst 1, 1) := dk_4 (dk_at dksX9_addCases_5 5 rfl rfl)
theorem dX9_addCases_109 : decode cX9_addCases 109 = .ok (.iload 4, 2) := dk_21 4 (dk_at dksX9_addCases_5 6 rfl rfl)
theorem dX9_addCases_111 : decode cX9_addCases 111 = .ok (.ishl, 1) := dk_120 (dk_at dksX9_addCases_5 8 rfl rfl)
theorem dX9_addCases_112 : decode cX9_addCases 112 = .ok (.ior, 1) := dk_128 (dk_at dksX9_addCases_5 9 rfl rfl)
theorem dX9_addCases_113 : decode cX9_addCases 113 = .ok (.invokestatic 82, 3) := dk_184 0 82 (dk_at dksX9_addCases_5 10 rfl rfl)
theorem dX9_addCases_116 : decode cX9_addCases 116 = .ok (.iload_n 3, 1) := dk_29 (dk_at dksX9_addCases_5 13 rfl rfl)
theorem dX9_addCases_117 : decode cX9_addCases 117 = .ok (.invokevirtual 86, 3) := dk_182 0 86 (dk_at dksX9_addCases_5 14 rfl rfl)
theorem dX9_addCases_120 : decode cX9_addCases 120 = .ok (.iinc 4 1, 3) := dk_132 4 1 (dk_at dksX9_addCases_5 17 rfl rfl)
theorem dX9_addCases_123 : decode cX9_addCases 123 = .ok (.goto (-44), 3) := dk_167 255 212 (dk_at dksX9_addCases_5 20 rfl rfl)
theorem dX9_addCases_126 : decode cX9_addCases 126 = .ok (.iinc 3 1, 3) := dk_132 3 1 (dk_at dksX9_addCases_6 0 rfl rfl)
theorem dX9_addCases_129 : decode cX9_addCases 129 = .ok (.goto (-63), 3) := dk_167 255 193 (dk_at dksX9_addCases_6 3 rfl rfl)
theorem dX9_addCases_132 : decode cX9_addCases 132 = .ok (.goto 58, 3) := dk_167 0 58 (dk_at dksX9_addCases_6 6 rfl rfl)
theorem dX9_addCases_135 : decode cX9_addCases 135 = .ok (.aload_n 0, 1) := dk_42 (dk_at dksX9_addCases_6 9 rfl rfl)
theorem dX9_addCases_136 : decode cX9_addCases 136 = .ok (.iload_n 2, 1) := dk_28 (dk_at dksX9_addCases_6 10 rfl rfl)
theorem dX9_addCases_137 : decode cX9_addCases 137 = .ok (.iload_n 2, 1) := dk_28 (dk_at dksX9_addCases_6 11 rfl rfl)
theorem dX9_addCases_138 : decode cX9_addCases 138 = .ok (.iconst 1, 1) := dk_4 (dk_at dksX9_addCases_6 12 rfl rfl)
theorem dX9_addCases_139 : decode cX9_addCases 139 = .ok (.iload_n 2, 1) := dk_28 (dk_at dksX9_addCases_6 13 rfl rfl)
theorem dX9_addCases_140 : decode cX9_addCases 140 = .ok (.invokestatic 78, 3) := dk_184 0 78 (dk_at dksX9_addCases_6 14 rfl rfl)
theorem dX9_addCases_143 : decode cX9_addCases 143 = .ok (.ishl, 1) := dk_120 (dk_at dksX9_addCases_6 17 rfl rfl)
theorem dX9_addCases_144 : decode cX9_addCases 144 = .ok (.iconst 1, 1) := dk_4 (dk_at dksX9_addCases_6 18 rfl rfl)
theorem dX9_addCases_145 : decode cX9_addCases 145 = .ok (.isub, 1) := dk_100 (dk_at dksX9_addCases_6 19 rfl rfl)
theorem dX9_addCases_146 : decode cX9_addCases 146 = .ok (.invokestatic 82, 3) := dk_184 0 82 (dk_at dksX9_addCases_6 20 rfl rfl)
theorem dX9_addCases_149 : decode cX9_addCases 149 = .ok (.iconst 0, 1) := dk_3 (dk_at dksX9_addCases_6 23 rfl rfl)
theorem dX9_addCases_150 : decode cX9_addCases 150 = .ok (.invokevirtual 86, 3) := dk_182 0 86 (dk_at dksX9_addCases_7 0 rfl rfl)
theorem dX9_addCases_153 : decode cX9_addCases 153 = .ok (.goto 37, 3) := dk_167 0 37 (dk_at dksX9_addCases_7 3 rfl rfl)
theorem dX9_addCases_156 : decode cX9_addCases 156 = .ok (.iload_n 2, 1) := dk_28 (dk_at dksX9_addCases_7 6 rfl rfl)
theorem dX9_addCases_157 : decode cX9_addCases 157 = .ok (.iconst 4, 1) := dk_7 (dk_at dksX9_addCases_7 7 rfl rfl)
theorem dX9_addCases_158 : decode cX9_addCases 158 = .ok (.if_icmp .ge 32, 3) := dk_162 0 32 (dk_at dksX9_addCases_7 8 rfl rfl)
theorem dX9_addCases_161 : decode cX9_addCases 161 = .ok (.aload_n 0, 1) := dk_42 (dk_at dksX9_addCases_7 11 rfl rfl)
theorem dX9_addCases_162 : decode cX9_addCases 162 = .ok (.iload_n 2, 1) := dk_28 (dk_at dksX9_addCases_7 12 rfl rfl)
theorem dX9_addCases_163 : decode cX9_addCases 163 = .ok (.iconst 4, 1) := dk_7 (dk_at dksX9_addCases_7 13 rfl rfl)
theorem dX9_addCases_164 : decode cX9_addCases 164 = .ok (.iload_n 2, 1) := dk_28 (dk_at dksX9_addCases_7 14 rfl rfl)
theorem dX9_addCases_165 : decode cX9_addCases 165 = .ok (.iadd, 1) := dk_96 (dk_at dksX9_addCases_7 15 rfl rfl)
theorem dX9_addCases_166 : decode cX9_addCases 166 = .ok (.iconst 2, 1) := dk_5 (dk_at dksX9_addCases_7 16 rfl rfl)
theorem dX9_addCases_167 : decode cX9_addCases 167 = .ok (.invokevirtual 86, 3) := dk_182 0 86 (dk_at dksX9_addCases_7 17 rfl rfl)
theorem dX9_addCases_170 : decode cX9_addCases 170 = .ok (.aload_n 0, 1) := dk_42 (dk_at dksX9_addCases_7 20 rfl rfl)
theorem dX9_addCases_171 : decode cX9_addCases 171 = .ok (.iload_n 2, 1) := dk_28 (dk_at dksX9_addCases_7 21 rfl rfl)
theorem dX9_addCases_172 : decode cX9_addCases 172 = .ok (.bipush 8, 2) := dk_16 8 (dk_at dksX9_addCases_7 22 rfl rfl)
theorem dX9_addCases_174 : decode cX9_addCases 174 = .ok (.iload_n 2, 1) := dk_28 (dk_at dksX9_addCases_8 0 rfl rfl)
theorem dX9_addCases_175 : decode cX9_addCases 175 = .ok (.iadd, 1) := dk_96 (dk_at dksX9_addCases_8 1 rfl rfl)
theorem dX9_addCases_176 : decode cX9_addCases 176 = .ok (.iconst 2, 1) := dk_5 (dk_at dksX9_addCases_8 2 rfl rfl)
theorem dX9_addCases_177 : decode cX9_addCases 177 = .ok (.invokevirtual 86, 3) := dk_182 0 86 (dk_at dksX9_addCases_8 3 rfl rfl)
theorem dX9_addCases_180 : decode cX9_addCases 180 = .ok (.goto 10, 3) := dk_167 0 10 (dk_at dksX9_addCases_8 6 rfl rfl)
theorem dX9_addCases_183 : decode cX9_addCases 183 = .ok (.aload_n 0, 1) := dk_42 (dk_at dksX9_addCases_8 9 rfl rfl)
theorem dX9_addCases_184 : decode cX9_addCases 184 = .ok (.iload_n 2, 1) := dk_28 (dk_at dksX9_addCases_8 10 rfl rfl)
theorem dX9_addCases_185 : decode cX9_addCases 185 = .ok (.iconst (-1), 1) := dk_2 (dk_at dksX9_addCases_8 11 rfl rfl)
theorem dX9_addCases_186 : decode cX9_addCases 186 = .ok (.iconst 0, 1) := dk_3 (dk_at dksX9_addCases_8 12 rfl rfl)
theorem dX9_addCases_187 : decode cX9_addCases 187 = .ok (.invokevirtual 86, 3) := dk_182 0 86 (dk_at dksX9_addCases_8 13 rfl rfl)
theorem dX9_addCases_190 : decode cX9_addCases 190 = .ok (.return_, 1) := dk_177 (dk_at dksX9_addCases_8 16 rfl rfl)
abbrev cX9_size : ByteArray := prog_33_method_2_code
def yX9_size : MethodName := ⟨RX9, "size", "(I)I"⟩
def dkwX9_size_0 : List UInt8 := [26, 7, 162, 0, 7, 5, 167, 0, 4, 6, 172]
abbrev dktX9_size_0 : List UInt8 := dkwX9_size_0 ++ []
theorem dksX9_size_0 : cX9_size.data.toList.drop 0 = dktX9_size_0 := by decide +kernel
theorem dX9_size_0 : decode cX9_size 0 = .ok (.iload_n 0, 1) := dk_26 (dk_at dksX9_size_0 0 rfl rfl)
theorem dX9_size_1 : decode cX9_size 1 = .ok (.iconst 4, 1) := dk_7 (dk_at dksX9_size_0 1 rfl rfl)
theorem dX9_size_2 : decode cX9_size 2 = .ok (.if_icmp .ge 7, 3) := dk_162 0 7 (dk_at dksX9_size_0 2 rfl rfl)
theorem dX9_size_5 : decode cX9_size 5 = .ok (.iconst 2, 1) := dk_5 (dk_at dksX9_size_0 5 rfl rfl)
theorem dX9_size_6 : decode cX9_size 6 = .ok (.goto 4, 3) := dk_167 0 4 (dk_at dksX9_size_0 6 rfl rfl)
theorem dX9_size_9 : decode cX9_size 9 = .ok (.iconst 3, 1) := dk_6 (dk_at dksX9_size_0 9 rfl rfl)
theorem dX9_size_10 : decode cX9_size 10 = .ok (.ireturn, 1) := dk_172 (dk_at dksX9_size_0 10 rfl rfl)
abbrev cX9_turned : ByteArray := prog_33_method_4_code
def yX9_turned : MethodName := ⟨RX9, "turned", "(II)I"⟩
def dkwX9_turned_0 : List UInt8 := [26, 7, 162, 0, 9, 26, 27, 130, 167, 0, 10, 26, 7, 100, 27, 130, 7, 96, 172]
abbrev dktX9_turned_0 : List UInt8 := dkwX9_turned_0 ++ []
theorem dksX9_turned_0 : cX9_turned.data.toList.drop 0 = dktX9_turned_0 := by decide +kernel
theorem dX9_turned_0 : decode cX9_turned 0 = .ok (.iload_n 0, 1) := dk_26 (dk_at dksX9_turned_0 0 rfl rfl)
theorem dX9_turned_1 : decode cX9_turned 1 = .ok (.iconst 4, 1) := dk_7 (dk_at dksX9_turned_0 1 rfl rfl)
theorem dX9_turned_2 : decode cX9_turned 2 = .ok (.if_icmp .ge 9, 3) := dk_162 0 9 (dk_at dksX9_turned_0 2 rfl rfl)
theorem dX9_turned_5 : decode cX9_turned 5 = .ok (.iload_n 0, 1) := dk_26 (dk_at dksX9_turned_0 5 rfl rfl)
theorem dX9_turned_6 : decode cX9_turned 6 = .ok (.iload_n 1, 1) := dk_27 (dk_at dksX9_turned_0 6 rfl rfl)
theorem dX9_turned_7 : decode cX9_turned 7 = .ok (.ixor, 1) := dk_130 (dk_at dksX9_turned_0 7 rfl rfl)
theorem dX9_turned_8 : decode cX9_turned 8 = .ok (.goto 10, 3) := dk_167 0 10 (dk_at dksX9_turned_0 8 rfl rfl)
theorem dX9_turned_11 : decode cX9_turned 11 = .ok (.iload_n 0, 1) := dk_26 (dk_at dksX9_turned_0 11 rfl rfl)
theorem dX9_turned_12 : decode cX9_turned 12 = .ok (.iconst 4, 1) := dk_7 (dk_at dksX9_turned_0 12 rfl rfl)
theorem dX9_turned_13 : decode cX9_turned 13 = .ok (.isub, 1) := dk_100 (dk_at dksX9_turned_0 13 rfl rfl)
theorem dX9_turned_14 : decode cX9_turned 14 = .ok (.iload_n 1, 1) := dk_27 (dk_at dksX9_turned_0 14 rfl rfl)
theorem dX9_turned_15 : decode cX9_turned 15 = .ok (.ixor, 1) := dk_130 (dk_at dksX9_turned_0 15 rfl rfl)
theorem dX9_turned_16 : decode cX9_turned 16 = .ok (.iconst 4, 1) := dk_7 (dk_at dksX9_turned_0 16 rfl rfl)
theorem dX9_turned_17 : decode cX9_turned 17 = .ok (.iadd, 1) := dk_96 (dk_at dksX9_turned_0 17 rfl rfl)
theorem dX9_turned_18 : decode cX9_turned 18 = .ok (.ireturn, 1) := dk_172 (dk_at dksX9_turned_0 18 rfl rfl)
abbrev cX9_addCase : ByteArray := prog_33_method_5_code
def yX9_addCase : MethodName := ⟨RX9, "addCase", "(III)V"⟩
def dkwX9_addCase_1 : List UInt8 := [42, 180, 0, 70, 29, 79, 42, 89, 180, 0, 70, 4, 96, 181, 0, 70, 177]
abbrev dktX9_addCase_1 : List UInt8 := dkwX9_addCase_1 ++ []
def dkwX9_addCase_0 : List UInt8 := [42, 180, 0, 22, 42, 180, 0, 70, 27, 79, 42, 180, 0, 25, 42, 180, 0, 70, 28, 79, 42, 180, 0, 28]
abbrev dktX9_addCase_0 : List UInt8 := dkwX9_addCase_0 ++ dktX9_addCase_1
theorem dksX9_addCase_0 : cX9_addCase.data.toList.drop 0 = dktX9_addCase_0 := by decide +kernel
theorem dksX9_addCase_1 : cX9_addCase.data.toList.drop 24 = dktX9_addCase_1 := dk_seg dksX9_addCase_0 24 rfl rfl
theorem dX9_addCase_0 : decode cX9_addCase 0 = .ok (.aload_n 0, 1) := dk_42 (dk_at dksX9_addCase_0 0 rfl rfl)
theorem dX9_addCase_1 : decode cX9_addCase 1 = .ok (.getfield 22, 3) := dk_180 0 22 (dk_at dksX9_addCase_0 1 rfl rfl)
theorem dX9_addCase_4 : decode cX9_addCase 4 = .ok (.aload_n 0, 1) := dk_42 (dk_at dksX9_addCase_0 4 rfl rfl)
theorem dX9_addCase_5 : decode cX9_addCase 5 = .ok (.getfield 70, 3) := dk_180 0 70 (dk_at dksX9_addCase_0 5 rfl rfl)
theorem dX9_addCase_8 : decode cX9_addCase 8 = .ok (.iload_n 1, 1) := dk_27 (dk_at dksX9_addCase_0 8 rfl rfl)
theorem dX9_addCase_9 : decode cX9_addCase 9 = .ok (.iastore, 1) := dk_79 (dk_at dksX9_addCase_0 9 rfl rfl)
theorem dX9_addCase_10 : decode cX9_addCase 10 = .ok (.aload_n 0, 1) := dk_42 (dk_at dksX9_addCase_0 10 rfl rfl)
theorem dX9_addCase_11 : decode cX9_addCase 11 = .ok (.getfield 25, 3) := dk_180 0 25 (dk_at dksX9_addCase_0 11 rfl rfl)
theorem dX9_addCase_14 : decode cX9_addCase 14 = .ok (.aload_n 0, 1) := dk_42 (dk_at dksX9_addCase_0 14 rfl rfl)
theorem dX9_addCase_15 : decode cX9_addCase 15 = .ok (.getfield 70, 3) := dk_180 0 70 (dk_at dksX9_addCase_0 15 rfl rfl)
theorem dX9_addCase_18 : decode cX9_addCase 18 = .ok (.iload_n 2, 1) := dk_28 (dk_at dksX9_addCase_0 18 rfl rfl)
theorem dX9_addCase_19 : decode cX9_addCase 19 = .ok (.iastore, 1) := dk_79 (dk_at dksX9_addCase_0 19 rfl rfl)
theorem dX9_addCase_20 : decode cX9_addCase 20 = .ok (.aload_n 0, 1) := dk_42 (dk_at dksX9_addCase_0 20 rfl rfl)
theorem dX9_addCase_21 : decode cX9_addCase 21 = .ok (.getfield 28, 3) := dk_180 0 28 (dk_at dksX9_addCase_0 21 rfl rfl)
theorem dX9_addCase_24 : decode cX9_addCase 24 = .ok (.aload_n 0, 1) := dk_42 (dk_at dksX9_addCase_1 0 rfl rfl)
theorem dX9_addCase_25 : decode cX9_addCase 25 = .ok (.getfield 70, 3) := dk_180 0 70 (dk_at dksX9_addCase_1 1 rfl rfl)
theorem dX9_addCase_28 : decode cX9_addCase 28 = .ok (.iload_n 3, 1) := dk_29 (dk_at dksX9_addCase_1 4 rfl rfl)
theorem dX9_addCase_29 : decode cX9_addCase 29 = .ok (.iastore, 1) := dk_79 (dk_at dksX9_addCase_1 5 rfl rfl)
theorem dX9_addCase_30 : decode cX9_addCase 30 = .ok (.aload_n 0, 1) := dk_42 (dk_at dksX9_addCase_1 6 rfl rfl)
theorem dX9_addCase_31 : decode cX9_addCase 31 = .ok (.dup, 1) := dk_89 (dk_at dksX9_addCase_1 7 rfl rfl)
theorem dX9_addCase_32 : decode cX9_addCase 32 = .ok (.getfield 70, 3) := dk_180 0 70 (dk_at dksX9_addCase_1 8 rfl rfl)
theorem dX9_addCase_35 : decode cX9_addCase 35 = .ok (.iconst 1, 1) := dk_4 (dk_at dksX9_addCase_1 11 rfl rfl)
theorem dX9_addCase_36 : decode cX9_addCase 36 = .ok (.iadd, 1) := dk_96 (dk_at dksX9_addCase_1 12 rfl rfl)
theorem dX9_addCase_37 : decode cX9_addCase 37 = .ok (.putfield 70, 3) := dk_181 0 70 (dk_at dksX9_addCase_1 13 rfl rfl)
theorem dX9_addCase_40 : decode cX9_addCase 40 = .ok (.return_, 1) := dk_177 (dk_at dksX9_addCase_1 16 rfl rfl)
abbrev cX9_wants : ByteArray := prog_33_method_3_code
def yX9_wants : MethodName := ⟨RX9, "wants", "(II)I"⟩
def dkwX9_wants_1 : List UInt8 := [27, 122, 4, 126, 172]
abbrev dktX9_wants_1 : List UInt8 := dkwX9_wants_1 ++ []
def dkwX9_wants_0 : List UInt8 := [27, 26, 184, 0, 78, 161, 0, 7, 5, 167, 0, 19, 26, 7, 162, 0, 7, 26, 167, 0, 6, 26, 7, 100]
abbrev dktX9_wants_0 : List UInt8 := dkwX9_wants_0 ++ dktX9_wants_1
theorem dksX9_wants_0 : cX9_wants.data.toList.drop 0 = dktX9_wants_0 := by decide +kernel
theorem dksX9_wants_1 : cX9_wants.data.toList.drop 24 = dktX9_wants_1 := dk_seg dksX9_wants_0 24 rfl rfl
theorem dX9_wants_0 : decode cX9_wants 0 = .ok (.iload_n 1, 1) := dk_27 (dk_at dksX9_wants_0 0 rfl rfl)
theorem dX9_wants_1 : decode cX9_wants 1 = .ok (.iload_n 0, 1) := dk_26 (dk_at dksX9_wants_0 1 rfl rfl)
theorem dX9_wants_2 : decode cX9_wants 2 = .ok (.invokestatic 78, 3) := dk_184 0 78 (dk_at dksX9_wants_0 2 rfl rfl)
theorem dX9_wants_5 : decode cX9_wants 5 = .ok (.if_icmp .lt 7, 3) := dk_161 0 7 (dk_at dksX9_wants_0 5 rfl rfl)
theorem dX9_wants_8 : decode cX9_wants 8 = .ok (.iconst 2, 1) := dk_5 (dk_at dksX9_wants_0 8 rfl rfl)
theorem dX9_wants_9 : decode cX9_wants 9 = .ok (.goto 19, 3) := dk_167 0 19 (dk_at dksX9_wants_0 9 rfl rfl)
theorem dX9_wants_12 : decode cX9_wants 12 = .ok (.iload_n 0, 1) := dk_26 (dk_at dksX9_wants_0 12 rfl rfl)
theorem dX9_wants_13 : decode cX9_wants 13 = .ok (.iconst 4, 1) := dk_7 (dk_at dksX9_wants_0 13 rfl rfl)
theorem dX9_wants_14 : decode cX9_wants 14 = .ok (.if_icmp .ge 7, 3) := dk_162 0 7 (dk_at dksX9_wants_0 14 rfl rfl)
theorem dX9_wants_17 : decode cX9_wants 17 = .ok (.iload_n 0, 1) := dk_26 (dk_at dksX9_wants_0 17 rfl rfl)
theorem dX9_wants_18 : decode cX9_wants 18 = .ok (.goto 6, 3) := dk_167 0 6 (dk_at dksX9_wants_0 18 rfl rfl)
theorem dX9_wants_21 : decode cX9_wants 21 = .ok (.iload_n 0, 1) := dk_26 (dk_at dksX9_wants_0 21 rfl rfl)
theorem dX9_wants_22 : decode cX9_wants 22 = .ok (.iconst 4, 1) := dk_7 (dk_at dksX9_wants_0 22 rfl rfl)
theorem dX9_wants_23 : decode cX9_wants 23 = .ok (.isub, 1) := dk_100 (dk_at dksX9_wants_0 23 rfl rfl)
theorem dX9_wants_24 : decode cX9_wants 24 = .ok (.iload_n 1, 1) := dk_27 (dk_at dksX9_wants_1 0 rfl rfl)
theorem dX9_wants_25 : decode cX9_wants 25 = .ok (.ishr, 1) := dk_122 (dk_at dksX9_wants_1 1 rfl rfl)
theorem dX9_wants_26 : decode cX9_wants 26 = .ok (.iconst 1, 1) := dk_4 (dk_at dksX9_wants_1 2 rfl rfl)
theorem dX9_wants_27 : decode cX9_wants 27 = .ok (.iand, 1) := dk_126 (dk_at dksX9_wants_1 3 rfl rfl)
theorem dX9_wants_28 : decode cX9_wants 28 = .ok (.ireturn, 1) := dk_172 (dk_at dksX9_wants_1 4 rfl rfl)
abbrev cX9_hall : ByteArray := prog_33_method_18_code
def yX9_hall : MethodName := ⟨RX9, "hall", "(II)I"⟩
def dkwX9_hall_2 : List UInt8 := [162, 0, 13, 27, 28, 4, 100, 184, 0, 109, 167, 0, 11, 27, 28, 16, 10, 100, 184, 0, 90, 172]
abbrev dktX9_hall_2 : List UInt8 := dkwX9_hall_2 ++ []
def dkwX9_hall_1 : List UInt8 := [154, 0, 10, 42, 18, 105, 182, 0, 106, 172, 28, 154, 0, 10, 27, 184, 0, 78, 167, 0, 26, 28, 6]
abbrev dktX9_hall_1 : List UInt8 := dkwX9_hall_1 ++ dktX9_hall_2
def dkwX9_hall_0 : List UInt8 := [27, 184, 0, 101, 153, 0, 23, 28, 3, 5, 184, 0, 94, 154, 0, 21, 28, 16, 10, 16, 12, 184, 0, 94]
abbrev dktX9_hall_0 : List UInt8 := dkwX9_hall_0 ++ dktX9_hall_1
theorem dksX9_hall_0 : cX9_hall.data.toList.drop 0 = dktX9_hall_0 := by decide +kernel
theorem dksX9_hall_1 : cX9_hall.data.toList.drop 24 = dktX9_hall_1 := dk_seg dksX9_hall_0 24 rfl rfl
theorem dksX9_hall_2 : cX9_hall.data.toList.drop 47 = dktX9_hall_2 := dk_seg dksX9_hall_1 23 rfl rfl
theorem dX9_hall_0 : decode cX9_hall 0 = .ok (.iload_n 1, 1) := dk_27 (dk_at dksX9_hall_0 0 rfl rfl)
theorem dX9_hall_1 : decode cX9_hall 1 = .ok (.invokestatic 101, 3) := dk_184 0 101 (dk_at dksX9_hall_0 1 rfl rfl)
theorem dX9_hall_4 : decode cX9_hall 4 = .ok (.ifCond .eq 23, 3) := dk_153 0 23 (dk_at dksX9_hall_0 4 rfl rfl)
theorem dX9_hall_7 : decode cX9_hall 7 = .ok (.iload_n 2, 1) := dk_28 (dk_at dksX9_hall_0 7 rfl rfl)
theorem dX9_hall_8 : decode cX9_hall 8 = .ok (.iconst 0, 1) := dk_3 (dk_at dksX9_hall_0 8 rfl rfl)
theorem dX9_hall_9 : decode cX9_hall 9 = .ok (.iconst 2, 1) := dk_5 (dk_at dksX9_hall_0 9 rfl rfl)
theorem dX9_hall_10 : decode cX9_hall 10 = .ok (.invokestatic 94, 3) := dk_184 0 94 (dk_at dksX9_hall_0 10 rfl rfl)
theorem dX9_hall_13 : decode cX9_hall 13 = .ok (.ifCond .ne 21, 3) := dk_154 0 21 (dk_at dksX9_hall_0 13 rfl rfl)
theorem dX9_hall_16 : decode cX9_hall 16 = .ok (.iload_n 2, 1) := dk_28 (dk_at dksX9_hall_0 16 rfl rfl)
theorem dX9_hall_17 : decode cX9_hall 17 = .ok (.bipush 10, 2) := dk_16 10 (dk_at dksX9_hall_0 17 rfl rfl)
theorem dX9_hall_19 : decode cX9_hall 19 = .ok (.bipush 12, 2) := dk_16 12 (dk_at dksX9_hall_0 19 rfl rfl)
theorem dX9_hall_21 : decode cX9_hall 21 = .ok (.invokestatic 94, 3) := dk_184 0 94 (dk_at dksX9_hall_0 21 rfl rfl)
theorem dX9_hall_24 : decode cX9_hall 24 = .ok (.ifCond .ne 10, 3) := dk_154 0 10 (dk_at dksX9_hall_1 0 rfl rfl)
theorem dX9_hall_27 : decode cX9_hall 27 = .ok (.aload_n 0, 1) := dk_42 (dk_at dksX9_hall_1 3 rfl rfl)
theorem dX9_hall_28 : decode cX9_hall 28 = .ok (.ldc 105, 2) := dk_18 105 (dk_at dksX9_hall_1 4 rfl rfl)
theorem dX9_hall_30 : decode cX9_hall 30 = .ok (.invokevirtual 106, 3) := dk_182 0 106 (dk_at dksX9_hall_1 6 rfl rfl)
theorem dX9_hall_33 : decode cX9_hall 33 = .ok (.ireturn, 1) := dk_172 (dk_at dksX9_hall_1 9 rfl rfl)
theorem dX9_hall_34 : decode cX9_hall 34 = .ok (.iload_n 2, 1) := dk_28 (dk_at dksX9_hall_1 10 rfl rfl)
theorem dX9_hall_35 : decode cX9_hall 35 = .ok (.ifCond .ne 10, 3) := dk_154 0 10 (dk_at dksX9_hall_1 11 rfl rfl)
theorem dX9_hall_38 : decode cX9_hall 38 = .ok (.iload_n 1, 1) := dk_27 (dk_at dksX9_hall_1 14 rfl rfl)
theorem dX9_hall_39 : decode cX9_hall 39 = .ok (.invokestatic 78, 3) := dk_184 0 78 (dk_at dksX9_hall_1 15 rfl rfl)
theorem dX9_hall_42 : decode cX9_hall 42 = .ok (.goto 26, 3) := dk_167 0 26 (dk_at dksX9_hall_1 18 rfl rfl)
theorem dX9_hall_45 : decode cX9_hall 45 = .ok (.iload_n 2, 1) := dk_28 (dk_at dksX9_hall_1 21 rfl rfl)
theorem dX9_hall_46 : decode cX9_hall 46 = .ok (.iconst 3, 1) := dk_6 (dk_at dksX9_hall_1 22 rfl rfl)
theorem dX9_hall_47 : decode cX9_hall 47 = .ok (.if_icmp .ge 13, 3) := dk_162 0 13 (dk_at dksX9_hall_2 0 rfl rfl)
theorem dX9_hall_50 : decode cX9_hall 50 = .ok (.iload_n 1, 1) := dk_27 (dk_at dksX9_hall_2 3 rfl rfl)
theorem dX9_hall_51 : decode cX9_hall 51 = .ok (.iload_n 2, 1) := dk_28 (dk_at dksX9_hall_2 4 rfl rfl)
theorem dX9_hall_52 : decode cX9_hall 52 = .ok (.iconst 1, 1) := dk_4 (dk_at dksX9_hall_2 5 rfl rfl)
theorem dX9_hall_53 : decode cX9_hall 53 = .ok (.isub, 1) := dk_100 (dk_at dksX9_hall_2 6 rfl rfl)
theorem dX9_hall_54 : decode cX9_hall 54 = .ok (.invokestatic 109, 3) := dk_184 0 109 (dk_at dksX9_hall_2 7 rfl rfl)
theorem dX9_hall_57 : decode cX9_hall 57 = .ok (.goto 11, 3) := dk_167 0 11 (dk_at dksX9_hall_2 10 rfl rfl)
theorem dX9_hall_60 : decode cX9_hall 60 = .ok (.iload_n 1, 1) := dk_27 (dk_at dksX9_hall_2 13 rfl rfl)
theorem dX9_hall_61 : decode cX9_hall 61 = .ok (.iload_n 2, 1) := dk_28 (dk_at dksX9_hall_2 14 rfl rfl)
theorem dX9_hall_62 : decode cX9_hall 62 = .ok (.bipush 10, 2) := dk_16 10 (dk_at dksX9_hall_2 15 rfl rfl)
theorem dX9_hall_64 : decode cX9_hall 64 = .ok (.isub, 1) := dk_100 (dk_at dksX9_hall_2 17 rfl rfl)
theorem dX9_hall_65 : decode cX9_hall 65 = .ok (.invokestatic 90, 3) := dk_184 0 90 (dk_at dksX9_hall_2 18 rfl rfl)
theorem dX9_hall_68 : decode cX9_hall 68 = .ok (.ireturn, 1) := dk_172 (dk_at dksX9_hall_2 21 rfl rfl)
abbrev cX9_isHall : ByteArray := prog_33_method_9_code
def yX9_isHall : MethodName := ⟨RX9, "isHall", "(I)Z"⟩
def dkwX9_isHall_0 : List UInt8 := [26, 3, 16, 11, 184, 0, 94, 172]
abbrev dktX9_isHall_0 : List UInt8 := dkwX9_isHall_0 ++ []
theorem dksX9_isHall_0 : cX9_isHall.data.toList.drop 0 = dktX9_isHall_0 := by decide +kernel
theorem dX9_isHall_0 : decode cX9_isHall 0 = .ok (.iload_n 0, 1) := dk_26 (dk_at dksX9_isHall_0 0 rfl rfl)
theorem dX9_isHall_1 : decode cX9_isHall 1 = .ok (.iconst 0, 1) := dk_3 (dk_at dksX9_isHall_0 1 rfl rfl)
theorem dX9_isHall_2 : decode cX9_isHall 2 = .ok (.bipush 11, 2) := dk_16 11 (dk_at dksX9_isHall_0 2 rfl rfl)
theorem dX9_isHall_4 : decode cX9_isHall 4 = .ok (.invokestatic 94, 3) := dk_184 0 94 (dk_at dksX9_isHall_0 4 rfl rfl)
theorem dX9_isHall_7 : decode cX9_isHall 7 = .ok (.ireturn, 1) := dk_172 (dk_at dksX9_isHall_0 7 rfl rfl)
abbrev cX9_within : ByteArray := prog_33_method_8_code
def yX9_within : MethodName := ⟨RX9, "within", "(III)Z"⟩
def dkwX9_within_0 : List UInt8 := [26, 27, 161, 0, 12, 26, 28, 163, 0, 7, 4, 167, 0, 4, 3, 172]
abbrev dktX9_within_0 : List UInt8 := dkwX9_within_0 ++ []
theorem dksX9_within_0 : cX9_within.data.toList.drop 0 = dktX9_within_0 := by decide +kernel
theorem dX9_within_0 : decode cX9_within 0 = .ok (.iload_n 0, 1) := dk_26 (dk_at dksX9_within_0 0 rfl rfl)
theorem dX9_within_1 : decode cX9_within 1 = .ok (.iload_n 1, 1) := dk_27 (dk_at dksX9_within_0 1 rfl rfl)
theorem dX9_within_2 : decode cX9_within 2 = .ok (.if_icmp .lt 12, 3) := dk_161 0 12 (dk_at dksX9_within_0 2 rfl rfl)
theorem dX9_within_5 : decode cX9_within 5 = .ok (.iload_n 0, 1) := dk_26 (dk_at dksX9_within_0 5 rfl rfl)
theorem dX9_within_6 : decode cX9_within 6 = .ok (.iload_n 2, 1) := dk_28 (dk_at dksX9_within_0 6 rfl rfl)
theorem dX9_within_7 : decode cX9_within 7 = .ok (.if_icmp .gt 7, 3) := dk_163 0 7 (dk_at dksX9_within_0 7 rfl rfl)
theorem dX9_within_10 : decode cX9_within 10 = .ok (.iconst 1, 1) := dk_4 (dk_at dksX9_within_0 10 rfl rfl)
theorem dX9_within_11 : decode cX9_within 11 = .ok (.goto 4, 3) := dk_167 0 4 (dk_at dksX9_within_0 11 rfl rfl)
theorem dX9_within_14 : decode cX9_within 14 = .ok (.iconst 0, 1) := dk_3 (dk_at dksX9_within_0 14 rfl rfl)
theorem dX9_within_15 : decode cX9_within 15 = .ok (.ireturn, 1) := dk_172 (dk_at dksX9_within_0 15 rfl rfl)
abbrev cX9_finding : ByteArray := prog_33_method_7_code
def yX9_finding : MethodName := ⟨RX9, "finding", "(I)I"⟩
def dkwX9_finding_0 : List UInt8 := [42, 180, 0, 16, 18, 93, 27, 100, 92, 46, 4, 96, 79, 27, 172]
abbrev dktX9_finding_0 : List UInt8 := dkwX9_finding_0 ++ []
theorem dksX9_finding_0 : cX9_finding.data.toList.drop 0 = dktX9_finding_0 := by decide +kernel
theorem dX9_finding_0 : decode cX9_finding 0 = .ok (.aload_n 0, 1) := dk_42 (dk_at dksX9_finding_0 0 rfl rfl)
theorem dX9_finding_1 : decode cX9_finding 1 = .ok (.getfield 16, 3) := dk_180 0 16 (dk_at dksX9_finding_0 1 rfl rfl)
theorem dX9_finding_4 : decode cX9_finding 4 = .ok (.ldc 93, 2) := dk_18 93 (dk_at dksX9_finding_0 4 rfl rfl)
theorem dX9_finding_6 : decode cX9_finding 6 = .ok (.iload_n 1, 1) := dk_27 (dk_at dksX9_finding_0 6 rfl rfl)
theorem dX9_finding_7 : decode cX9_finding 7 = .ok (.isub, 1) := dk_100 (dk_at dksX9_finding_0 7 rfl rfl)
theorem dX9_finding_8 : decode cX9_finding 8 = .ok (.dup2, 1) := dk_92 (dk_at dksX9_finding_0 8 rfl rfl)
theorem dX9_finding_9 : decode cX9_finding 9 = .ok (.iaload, 1) := dk_46 (dk_at dksX9_finding_0 9 rfl rfl)
theorem dX9_finding_10 : decode cX9_finding 10 = .ok (.iconst 1, 1) := dk_4 (dk_at dksX9_finding_0 10 rfl rfl)
theorem dX9_finding_11 : decode cX9_finding 11 = .ok (.iadd, 1) := dk_96 (dk_at dksX9_finding_0 11 rfl rfl)
theorem dX9_finding_12 : decode cX9_finding 12 = .ok (.iastore, 1) := dk_79 (dk_at dksX9_finding_0 12 rfl rfl)
theorem dX9_finding_13 : decode cX9_finding 13 = .ok (.iload_n 1, 1) := dk_27 (dk_at dksX9_finding_0 13 rfl rfl)
theorem dX9_finding_14 : decode cX9_finding 14 = .ok (.ireturn, 1) := dk_172 (dk_at dksX9_finding_0 14 rfl rfl)
abbrev cX9_wanting : ByteArray := prog_33_method_17_code
def yX9_wanting : MethodName := ⟨RX9, "wanting", "(II)I"⟩
def dkwX9_wanting_1 : List UInt8 := [167, 0, 4, 3, 96, 61, 132, 3, 1, 167, 255, 228, 28, 172]
abbrev dktX9_wanting_1 : List UInt8 := dkwX9_wanting_1 ++ []
def dkwX9_wanting_0 : List UInt8 := [3, 61, 3, 62, 29, 26, 184, 0, 78, 162, 0, 26, 28, 26, 29, 184, 0, 90, 27, 160, 0, 7, 4]
abbrev dktX9_wanting_0 : List UInt8 := dkwX9_wanting_0 ++ dktX9_wanting_1
theorem dksX9_wanting_0 : cX9_wanting.data.toList.drop 0 = dktX9_wanting_0 := by decide +kernel
theorem dksX9_wanting_1 : cX9_wanting.data.toList.drop 23 = dktX9_wanting_1 := dk_seg dksX9_wanting_0 23 rfl rfl
theorem dX9_wanting_0 : decode cX9_wanting 0 = .ok (.iconst 0, 1) := dk_3 (dk_at dksX9_wanting_0 0 rfl rfl)
theorem dX9_wanting_1 : decode cX9_wanting 1 = .ok (.istore_n 2, 1) := dk_61 (dk_at dksX9_wanting_0 1 rfl rfl)
theorem dX9_wanting_2 : decode cX9_wanting 2 = .ok (.iconst 0, 1) := dk_3 (dk_at dksX9_wanting_0 2 rfl rfl)
theorem dX9_wanting_3 : decode cX9_wanting 3 = .ok (.istore_n 3, 1) := dk_62 (dk_at dksX9_wanting_0 3 rfl rfl)
theorem dX9_wanting_4 : decode cX9_wanting 4 = .ok (.iload_n 3, 1) := dk_29 (dk_at dksX9_wanting_0 4 rfl rfl)
theorem dX9_wanting_5 : decode cX9_wanting 5 = .ok (.iload_n 0, 1) := dk_26 (dk_at dksX9_wanting_0 5 rfl rfl)
theorem dX9_wanting_6 : decode cX9_wanting 6 = .ok (.invokestatic 78, 3) := dk_184 0 78 (dk_at dksX9_wanting_0 6 rfl rfl)
theorem dX9_wanting_9 : decode cX9_wanting 9 = .ok (.if_icmp .ge 26, 3) := dk_162 0 26 (dk_at dksX9_wanting_0 9 rfl rfl)
theorem dX9_wanting_12 : decode cX9_wanting 12 = .ok (.iload_n 2, 1) := dk_28 (dk_at dksX9_wanting_0 12 rfl rfl)
theorem dX9_wanting_13 : decode cX9_wanting 13 = .ok (.iload_n 0, 1) := dk_26 (dk_at dksX9_wanting_0 13 rfl rfl)
theorem dX9_wanting_14 : decode cX9_wanting 14 = .ok (.iload_n 3, 1) := dk_29 (dk_at dksX9_wanting_0 14 rfl rfl)
theorem dX9_wanting_15 : decode cX9_wanting 15 = .ok (.invokestatic 90, 3) := dk_184 0 90 (dk_at dksX9_wanting_0 15 rfl rfl)
theorem dX9_wanting_18 : decode cX9_wanting 18 = .ok (.iload_n 1, 1) := dk_27 (dk_at dksX9_wanting_0 18 rfl rfl)
theorem dX9_wanting_19 : decode cX9_wanting 19 = .ok (.if_icmp .ne 7, 3) := dk_160 0 7 (dk_at dksX9_wanting_0 19 rfl rfl)
theorem dX9_wanting_22 : decode cX9_wanting 22 = .ok (.iconst 1, 1) := dk_4 (dk_at dksX9_wanting_0 22 rfl rfl)
theorem dX9_wanting_23 : decode cX9_wanting 23 = .ok (.goto 4, 3) := dk_167 0 4 (dk_at dksX9_wanting_1 0 rfl rfl)
theorem dX9_wanting_26 : decode cX9_wanting 26 = .ok (.iconst 0, 1) := dk_3 (dk_at dksX9_wanting_1 3 rfl rfl)
theorem dX9_wanting_27 : decode cX9_wanting 27 = .ok (.iadd, 1) := dk_96 (dk_at dksX9_wanting_1 4 rfl rfl)
theorem dX9_wanting_28 : decode cX9_wanting 28 = .ok (.istore_n 2, 1) := dk_61 (dk_at dksX9_wanting_1 5 rfl rfl)
theorem dX9_wanting_29 : decode cX9_wanting 29 = .ok (.iinc 3 1, 3) := dk_132 3 1 (dk_at dksX9_wanting_1 6 rfl rfl)
theorem dX9_wanting_32 : decode cX9_wanting 32 = .ok (.goto (-28), 3) := dk_167 255 228 (dk_at dksX9_wanting_1 9 rfl rfl)
theorem dX9_wanting_35 : decode cX9_wanting 35 = .ok (.iload_n 2, 1) := dk_28 (dk_at dksX9_wanting_1 12 rfl rfl)
theorem dX9_wanting_36 : decode cX9_wanting 36 = .ok (.ireturn, 1) := dk_172 (dk_at dksX9_wanting_1 13 rfl rfl)
abbrev cX9_moved : ByteArray := prog_33_method_19_code
def yX9_moved : MethodName := ⟨RX9, "moved", "(II)I"⟩
def dkwX9_moved_1 : List UInt8 := [27, 184, 0, 78, 161, 0, 12, 42, 18, 112, 182, 0, 106, 167, 0, 10, 27, 4, 28, 120, 184, 0, 82, 172]
abbrev dktX9_moved_1 : List UInt8 := dkwX9_moved_1 ++ []
def dkwX9_moved_0 : List UInt8 := [27, 184, 0, 101, 153, 0, 12, 28, 3, 5, 184, 0, 94, 154, 0, 10, 42, 18, 105, 182, 0, 106, 172, 28]
abbrev dktX9_moved_0 : List UInt8 := dkwX9_moved_0 ++ dktX9_moved_1
theorem dksX9_moved_0 : cX9_moved.data.toList.drop 0 = dktX9_moved_0 := by decide +kernel
theorem dksX9_moved_1 : cX9_moved.data.toList.drop 24 = dktX9_moved_1 := dk_seg dksX9_moved_0 24 rfl rfl
theorem dX9_moved_0 : decode cX9_moved 0 = .ok (.iload_n 1, 1) := dk_27 (dk_at dksX9_moved_0 0 rfl rfl)
theorem dX9_moved_1 : decode cX9_moved 1 = .ok (.invokestatic 101, 3) := dk_184 0 101 (dk_at dksX9_moved_0 1 rfl rfl)
theorem dX9_moved_4 : decode cX9_moved 4 = .ok (.ifCond .eq 12, 3) := dk_153 0 12 (dk_at dksX9_moved_0 4 rfl rfl)
theorem dX9_moved_7 : decode cX9_moved 7 = .ok (.iload_n 2, 1) := dk_28 (dk_at dksX9_moved_0 7 rfl rfl)
theorem dX9_moved_8 : decode cX9_moved 8 = .ok (.iconst 0, 1) := dk_3 (dk_at dksX9_moved_0 8 rfl rfl)
theorem dX9_moved_9 : decode cX9_moved 9 = .ok (.iconst 2, 1) := dk_5 (dk_at dksX9_moved_0 9 rfl rfl)
theorem dX9_moved_10 : decode cX9_moved 10 = .ok (.invokestatic 94, 3) := dk_184 0 94 (dk_at dksX9_moved_0 10 rfl rfl)
theorem dX9_moved_13 : decode cX9_moved 13 = .ok (.ifCond .ne 10, 3) := dk_154 0 10 (dk_at dksX9_moved_0 13 rfl rfl)
theorem dX9_moved_16 : decode cX9_moved 16 = .ok (.aload_n 0, 1) := dk_42 (dk_at dksX9_moved_0 16 rfl rfl)
theorem dX9_moved_17 : decode cX9_moved 17 = .ok (.ldc 105, 2) := dk_18 105 (dk_at dksX9_moved_0 17 rfl rfl)
theorem dX9_moved_19 : decode cX9_moved 19 = .ok (.invokevirtual 106, 3) := dk_182 0 106 (dk_at dksX9_moved_0 19 rfl rfl)
theorem dX9_moved_22 : decode cX9_moved 22 = .ok (.ireturn, 1) := dk_172 (dk_at dksX9_moved_0 22 rfl rfl)
theorem dX9_moved_23 : decode cX9_moved 23 = .ok (.iload_n 2, 1) := dk_28 (dk_at dksX9_moved_0 23 rfl rfl)
theorem dX9_moved_24 : decode cX9_moved 24 = .ok (.iload_n 1, 1) := dk_27 (dk_at dksX9_moved_1 0 rfl rfl)
theorem dX9_moved_25 : decode cX9_moved 25 = .ok (.invokestatic 78, 3) := dk_184 0 78 (dk_at dksX9_moved_1 1 rfl rfl)
theorem dX9_moved_28 : decode cX9_moved 28 = .ok (.if_icmp .lt 12, 3) := dk_161 0 12 (dk_at dksX9_moved_1 4 rfl rfl)
theorem dX9_moved_31 : decode cX9_moved 31 = .ok (.aload_n 0, 1) := dk_42 (dk_at dksX9_moved_1 7 rfl rfl)
theorem dX9_moved_32 : decode cX9_moved 32 = .ok (.ldc 112, 2) := dk_18 112 (dk_at dksX9_moved_1 8 rfl rfl)
theorem dX9_moved_34 : decode cX9_moved 34 = .ok (.invokevirtual 106, 3) := dk_182 0 106 (dk_at dksX9_moved_1 10 rfl rfl)
theorem dX9_moved_37 : decode cX9_moved 37 = .ok (.goto 10, 3) := dk_167 0 10 (dk_at dksX9_moved_1 13 rfl rfl)
theorem dX9_moved_40 : decode cX9_moved 40 = .ok (.iload_n 1, 1) := dk_27 (dk_at dksX9_moved_1 16 rfl rfl)
theorem dX9_moved_41 : decode cX9_moved 41 = .ok (.iconst 1, 1) := dk_4 (dk_at dksX9_moved_1 17 rfl rfl)
theorem dX9_moved_42 : decode cX9_moved 42 = .ok (.iload_n 2, 1) := dk_28 (dk_at dksX9_moved_1 18 rfl rfl)
theorem dX9_moved_43 : decode cX9_moved 43 = .ok (.ishl, 1) := dk_120 (dk_at dksX9_moved_1 19 rfl rfl)
theorem dX9_moved_44 : decode cX9_moved 44 = .ok (.invokestatic 82, 3) := dk_184 0 82 (dk_at dksX9_moved_1 20 rfl rfl)
theorem dX9_moved_47 : decode cX9_moved 47 = .ok (.ireturn, 1) := dk_172 (dk_at dksX9_moved_1 23 rfl rfl)
abbrev cX9_choose : ByteArray := prog_33_method_20_code
def yX9_choose : MethodName := ⟨RX9, "choose", "(II)I"⟩
def dkwX9_choose_1 : List UInt8 := [180, 0, 9, 16, 10, 27, 96, 46, 62, 42, 180, 0, 9, 16, 10, 27, 96, 28, 79, 29, 172]
abbrev dktX9_choose_1 : List UInt8 := dkwX9_choose_1 ++ []
def dkwX9_choose_0 : List UInt8 := [27, 184, 0, 101, 153, 0, 10, 28, 184, 0, 113, 154, 0, 10, 42, 18, 105, 182, 0, 106, 172, 42]
abbrev dktX9_choose_0 : List UInt8 := dkwX9_choose_0 ++ dktX9_choose_1
theorem dksX9_choose_0 : cX9_choose.data.toList.drop 0 = dktX9_choose_0 := by decide +kernel
theorem dksX9_choose_1 : cX9_choose.data.toList.drop 22 = dktX9_choose_1 := dk_seg dksX9_choose_0 22 rfl rfl
theorem dX9_choose_0 : decode cX9_choose 0 = .ok (.iload_n 1, 1) := dk_27 (dk_at dksX9_choose_0 0 rfl rfl)
theorem dX9_choose_1 : decode cX9_choose 1 = .ok (.invokestatic 101, 3) := dk_184 0 101 (dk_at dksX9_choose_0 1 rfl rfl)
theorem dX9_choose_4 : decode cX9_choose 4 = .ok (.ifCond .eq 10, 3) := dk_153 0 10 (dk_at dksX9_choose_0 4 rfl rfl)
theorem dX9_choose_7 : decode cX9_choose 7 = .ok (.iload_n 2, 1) := dk_28 (dk_at dksX9_choose_0 7 rfl rfl)
theorem dX9_choose_8 : decode cX9_choose 8 = .ok (.invokestatic 113, 3) := dk_184 0 113 (dk_at dksX9_choose_0 8 rfl rfl)
theorem dX9_choose_11 : decode cX9_choose 11 = .ok (.ifCond .ne 10, 3) := dk_154 0 10 (dk_at dksX9_choose_0 11 rfl rfl)
theorem dX9_choose_14 : decode cX9_choose 14 = .ok (.aload_n 0, 1) := dk_42 (dk_at dksX9_choose_0 14 rfl rfl)
theorem dX9_choose_15 : decode cX9_choose 15 = .ok (.ldc 105, 2) := dk_18 105 (dk_at dksX9_choose_0 15 rfl rfl)
theorem dX9_choose_17 : decode cX9_choose 17 = .ok (.invokevirtual 106, 3) := dk_182 0 106 (dk_at dksX9_choose_0 17 rfl rfl)
theorem dX9_choose_20 : decode cX9_choose 20 = .ok (.ireturn, 1) := dk_172 (dk_at dksX9_choose_0 20 rfl rfl)
theorem dX9_choose_21 : decode cX9_choose 21 = .ok (.aload_n 0, 1) := dk_42 (dk_at dksX9_choose_0 21 rfl rfl)
theorem dX9_choose_22 : decode cX9_choose 22 = .ok (.getfield 9, 3) := dk_180 0 9 (dk_at dksX9_choose_1 0 rfl rfl)
theorem dX9_choose_25 : decode cX9_choose 25 = .ok (.bipush 10, 2) := dk_16 10 (dk_at dksX9_choose_1 3 rfl rfl)
theorem dX9_choose_27 : decode cX9_choose 27 = .ok (.iload_n 1, 1) := dk_27 (dk_at dksX9_choose_1 5 rfl rfl)
theorem dX9_choose_28 : decode cX9_choose 28 = .ok (.iadd, 1) := dk_96 (dk_at dksX9_choose_1 6 rfl rfl)
theorem dX9_choose_29 : decode cX9_choose 29 = .ok (.iaload, 1) := dk_46 (dk_at dksX9_choose_1 7 rfl rfl)
theorem dX9_choose_30 : decode cX9_choose 30 = .ok (.istore_n 3, 1) := dk_62 (dk_at dksX9_choose_1 8 rfl rfl)
theorem dX9_choose_31 : decode cX9_choose 31 = .ok (.aload_n 0, 1) := dk_42 (dk_at dksX9_choose_1 9 rfl rfl)
theorem dX9_choose_32 : decode cX9_choose 32 = .ok (.getfield 9, 3) := dk_180 0 9 (dk_at dksX9_choose_1 10 rfl rfl)
theorem dX9_choose_35 : decode cX9_choose 35 = .ok (.bipush 10, 2) := dk_16 10 (dk_at dksX9_choose_1 13 rfl rfl)
theorem dX9_choose_37 : decode cX9_choose 37 = .ok (.iload_n 1, 1) := dk_27 (dk_at dksX9_choose_1 15 rfl rfl)
theorem dX9_choose_38 : decode cX9_choose 38 = .ok (.iadd, 1) := dk_96 (dk_at dksX9_choose_1 16 rfl rfl)
theorem dX9_choose_39 : decode cX9_choose 39 = .ok (.iload_n 2, 1) := dk_28 (dk_at dksX9_choose_1 17 rfl rfl)
theorem dX9_choose_40 : decode cX9_choose 40 = .ok (.iastore, 1) := dk_79 (dk_at dksX9_choose_1 18 rfl rfl)
theorem dX9_choose_41 : decode cX9_choose 41 = .ok (.iload_n 3, 1) := dk_29 (dk_at dksX9_choose_1 19 rfl rfl)
theorem dX9_choose_42 : decode cX9_choose 42 = .ok (.ireturn, 1) := dk_172 (dk_at dksX9_choose_1 20 rfl rfl)
abbrev cX9_isChoice : ByteArray := prog_33_method_10_code
def yX9_isChoice : MethodName := ⟨RX9, "isChoice", "(I)Z"⟩
def dkwX9_isChoice_0 : List UInt8 := [26, 4, 6, 184, 0, 94, 172]
abbrev dktX9_isChoice_0 : List UInt8 := dkwX9_isChoice_0 ++ []
theorem dksX9_isChoice_0 : cX9_isChoice.data.toList.drop 0 = dktX9_isChoice_0 := by decide +kernel
theorem dX9_isChoice_0 : decode cX9_isChoice 0 = .ok (.iload_n 0, 1) := dk_26 (dk_at dksX9_isChoice_0 0 rfl rfl)
theorem dX9_isChoice_1 : decode cX9_isChoice 1 = .ok (.iconst 1, 1) := dk_4 (dk_at dksX9_isChoice_0 1 rfl rfl)
theorem dX9_isChoice_2 : decode cX9_isChoice 2 = .ok (.iconst 3, 1) := dk_6 (dk_at dksX9_isChoice_0 2 rfl rfl)
theorem dX9_isChoice_3 : decode cX9_isChoice 3 = .ok (.invokestatic 94, 3) := dk_184 0 94 (dk_at dksX9_isChoice_0 3 rfl rfl)
theorem dX9_isChoice_6 : decode cX9_isChoice 6 = .ok (.ireturn, 1) := dk_172 (dk_at dksX9_isChoice_0 6 rfl rfl)
abbrev cX9_chosen : ByteArray := prog_33_method_21_code
def yX9_chosen : MethodName := ⟨RX9, "chosen", "(I)I"⟩
def dkwX9_chosen_1 : List UInt8 := [182, 0, 106, 172]
abbrev dktX9_chosen_1 : List UInt8 := dkwX9_chosen_1 ++ []
def dkwX9_chosen_0 : List UInt8 := [27, 184, 0, 101, 153, 0, 15, 42, 180, 0, 9, 16, 10, 27, 96, 46, 167, 0, 9, 42, 18, 105]
abbrev dktX9_chosen_0 : List UInt8 := dkwX9_chosen_0 ++ dktX9_chosen_1
theorem dksX9_chosen_0 : cX9_chosen.data.toList.drop 0 = dktX9_chosen_0 := by decide +kernel
theorem dksX9_chosen_1 : cX9_chosen.data.toList.drop 22 = dktX9_chosen_1 := dk_seg dksX9_chosen_0 22 rfl rfl
theorem dX9_chosen_0 : decode cX9_chosen 0 = .ok (.iload_n 1, 1) := dk_27 (dk_at dksX9_chosen_0 0 rfl rfl)
theorem dX9_chosen_1 : decode cX9_chosen 1 = .ok (.invokestatic 101, 3) := dk_184 0 101 (dk_at dksX9_chosen_0 1 rfl rfl)
theorem dX9_chosen_4 : decode cX9_chosen 4 = .ok (.ifCond .eq 15, 3) := dk_153 0 15 (dk_at dksX9_chosen_0 4 rfl rfl)
theorem dX9_chosen_7 : decode cX9_chosen 7 = .ok (.aload_n 0, 1) := dk_42 (dk_at dksX9_chosen_0 7 rfl rfl)
theorem dX9_chosen_8 : decode cX9_chosen 8 = .ok (.getfield 9, 3) := dk_180 0 9 (dk_at dksX9_chosen_0 8 rfl rfl)
theorem dX9_chosen_11 : decode cX9_chosen 11 = .ok (.bipush 10, 2) := dk_16 10 (dk_at dksX9_chosen_0 11 rfl rfl)
theorem dX9_chosen_13 : decode cX9_chosen 13 = .ok (.iload_n 1, 1) := dk_27 (dk_at dksX9_chosen_0 13 rfl rfl)
theorem dX9_chosen_14 : decode cX9_chosen 14 = .ok (.iadd, 1) := dk_96 (dk_at dksX9_chosen_0 14 rfl rfl)
theorem dX9_chosen_15 : decode cX9_chosen 15 = .ok (.iaload, 1) := dk_46 (dk_at dksX9_chosen_0 15 rfl rfl)
theorem dX9_chosen_16 : decode cX9_chosen 16 = .ok (.goto 9, 3) := dk_167 0 9 (dk_at dksX9_chosen_0 16 rfl rfl)
theorem dX9_chosen_19 : decode cX9_chosen 19 = .ok (.aload_n 0, 1) := dk_42 (dk_at dksX9_chosen_0 19 rfl rfl)
theorem dX9_chosen_20 : decode cX9_chosen 20 = .ok (.ldc 105, 2) := dk_18 105 (dk_at dksX9_chosen_0 20 rfl rfl)
theorem dX9_chosen_22 : decode cX9_chosen 22 = .ok (.invokevirtual 106, 3) := dk_182 0 106 (dk_at dksX9_chosen_1 0 rfl rfl)
theorem dX9_chosen_25 : decode cX9_chosen 25 = .ok (.ireturn, 1) := dk_172 (dk_at dksX9_chosen_1 3 rfl rfl)
abbrev cX9_block : ByteArray := prog_33_method_22_code
def yX9_block : MethodName := ⟨RX9, "block", "(I)I"⟩
def dkwX9_block_4 : List UInt8 := [96, 42, 180, 0, 64, 16, 40, 27, 104, 29, 96, 46, 79, 132, 3, 1, 167, 255, 228, 28, 172]
abbrev dktX9_block_4 : List UInt8 := dkwX9_block_4 ++ []
def dkwX9_block_3 : List UInt8 := [182, 0, 106, 172, 132, 3, 1, 167, 255, 224, 3, 62, 29, 28, 162, 0, 29, 42, 180, 0, 9, 16, 10, 29]
abbrev dktX9_block_3 : List UInt8 := dkwX9_block_3 ++ dktX9_block_4
def dkwX9_block_2 : List UInt8 := [162, 0, 33, 42, 180, 0, 64, 16, 40, 27, 104, 29, 96, 46, 184, 0, 113, 154, 0, 10, 42, 18, 124]
abbrev dktX9_block_2 : List UInt8 := dkwX9_block_2 ++ dktX9_block_3
def dkwX9_block_1 : List UInt8 := [18, 112, 182, 0, 106, 172, 16, 12, 42, 180, 0, 61, 27, 46, 184, 0, 119, 61, 3, 62, 29, 28]
abbrev dktX9_block_1 : List UInt8 := dkwX9_block_1 ++ dktX9_block_2
def dkwX9_block_0 : List UInt8 := [27, 184, 0, 116, 154, 0, 10, 42, 18, 105, 182, 0, 106, 172, 42, 180, 0, 58, 27, 46, 154, 0, 10, 42]
abbrev dktX9_block_0 : List UInt8 := dkwX9_block_0 ++ dktX9_block_1
theorem dksX9_block_0 : cX9_block.data.toList.drop 0 = dktX9_block_0 := by decide +kernel
theorem dksX9_block_1 : cX9_block.data.toList.drop 24 = dktX9_block_1 := dk_seg dksX9_block_0 24 rfl rfl
theorem dksX9_block_2 : cX9_block.data.toList.drop 46 = dktX9_block_2 := dk_seg dksX9_block_1 22 rfl rfl
theorem dksX9_block_3 : cX9_block.data.toList.drop 69 = dktX9_block_3 := dk_seg dksX9_block_2 23 rfl rfl
theorem dksX9_block_4 : cX9_block.data.toList.drop 93 = dktX9_block_4 := dk_seg dksX9_block_3 24 rfl rfl
theorem dX9_block_0 : decode cX9_block 0 = .ok (.iload_n 1, 1) := dk_27 (dk_at dksX9_block_0 0 rfl rfl)
theorem dX9_block_1 : decode cX9_block 1 = .ok (.invokestatic 116, 3) := dk_184 0 116 (dk_at dksX9_block_0 1 rfl rfl)
theorem dX9_block_4 : decode cX9_block 4 = .ok (.ifCond .ne 10, 3) := dk_154 0 10 (dk_at dksX9_block_0 4 rfl rfl)
theorem dX9_block_7 : decode cX9_block 7 = .ok (.aload_n 0, 1) := dk_42 (dk_at dksX9_block_0 7 rfl rfl)
theorem dX9_block_8 : decode cX9_block 8 = .ok (.ldc 105, 2) := dk_18 105 (dk_at dksX9_block_0 8 rfl rfl)
theorem dX9_block_10 : decode cX9_block 10 = .ok (.invokevirtual 106, 3) := dk_182 0 106 (dk_at dksX9_block_0 10 rfl rfl)
theorem dX9_block_13 : decode cX9_block 13 = .ok (.ireturn, 1) := dk_172 (dk_at dksX9_block_0 13 rfl rfl)
theorem dX9_block_14 : decode cX9_block 14 = .ok (.aload_n 0, 1) := dk_42 (dk_at dksX9_block_0 14 rfl rfl)
theorem dX9_block_15 : decode cX9_block 15 = .ok (.getfield 58, 3) := dk_180 0 58 (dk_at dksX9_block_0 15 rfl rfl)
theorem dX9_block_18 : decode cX9_block 18 = .ok (.iload_n 1, 1) := dk_27 (dk_at dksX9_block_0 18 rfl rfl)
theorem dX9_block_19 : decode cX9_block 19 = .ok (.iaload, 1) := dk_46 (dk_at dksX9_block_0 19 rfl rfl)
theorem dX9_block_20 : decode cX9_block 20 = .ok (.ifCond .ne 10, 3) := dk_154 0 10 (dk_at dksX9_block_0 20 rfl rfl)
theorem dX9_block_23 : decode cX9_block 23 = .ok (.aload_n 0, 1) := dk_42 (dk_at dksX9_block_0 23 rfl rfl)
theorem dX9_block_24 : decode cX9_block 24 = .ok (.ldc 112, 2) := dk_18 112 (dk_at dksX9_block_1 0 rfl rfl)
theorem dX9_block_26 : decode cX9_block 26 = .ok (.invokevirtual 106, 3) := dk_182 0 106 (dk_at dksX9_block_1 2 rfl rfl)
theorem dX9_block_29 : decode cX9_block 29 = .ok (.ireturn, 1) := dk_172 (dk_at dksX9_block_1 5 rfl rfl)
theorem dX9_block_30 : decode cX9_block 30 = .ok (.bipush 12, 2) := dk_16 12 (dk_at dksX9_block_1 6 rfl rfl)
theorem dX9_block_32 : decode cX9_block 32 = .ok (.aload_n 0, 1) := dk_42 (dk_at dksX9_block_1 8 rfl rfl)
theorem dX9_block_33 : decode cX9_block 33 = .ok (.getfield 61, 3) := dk_180 0 61 (dk_at dksX9_block_1 9 rfl rfl)
theorem dX9_block_36 : decode cX9_block 36 = .ok (.iload_n 1, 1) := dk_27 (dk_at dksX9_block_1 12 rfl rfl)
theorem dX9_block_37 : decode cX9_block 37 = .ok (.iaload, 1) := dk_46 (dk_at dksX9_block_1 13 rfl rfl)
theorem dX9_block_38 : decode cX9_block 38 = .ok (.invokestatic 119, 3) := dk_184 0 119 (dk_at dksX9_block_1 14 rfl rfl)
theorem dX9_block_41 : decode cX9_block 41 = .ok (.istore_n 2, 1) := dk_61 (dk_at dksX9_block_1 17 rfl rfl)
theorem dX9_block_42 : decode cX9_block 42 = .ok (.iconst 0, 1) := dk_3 (dk_at dksX9_block_1 18 rfl rfl)
theorem dX9_block_43 : decode cX9_block 43 = .ok (.istore_n 3, 1) := dk_62 (dk_at dksX9_block_1 19 rfl rfl)
theorem dX9_block_44 : decode cX9_block 44 = .ok (.iload_n 3, 1) := dk_29 (dk_at dksX9_block_1 20 rfl rfl)
theorem dX9_block_45 : decode cX9_block 45 = .ok (.iload_n 2, 1) := dk_28 (dk_at dksX9_block_1 21 rfl rfl)
theorem dX9_block_46 : decode cX9_block 46 = .ok (.if_icmp .ge 33, 3) := dk_162 0 33 (dk_at dksX9_block_2 0 rfl rfl)
theorem dX9_block_49 : decode cX9_block 49 = .ok (.aload_n 0, 1) := dk_42 (dk_at dksX9_block_2 3 rfl rfl)
theorem dX9_block_50 : decode cX9_block 50 = .ok (.getfield 64, 3) := dk_180 0 64 (dk_at dksX9_block_2 4 rfl rfl)
theorem dX9_block_53 : decode cX9_block 53 = .ok (.bipush 40, 2) := dk_16 40 (dk_at dksX9_block_2 7 rfl rfl)
theorem dX9_block_55 : decode cX9_block 55 = .ok (.iload_n 1, 1) := dk_27 (dk_at dksX9_block_2 9 rfl rfl)
theorem dX9_block_56 : decode cX9_block 56 = .ok (.imul, 1) := dk_104 (dk_at dksX9_block_2 10 rfl rfl)
theorem dX9_block_57 : decode cX9_block 57 = .ok (.iload_n 3, 1) := dk_29 (dk_at dksX9_block_2 11 rfl rfl)
theorem dX9_block_58 : decode cX9_block 58 = .ok (.iadd, 1) := dk_96 (dk_at dksX9_block_2 12 rfl rfl)
theorem dX9_block_59 : decode cX9_block 59 = .ok (.iaload, 1) := dk_46 (dk_at dksX9_block_2 13 rfl rfl)
theorem dX9_block_60 : decode cX9_block 60 = .ok (.invokestatic 113, 3) := dk_184 0 113 (dk_at dksX9_block_2 14 rfl rfl)
theorem dX9_block_63 : decode cX9_block 63 = .ok (.ifCond .ne 10, 3) := dk_154 0 10 (dk_at dksX9_block_2 17 rfl rfl)
theorem dX9_block_66 : decode cX9_block 66 = .ok (.aload_n 0, 1) := dk_42 (dk_at dksX9_block_2 20 rfl rfl)
theorem dX9_block_67 : decode cX9_block 67 = .ok (.ldc 124, 2) := dk_18 124 (dk_at dksX9_block_2 21 rfl rfl)
theorem dX9_block_69 : decode cX9_block 69 = .ok (.invokevirtual 106, 3) := dk_182 0 106 (dk_at dksX9_block_3 0 rfl rfl)
theorem dX9_block_72 : decode cX9_block 72 = .ok (.ireturn, 1) := dk_172 (dk_at dksX9_block_3 3 rfl rfl)
theorem dX9_block_73 : decode cX9_block 73 = .ok (.iinc 3 1, 3) := dk_132 3 1 (dk_at dksX9_block_3 4 rfl rfl)
theorem dX9_block_76 : decode cX9_block 76 = .ok (.goto (-32), 3) := dk_167 255 224 (dk_at dksX9_block_3 7 rfl rfl)
theorem dX9_block_79 : decode cX9_block 79 = .ok (.iconst 0, 1) := dk_3 (dk_at dksX9_block_3 10 rfl rfl)
theorem dX9_block_80 : decode cX9_block 80 = .ok (.istore_n 3, 1) := dk_62 (dk_at dksX9_block_3 11 rfl rfl)
theorem dX9_block_81 : decode cX9_block 81 = .ok (.iload_n 3, 1) := dk_29 (dk_at dksX9_block_3 12 rfl rfl)
theorem dX9_block_82 : decode cX9_block 82 = .ok (.iload_n 2, 1) := dk_28 (dk_at dksX9_block_3 13 rfl rfl)
theorem dX9_block_83 : decode cX9_block 83 = .ok (.if_icmp .ge 29, 3) := dk_162 0 29 (dk_at dksX9_block_3 14 rfl rfl)
theorem dX9_block_86 : decode cX9_block 86 = .ok (.aload_n 0, 1) := dk_42 (dk_at dksX9_block_3 17 rfl rfl)
theorem dX9_block_87 : decode cX9_block 87 = .ok (.getfield 9, 3) := dk_180 0 9 (dk_at dksX9_block_3 18 rfl rfl)
theorem dX9_block_90 : decode cX9_block 90 = .ok (.bipush 10, 2) := dk_16 10 (dk_at dksX9_block_3 21 rfl rfl)
theorem dX9_block_92 : decode cX9_block 92 = .ok (.iload_n 3, 1) := dk_29 (dk_at dksX9_block_3 23 rfl rfl)
theorem dX9_block_93 : decode cX9_block 93 = .ok (.iadd, 1) := dk_96 (dk_at dksX9_block_4 0 rfl rfl)
theorem dX9_block_94 : decode cX9_block 94 = .ok (.aload_n 0, 1) := dk_42 (dk_at dksX9_block_4 1 rfl rfl)
theorem dX9_block_95 : decode cX9_block 95 = .ok (.getfield 64, 3) := dk_180 0 64 (dk_at dksX9_block_4 2 rfl rfl)
theorem dX9_block_98 : decode cX9_block 98 = .ok (.bipush 40, 2) := dk_16 40 (dk_at dksX9_block_4 5 rfl rfl)
theorem dX9_block_100 : decode cX9_block 100 = .ok (.iload_n 1, 1) := dk_27 (dk_at dksX9_block_4 7 rfl rfl)
theorem dX9_block_101 : decode cX9_block 101 = .ok (.imul, 1) := dk_104 (dk_at dksX9_block_4 8 rfl rfl)
theorem dX9_block_102 : decode cX9_block 102 = .ok (.iload_n 3, 1) := dk_29 (dk_at dksX9_block_4 9 rfl rfl)
theorem dX9_block_103 : decode cX9_block 103 = .ok (.iadd, 1) := dk_96 (dk_at dksX9_block_4 10 rfl rfl)
theorem dX9_block_104 : decode cX9_block 104 = .ok (.iaload, 1) := dk_46 (dk_at dksX9_block_4 11 rfl rfl)
theorem dX9_block_105 : decode cX9_block 105 = .ok (.iastore, 1) := dk_79 (dk_at dksX9_block_4 12 rfl rfl)
theorem dX9_block_106 : decode cX9_block 106 = .ok (.iinc 3 1, 3) := dk_132 3 1 (dk_at dksX9_block_4 13 rfl rfl)
theorem dX9_block_109 : decode cX9_block 109 = .ok (.goto (-28), 3) := dk_167 255 228 (dk_at dksX9_block_4 16 rfl rfl)
theorem dX9_block_112 : decode cX9_block 112 = .ok (.iload_n 2, 1) := dk_28 (dk_at dksX9_block_4 19 rfl rfl)
theorem dX9_block_113 : decode cX9_block 113 = .ok (.ireturn, 1) := dk_172 (dk_at dksX9_block_4 20 rfl rfl)
abbrev cX9_isSheet : ByteArray := prog_33_method_93_code
def yX9_isSheet : MethodName := ⟨RX9, "isSheet", "(I)Z"⟩
def dkwX9_isSheet_0 : List UInt8 := [26, 3, 6, 184, 0, 94, 172]
abbrev dktX9_isSheet_0 : List UInt8 := dkwX9_isSheet_0 ++ []
theorem dksX9_isSheet_0 : cX9_isSheet.data.toList.drop 0 = dktX9_isSheet_0 := by decide +kernel
theorem dX9_isSheet_0 : decode cX9_isSheet 0 = .ok (.iload_n 0, 1) := dk_26 (dk_at dksX9_isSheet_0 0 rfl rfl)
theorem dX9_isSheet_1 : decode cX9_isSheet 1 = .ok (.iconst 0, 1) := dk_3 (dk_at dksX9_isSheet_0 1 rfl rfl)
theorem dX9_isSheet_2 : decode cX9_isSheet 2 = .ok (.iconst 3, 1) := dk_6 (dk_at dksX9_isSheet_0 2 rfl rfl)
theorem dX9_isSheet_3 : decode cX9_isSheet 3 = .ok (.invokestatic 94, 3) := dk_184 0 94 (dk_at dksX9_isSheet_0 3 rfl rfl)
theorem dX9_isSheet_6 : decode cX9_isSheet 6 = .ok (.ireturn, 1) := dk_172 (dk_at dksX9_isSheet_0 6 rfl rfl)
abbrev cX9_form : ByteArray := prog_33_method_24_code
def yX9_form : MethodName := ⟨RX9, "form", "(I)I"⟩
def dkwX9_form_3 : List UInt8 := [167, 255, 208, 28, 172]
abbrev dktX9_form_3 : List UInt8 := dkwX9_form_3 ++ []
def dkwX9_form_2 : List UInt8 := [167, 0, 4, 3, 96, 61, 42, 180, 0, 9, 16, 10, 29, 96, 27, 29, 184, 0, 125, 79, 132, 3, 1]
abbrev dktX9_form_2 : List UInt8 := dkwX9_form_2 ++ dktX9_form_3
def dkwX9_form_1 : List UInt8 := [162, 0, 48, 28, 42, 180, 0, 9, 16, 10, 29, 96, 46, 27, 29, 184, 0, 125, 159, 0, 7, 4]
abbrev dktX9_form_1 : List UInt8 := dkwX9_form_1 ++ dktX9_form_2
def dkwX9_form_0 : List UInt8 := [27, 3, 16, 11, 184, 0, 94, 154, 0, 10, 42, 18, 105, 182, 0, 106, 172, 3, 61, 3, 62, 29, 16, 12]
abbrev dktX9_form_0 : List UInt8 := dkwX9_form_0 ++ dktX9_form_1
theorem dksX9_form_0 : cX9_form.data.toList.drop 0 = dktX9_form_0 := by decide +kernel
theorem dksX9_form_1 : cX9_form.data.toList.drop 24 = dktX9_form_1 := dk_seg dksX9_form_0 24 rfl rfl
theorem dksX9_form_2 : cX9_form.data.toList.drop 46 = dktX9_form_2 := dk_seg dksX9_form_1 22 rfl rfl
theorem dksX9_form_3 : cX9_form.data.toList.drop 69 = dktX9_form_3 := dk_seg dksX9_form_2 23 rfl rfl
theorem dX9_form_0 : decode cX9_form 0 = .ok (.iload_n 1, 1) := dk_27 (dk_at dksX9_form_0 0 rfl rfl)
theorem dX9_form_1 : decode cX9_form 1 = .ok (.iconst 0, 1) := dk_3 (dk_at dksX9_form_0 1 rfl rfl)
theorem dX9_form_2 : decode cX9_form 2 = .ok (.bipush 11, 2) := dk_16 11 (dk_at dksX9_form_0 2 rfl rfl)
theorem dX9_form_4 : decode cX9_form 4 = .ok (.invokestatic 94, 3) := dk_184 0 94 (dk_at dksX9_form_0 4 rfl rfl)
theorem dX9_form_7 : decode cX9_form 7 = .ok (.ifCond .ne 10, 3) := dk_154 0 10 (dk_at dksX9_form_0 7 rfl rfl)
theorem dX9_form_10 : decode cX9_form 10 = .ok (.aload_n 0, 1) := dk_42 (dk_at dksX9_form_0 10 rfl rfl)
theorem dX9_form_11 : decode cX9_form 11 = .ok (.ldc 105, 2) := dk_18 105 (dk_at dksX9_form_0 11 rfl rfl)
theorem dX9_form_13 : decode cX9_form 13 = .ok (.invokevirtual 106, 3) := dk_182 0 106 (dk_at dksX9_form_0 13 rfl rfl)
theorem dX9_form_16 : decode cX9_form 16 = .ok (.ireturn, 1) := dk_172 (dk_at dksX9_form_0 16 rfl rfl)
theorem dX9_form_17 : decode cX9_form 17 = .ok (.iconst 0, 1) := dk_3 (dk_at dksX9_form_0 17 rfl rfl)
theorem dX9_form_18 : decode cX9_form 18 = .ok (.istore_n 2, 1) := dk_61 (dk_at dksX9_form_0 18 rfl rfl)
theorem dX9_form_19 : decode cX9_form 19 = .ok (.iconst 0, 1) := dk_3 (dk_at dksX9_form_0 19 rfl rfl)
theorem dX9_form_20 : decode cX9_form 20 = .ok (.istore_n 3, 1) := dk_62 (dk_at dksX9_form_0 20 rfl rfl)
theorem dX9_form_21 : decode cX9_form 21 = .ok (.iload_n 3, 1) := dk_29 (dk_at dksX9_form_0 21 rfl rfl)
theorem dX9_form_22 : decode cX9_form 22 = .ok (.bipush 12, 2) := dk_16 12 (dk_at dksX9_form_0 22 rfl rfl)
theorem dX9_form_24 : decode cX9_form 24 = .ok (.if_icmp .ge 48, 3) := dk_162 0 48 (dk_at dksX9_form_1 0 rfl rfl)
theorem dX9_form_27 : decode cX9_form 27 = .ok (.iload_n 2, 1) := dk_28 (dk_at dksX9_form_1 3 rfl rfl)
theorem dX9_form_28 : decode cX9_form 28 = .ok (.aload_n 0, 1) := dk_42 (dk_at dksX9_form_1 4 rfl rfl)
theorem dX9_form_29 : decode cX9_form 29 = .ok (.getfield 9, 3) := dk_180 0 9 (dk_at dksX9_form_1 5 rfl rfl)
theorem dX9_form_32 : decode cX9_form 32 = .ok (.bipush 10, 2) := dk_16 10 (dk_at dksX9_form_1 8 rfl rfl)
theorem dX9_form_34 : decode cX9_form 34 = .ok (.iload_n 3, 1) := dk_29 (dk_at dksX9_form_1 10 rfl rfl)
theorem dX9_form_35 : decode cX9_form 35 = .ok (.iadd, 1) := dk_96 (dk_at dksX9_form_1 11 rfl rfl)
theorem dX9_form_36 : decode cX9_form 36 = .ok (.iaload, 1) := dk_46 (dk_at dksX9_form_1 12 rfl rfl)
theorem dX9_form_37 : decode cX9_form 37 = .ok (.iload_n 1, 1) := dk_27 (dk_at dksX9_form_1 13 rfl rfl)
theorem dX9_form_38 : decode cX9_form 38 = .ok (.iload_n 3, 1) := dk_29 (dk_at dksX9_form_1 14 rfl rfl)
theorem dX9_form_39 : decode cX9_form 39 = .ok (.invokestatic 125, 3) := dk_184 0 125 (dk_at dksX9_form_1 15 rfl rfl)
theorem dX9_form_42 : decode cX9_form 42 = .ok (.if_icmp .eq 7, 3) := dk_159 0 7 (dk_at dksX9_form_1 18 rfl rfl)
theorem dX9_form_45 : decode cX9_form 45 = .ok (.iconst 1, 1) := dk_4 (dk_at dksX9_form_1 21 rfl rfl)
theorem dX9_form_46 : decode cX9_form 46 = .ok (.goto 4, 3) := dk_167 0 4 (dk_at dksX9_form_2 0 rfl rfl)
theorem dX9_form_49 : decode cX9_form 49 = .ok (.iconst 0, 1) := dk_3 (dk_at dksX9_form_2 3 rfl rfl)
theorem dX9_form_50 : decode cX9_form 50 = .ok (.iadd, 1) := dk_96 (dk_at dksX9_form_2 4 rfl rfl)
theorem dX9_form_51 : decode cX9_form 51 = .ok (.istore_n 2, 1) := dk_61 (dk_at dksX9_form_2 5 rfl rfl)
theorem dX9_form_52 : decode cX9_form 52 = .ok (.aload_n 0, 1) := dk_42 (dk_at dksX9_form_2 6 rfl rfl)
theorem dX9_form_53 : decode cX9_form 53 = .ok (.getfield 9, 3) := dk_180 0 9 (dk_at dksX9_form_2 7 rfl rfl)
theorem dX9_form_56 : decode cX9_form 56 = .ok (.bipush 10, 2) := dk_16 10 (dk_at dksX9_form_2 10 rfl rfl)
theorem dX9_form_58 : decode cX9_form 58 = .ok (.iload_n 3, 1) := dk_29 (dk_at dksX9_form_2 12 rfl rfl)
theorem dX9_form_59 : decode cX9_form 59 = .ok (.iadd, 1) := dk_96 (dk_at dksX9_form_2 13 rfl rfl)
theorem dX9_form_60 : decode cX9_form 60 = .ok (.iload_n 1, 1) := dk_27 (dk_at dksX9_form_2 14 rfl rfl)
theorem dX9_form_61 : decode cX9_form 61 = .ok (.iload_n 3, 1) := dk_29 (dk_at dksX9_form_2 15 rfl rfl)
theorem dX9_form_62 : decode cX9_form 62 = .ok (.invokestatic 125, 3) := dk_184 0 125 (dk_at dksX9_form_2 16 rfl rfl)
theorem dX9_form_65 : decode cX9_form 65 = .ok (.iastore, 1) := dk_79 (dk_at dksX9_form_2 19 rfl rfl)
theorem dX9_form_66 : decode cX9_form 66 = .ok (.iinc 3 1, 3) := dk_132 3 1 (dk_at dksX9_form_2 20 rfl rfl)
theorem dX9_form_69 : decode cX9_form 69 = .ok (.goto (-48), 3) := dk_167 255 208 (dk_at dksX9_form_3 0 rfl rfl)
theorem dX9_form_72 : decode cX9_form 72 = .ok (.iload_n 2, 1) := dk_28 (dk_at dksX9_form_3 3 rfl rfl)
theorem dX9_form_73 : decode cX9_form 73 = .ok (.ireturn, 1) := dk_172 (dk_at dksX9_form_3 4 rfl rfl)
abbrev cX9_formed : ByteArray := prog_33_method_23_code
def yX9_formed : MethodName := ⟨RX9, "formed", "(II)I"⟩
def dkwX9_formed_7 : List UInt8 := [172]
abbrev dktX9_formed_7 : List UInt8 := dkwX9_formed_7 ++ []
def dkwX9_formed_6 : List UInt8 := [167, 0, 4, 6, 172, 29, 158, 0, 7, 5, 167, 0, 4, 4, 172, 28, 158, 0, 7, 4, 167, 0, 4, 5]
abbrev dktX9_formed_6 : List UInt8 := dkwX9_formed_6 ++ dktX9_formed_7
def dkwX9_formed_5 : List UInt8 := [3, 184, 0, 90, 96, 167, 0, 5, 21, 4, 172, 28, 154, 0, 7, 5, 167, 0, 12, 29, 154, 0, 7, 4]
abbrev dktX9_formed_5 : List UInt8 := dkwX9_formed_5 ++ dktX9_formed_6
def dkwX9_formed_4 : List UInt8 := [21, 4, 172, 21, 4, 154, 0, 9, 26, 8, 100, 167, 0, 5, 21, 4, 172, 21, 4, 154, 0, 13, 4, 27]
abbrev dktX9_formed_4 : List UInt8 := dkwX9_formed_4 ++ dktX9_formed_5
def dkwX9_formed_3 : List UInt8 := [26, 4, 96, 172, 4, 27, 26, 6, 100, 184, 0, 90, 96, 172, 21, 4, 154, 0, 7, 6, 167, 0, 5]
abbrev dktX9_formed_3 : List UInt8 := dkwX9_formed_3 ++ dktX9_formed_4
def dkwX9_formed_2 : List UInt8 := [170, 0, 0, 0, 0, 144, 0, 0, 0, 0, 0, 0, 0, 10, 0, 0, 0, 58, 0, 0, 0, 58, 0, 0, 0, 58, 0, 0, 0, 62, 0, 0, 0, 62, 0, 0, 0, 72, 0, 0, 0, 84, 0, 0, 0, 84, 0, 0, 0, 98, 0, 0, 0, 116, 0, 0, 0, 134]
abbrev dktX9_formed_2 : List UInt8 := dkwX9_formed_2 ++ dktX9_formed_3
def dkwX9_formed_1 : List UInt8 := [164, 0, 7, 5, 167, 0, 4, 3, 54, 4, 26]
abbrev dktX9_formed_1 : List UInt8 := dkwX9_formed_1 ++ dktX9_formed_2
def dkwX9_formed_0 : List UInt8 := [27, 3, 184, 0, 109, 61, 27, 4, 184, 0, 109, 62, 28, 29, 164, 0, 7, 4, 167, 0, 13, 29, 28]
abbrev dktX9_formed_0 : List UInt8 := dkwX9_formed_0 ++ dktX9_formed_1
theorem dksX9_formed_0 : cX9_formed.data.toList.drop 0 = dktX9_formed_0 := by decide +kernel
theorem dksX9_formed_1 : cX9_formed.data.toList.drop 23 = dktX9_formed_1 := dk_seg dksX9_formed_0 23 rfl rfl
theorem dksX9_formed_2 : cX9_formed.data.toList.drop 34 = dktX9_formed_2 := dk_seg dksX9_formed_1 11 rfl rfl
theorem dksX9_formed_3 : cX9_formed.data.toList.drop 92 = dktX9_formed_3 := dk_seg dksX9_formed_2 58 rfl rfl
theorem dksX9_formed_4 : cX9_formed.data.toList.drop 115 = dktX9_formed_4 := dk_seg dksX9_formed_3 23 rfl rfl
theorem dksX9_formed_5 : cX9_formed.data.toList.drop 139 = dktX9_formed_5 := dk_seg dksX9_formed_4 24 rfl rfl
theorem dksX9_formed_6 : cX9_formed.data.toList.drop 163 = dktX9_formed_6 := dk_seg dksX9_formed_5 24 rfl rfl
theorem dksX9_formed_7 : cX9_formed.data.toList.drop 187 = dktX9_formed_7 := dk_seg dksX9_formed_6 24 rfl rfl
theorem dX9_formed_0 : decode cX9_formed 0 = .ok (.iload_n 1, 1) := dk_27 (dk_at dksX9_formed_0 0 rfl rfl)
theorem dX9_formed_1 : decode cX9_formed 1 = .ok (.iconst 0, 1) := dk_3 (dk_at dksX9_formed_0 1 rfl rfl)
theorem dX9_formed_2 : decode cX9_formed 2 = .ok (.invokestatic 109, 3) := dk_184 0 109 (dk_at dksX9_formed_0 2 rfl rfl)
theorem dX9_formed_5 : decode cX9_formed 5 = .ok (.istore_n 2, 1) := dk_61 (dk_at dksX9_formed_0 5 rfl rfl)
theorem dX9_formed_6 : decode cX9_formed 6 = .ok (.iload_n 1, 1) := dk_27 (dk_at dksX9_formed_0 6 rfl rfl)
theorem dX9_formed_7 : decode cX9_formed 7 = .ok (.iconst 1, 1) := dk_4 (dk_at dksX9_formed_0 7 rfl rfl)
theorem dX9_formed_8 : decode cX9_formed 8 = .ok (.invokestatic 109, 3) := dk_184 0 109 (dk_at dksX9_formed_0 8 rfl rfl)
theorem dX9_formed_11 : decode cX9_formed 11 = .ok (.istore_n 3, 1) := dk_62 (dk_at dksX9_formed_0 11 rfl rfl)
theorem dX9_formed_12 : decode cX9_formed 12 = .ok (.iload_n 2, 1) := dk_28 (dk_at dksX9_formed_0 12 rfl rfl)
theorem dX9_formed_13 : decode cX9_formed 13 = .ok (.iload_n 3, 1) := dk_29 (dk_at dksX9_formed_0 13 rfl rfl)
theorem dX9_formed_14 : decode cX9_formed 14 = .ok (.if_icmp .le 7, 3) := dk_164 0 7 (dk_at dksX9_formed_0 14 rfl rfl)
theorem dX9_formed_17 : decode cX9_formed 17 = .ok (.iconst 1, 1) := dk_4 (dk_at dksX9_formed_0 17 rfl rfl)
theorem dX9_formed_18 : decode cX9_formed 18 = .ok (.goto 13, 3) := dk_167 0 13 (dk_at dksX9_formed_0 18 rfl rfl)
theorem dX9_formed_21 : decode cX9_formed 21 = .ok (.iload_n 3, 1) := dk_29 (dk_at dksX9_formed_0 21 rfl rfl)
theorem dX9_formed_22 : decode cX9_formed 22 = .ok (.iload_n 2, 1) := dk_28 (dk_at dksX9_formed_0 22 rfl rfl)
theorem dX9_formed_23 : decode cX9_formed 23 = .ok (.if_icmp .le 7, 3) := dk_164 0 7 (dk_at dksX9_formed_1 0 rfl rfl)
theorem dX9_formed_26 : decode cX9_formed 26 = .ok (.iconst 2, 1) := dk_5 (dk_at dksX9_formed_1 3 rfl rfl)
theorem dX9_formed_27 : decode cX9_formed 27 = .ok (.goto 4, 3) := dk_167 0 4 (dk_at dksX9_formed_1 4 rfl rfl)
theorem dX9_formed_30 : decode cX9_formed 30 = .ok (.iconst 0, 1) := dk_3 (dk_at dksX9_formed_1 7 rfl rfl)
theorem dX9_formed_31 : decode cX9_formed 31 = .ok (.istore 4, 2) := dk_54 4 (dk_at dksX9_formed_1 8 rfl rfl)
theorem dX9_formed_33 : decode cX9_formed 33 = .ok (.iload_n 0, 1) := dk_26 (dk_at dksX9_formed_1 10 rfl rfl)
theorem dX9_formed_34 : decode cX9_formed 34 = .ok (.tableswitch 144 0 10 #[58, 58, 58, 62, 62, 72, 84, 84, 98, 116, 134], 58) := by decide +kernel
theorem dX9_formed_92 : decode cX9_formed 92 = .ok (.iload_n 0, 1) := dk_26 (dk_at dksX9_formed_3 0 rfl rfl)
theorem dX9_formed_93 : decode cX9_formed 93 = .ok (.iconst 1, 1) := dk_4 (dk_at dksX9_formed_3 1 rfl rfl)
theorem dX9_formed_94 : decode cX9_formed 94 = .ok (.iadd, 1) := dk_96 (dk_at dksX9_formed_3 2 rfl rfl)
theorem dX9_formed_95 : decode cX9_formed 95 = .ok (.ireturn, 1) := dk_172 (dk_at dksX9_formed_3 3 rfl rfl)
theorem dX9_formed_96 : decode cX9_formed 96 = .ok (.iconst 1, 1) := dk_4 (dk_at dksX9_formed_3 4 rfl rfl)
theorem dX9_formed_97 : decode cX9_formed 97 = .ok (.iload_n 1, 1) := dk_27 (dk_at dksX9_formed_3 5 rfl rfl)
theorem dX9_formed_98 : decode cX9_formed 98 = .ok (.iload_n 0, 1) := dk_26 (dk_at dksX9_formed_3 6 rfl rfl)
theorem dX9_formed_99 : decode cX9_formed 99 = .ok (.iconst 3, 1) := dk_6 (dk_at dksX9_formed_3 7 rfl rfl)
theorem dX9_formed_100 : decode cX9_formed 100 = .ok (.isub, 1) := dk_100 (dk_at dksX9_formed_3 8 rfl rfl)
theorem dX9_formed_101 : decode cX9_formed 101 = .ok (.invokestatic 90, 3) := dk_184 0 90 (dk_at dksX9_formed_3 9 rfl rfl)
theorem dX9_formed_104 : decode cX9_formed 104 = .ok (.iadd, 1) := dk_96 (dk_at dksX9_formed_3 12 rfl rfl)
theorem dX9_formed_105 : decode cX9_formed 105 = .ok (.ireturn, 1) := dk_172 (dk_at dksX9_formed_3 13 rfl rfl)
theorem dX9_formed_106 : decode cX9_formed 106 = .ok (.iload 4, 2) := dk_21 4 (dk_at dksX9_formed_3 14 rfl rfl)
theorem dX9_formed_108 : decode cX9_formed 108 = .ok (.ifCond .ne 7, 3) := dk_154 0 7 (dk_at dksX9_formed_3 16 rfl rfl)
theorem dX9_formed_111 : decode cX9_formed 111 = .ok (.iconst 3, 1) := dk_6 (dk_at dksX9_formed_3 19 rfl rfl)
theorem dX9_formed_112 : decode cX9_formed 112 = .ok (.goto 5, 3) := dk_167 0 5 (dk_at dksX9_formed_3 20 rfl rfl)
theorem dX9_formed_115 : decode cX9_formed 115 = .ok (.iload 4, 2) := dk_21 4 (dk_at dksX9_formed_4 0 rfl rfl)
theorem dX9_formed_117 : decode cX9_formed 117 = .ok (.ireturn, 1) := dk_172 (dk_at dksX9_formed_4 2 rfl rfl)
theorem dX9_formed_118 : decode cX9_formed 118 = .ok (.iload 4, 2) := dk_21 4 (dk_at dksX9_formed_4 3 rfl rfl)
theorem dX9_formed_120 : decode cX9_formed 120 = .ok (.ifCond .ne 9, 3) := dk_154 0 9 (dk_at dksX9_formed_4 5 rfl rfl)
theorem dX9_formed_123 : decode cX9_formed 123 = .ok (.iload_n 0, 1) := dk_26 (dk_at dksX9_formed_4 8 rfl rfl)
theorem dX9_formed_124 : decode cX9_formed 124 = .ok (.iconst 5, 1) := dk_8 (dk_at dksX9_formed_4 9 rfl rfl)
theorem dX9_formed_125 : decode cX9_formed 125 = .ok (.isub, 1) := dk_100 (dk_at dksX9_formed_4 10 rfl rfl)
theorem dX9_formed_126 : decode cX9_formed 126 = .ok (.goto 5, 3) := dk_167 0 5 (dk_at dksX9_formed_4 11 rfl rfl)
theorem dX9_formed_129 : decode cX9_formed 129 = .ok (.iload 4, 2) := dk_21 4 (dk_at dksX9_formed_4 14 rfl rfl)
theorem dX9_formed_131 : decode cX9_formed 131 = .ok (.ireturn, 1) := dk_172 (dk_at dksX9_formed_4 16 rfl rfl)
theorem dX9_formed_132 : decode cX9_formed 132 = .ok (.iload 4, 2) := dk_21 4 (dk_at dksX9_formed_4 17 rfl rfl)
theorem dX9_formed_134 : decode cX9_formed 134 = .ok (.ifCond .ne 13, 3) := dk_154 0 13 (dk_at dksX9_formed_4 19 rfl rfl)
theorem dX9_formed_137 : decode cX9_formed 137 = .ok (.iconst 1, 1) := dk_4 (dk_at dksX9_formed_4 22 rfl rfl)
theorem dX9_formed_138 : decode cX9_formed 138 = .ok (.iload_n 1, 1) := dk_27 (dk_at dksX9_formed_4 23 rfl rfl)
theorem dX9_formed_139 : decode cX9_formed 139 = .ok (.iconst 0, 1) := dk_3 (dk_at dksX9_formed_5 0 rfl rfl)
theorem dX9_formed_140 : decode cX9_formed 140 = .ok (.invokestatic 90, 3) := dk_184 0 90 (dk_at dksX9_formed_5 1 rfl rfl)
theorem dX9_formed_143 : decode cX9_formed 143 = .ok (.iadd, 1) := dk_96 (dk_at dksX9_formed_5 4 rfl rfl)
theorem dX9_formed_144 : decode cX9_formed 144 = .ok (.goto 5, 3) := dk_167 0 5 (dk_at dksX9_formed_5 5 rfl rfl)
theorem dX9_formed_147 : decode cX9_formed 147 = .ok (.iload 4, 2) := dk_21 4 (dk_at dksX9_formed_5 8 rfl rfl)
theorem dX9_formed_149 : decode cX9_formed 149 = .ok (.ireturn, 1) := dk_172 (dk_at dksX9_formed_5 10 rfl rfl)
theorem dX9_formed_150 : decode cX9_formed 150 = .ok (.iload_n 2, 1) := dk_28 (dk_at dksX9_formed_5 11 rfl rfl)
theorem dX9_formed_151 : decode cX9_formed 151 = .ok (.ifCond .ne 7, 3) := dk_154 0 7 (dk_at dksX9_formed_5 12 rfl rfl)
theorem dX9_formed_154 : decode cX9_formed 154 = .ok (.iconst 2, 1) := dk_5 (dk_at dksX9_formed_5 15 rfl rfl)
theorem dX9_formed_155 : decode cX9_formed 155 = .ok (.goto 12, 3) := dk_167 0 12 (dk_at dksX9_formed_5 16 rfl rfl)
theorem dX9_formed_158 : decode cX9_formed 158 = .ok (.iload_n 3, 1) := dk_29 (dk_at dksX9_formed_5 19 rfl rfl)
theorem dX9_formed_159 : decode cX9_formed 159 = .ok (.ifCond .ne 7, 3) := dk_154 0 7 (dk_at dksX9_formed_5 20 rfl rfl)
theorem dX9_formed_162 : decode cX9_formed 162 = .ok (.iconst 1, 1) := dk_4 (dk_at dksX9_formed_5 23 rfl rfl)
theorem dX9_formed_163 : decode cX9_formed 163 = .ok (.goto 4, 3) := dk_167 0 4 (dk_at dksX9_formed_6 0 rfl rfl)
theorem dX9_formed_166 : decode cX9_formed 166 = .ok (.iconst 3, 1) := dk_6 (dk_at dksX9_formed_6 3 rfl rfl)
theorem dX9_formed_167 : decode cX9_formed 167 = .ok (.ireturn, 1) := dk_172 (dk_at dksX9_formed_6 4 rfl rfl)
theorem dX9_formed_168 : decode cX9_formed 168 = .ok (.iload_n 3, 1) := dk_29 (dk_at dksX9_formed_6 5 rfl rfl)
theorem dX9_formed_169 : decode cX9_formed 169 = .ok (.ifCond .le 7, 3) := dk_158 0 7 (dk_at dksX9_formed_6 6 rfl rfl)
theorem dX9_formed_172 : decode cX9_formed 172 = .ok (.iconst 2, 1) := dk_5 (dk_at dksX9_formed_6 9 rfl rfl)
theorem dX9_formed_173 : decode cX9_formed 173 = .ok (.goto 4, 3) := dk_167 0 4 (dk_at dksX9_formed_6 10 rfl rfl)
theorem dX9_formed_176 : decode cX9_formed 176 = .ok (.iconst 1, 1) := dk_4 (dk_at dksX9_formed_6 13 rfl rfl)
theorem dX9_formed_177 : decode cX9_formed 177 = .ok (.ireturn, 1) := dk_172 (dk_at dksX9_formed_6 14 rfl rfl)
theorem dX9_formed_178 : decode cX9_formed 178 = .ok (.iload_n 2, 1) := dk_28 (dk_at dksX9_formed_6 15 rfl rfl)
theorem dX9_formed_179 : decode cX9_formed 179 = .ok (.ifCond .le 7, 3) := dk_158 0 7 (dk_at dksX9_formed_6 16 rfl rfl)
theorem dX9_formed_182 : decode cX9_formed 182 = .ok (.iconst 1, 1) := dk_4 (dk_at dksX9_formed_6 19 rfl rfl)
theorem dX9_formed_183 : decode cX9_formed 183 = .ok (.goto 4, 3) := dk_167 0 4 (dk_at dksX9_formed_6 20 rfl rfl)
theorem dX9_formed_186 : decode cX9_formed 186 = .ok (.iconst 2, 1) := dk_5 (dk_at dksX9_formed_6 23 rfl rfl)
theorem dX9_formed_187 : decode cX9_formed 187 = .ok (.ireturn, 1) := dk_172 (dk_at dksX9_formed_7 0 rfl rfl)
abbrev cX9_feed : ByteArray := prog_33_method_25_code
def yX9_feed : MethodName := ⟨RX9, "feed", "(JI)I"⟩
def dkwX9_feed_3 : List UInt8 := [79, 42, 180, 0, 9, 4, 92, 46, 4, 96, 79, 132, 4, 1, 167, 255, 211, 42, 180, 0, 9, 4, 46, 172]
abbrev dktX9_feed_3 : List UInt8 := dkwX9_feed_3 ++ []
def dkwX9_feed_2 : List UInt8 := [180, 0, 9, 16, 40, 42, 180, 0, 9, 4, 46, 96, 31, 16, 8, 21, 4, 104, 123, 20, 0, 129, 127, 136]
abbrev dktX9_feed_2 : List UInt8 := dkwX9_feed_2 ++ dktX9_feed_3
def dkwX9_feed_1 : List UInt8 := [96, 16, 50, 164, 0, 10, 42, 18, 128, 182, 0, 106, 172, 3, 54, 4, 21, 4, 29, 162, 0, 45, 42]
abbrev dktX9_feed_1 : List UInt8 := dkwX9_feed_1 ++ dktX9_feed_2
def dkwX9_feed_0 : List UInt8 := [29, 4, 16, 8, 184, 0, 94, 154, 0, 10, 42, 18, 105, 182, 0, 106, 172, 42, 180, 0, 9, 4, 46, 29]
abbrev dktX9_feed_0 : List UInt8 := dkwX9_feed_0 ++ dktX9_feed_1
theorem dksX9_feed_0 : cX9_feed.data.toList.drop 0 = dktX9_feed_0 := by decide +kernel
theorem dksX9_feed_1 : cX9_feed.data.toList.drop 24 = dktX9_feed_1 := dk_seg dksX9_feed_0 24 rfl rfl
theorem dksX9_feed_2 : cX9_feed.data.toList.drop 47 = dktX9_feed_2 := dk_seg dksX9_feed_1 23 rfl rfl
theorem dksX9_feed_3 : cX9_feed.data.toList.drop 71 = dktX9_feed_3 := dk_seg dksX9_feed_2 24 rfl rfl
theorem dX9_feed_0 : decode cX9_feed 0 = .ok (.iload_n 3, 1) := dk_29 (dk_at dksX9_feed_0 0 rfl rfl)
theorem dX9_feed_1 : decode cX9_feed 1 = .ok (.iconst 1, 1) := dk_4 (dk_at dksX9_feed_0 1 rfl rfl)
theorem dX9_feed_2 : decode cX9_feed 2 = .ok (.bipush 8, 2) := dk_16 8 (dk_at dksX9_feed_0 2 rfl rfl)
theorem dX9_feed_4 : decode cX9_feed 4 = .ok (.invokestatic 94, 3) := dk_184 0 94 (dk_at dksX9_feed_0 4 rfl rfl)
theorem dX9_feed_7 : decode cX9_feed 7 = .ok (.ifCond .ne 10, 3) := dk_154 0 10 (dk_at dksX9_feed_0 7 rfl rfl)
theorem dX9_feed_10 : decode cX9_feed 10 = .ok (.aload_n 0, 1) := dk_42 (dk_at dksX9_feed_0 10 rfl rfl)
theorem dX9_feed_11 : decode cX9_feed 11 = .ok (.ldc 105, 2) := dk_18 105 (dk_at dksX9_feed_0 11 rfl rfl)
theorem dX9_feed_13 : decode cX9_feed 13 = .ok (.invokevirtual 106, 3) := dk_182 0 106 (dk_at dksX9_feed_0 13 rfl rfl)
theorem dX9_feed_16 : decode cX9_feed 16 = .ok (.ireturn, 1) := dk_172 (dk_at dksX9_feed_0 16 rfl rfl)
theorem dX9_feed_17 : decode cX9_feed 17 = .ok (.aload_n 0, 1) := dk_42 (dk_at dksX9_feed_0 17 rfl rfl)
theorem dX9_feed_18 : decode cX9_feed 18 = .ok (.getfield 9, 3) := dk_180 0 9 (dk_at dksX9_feed_0 18 rfl rfl)
theorem dX9_feed_21 : decode cX9_feed 21 = .ok (.iconst 1, 1) := dk_4 (dk_at dksX9_feed_0 21 rfl rfl)
theorem dX9_feed_22 : decode cX9_feed 22 = .ok (.iaload, 1) := dk_46 (dk_at dksX9_feed_0 22 rfl rfl)
theorem dX9_feed_23 : decode cX9_feed 23 = .ok (.iload_n 3, 1) := dk_29 (dk_at dksX9_feed_0 23 rfl rfl)
theorem dX9_feed_24 : decode cX9_feed 24 = .ok (.iadd, 1) := dk_96 (dk_at dksX9_feed_1 0 rfl rfl)
theorem dX9_feed_25 : decode cX9_feed 25 = .ok (.bipush 50, 2) := dk_16 50 (dk_at dksX9_feed_1 1 rfl rfl)
theorem dX9_feed_27 : decode cX9_feed 27 = .ok (.if_icmp .le 10, 3) := dk_164 0 10 (dk_at dksX9_feed_1 3 rfl rfl)
theorem dX9_feed_30 : decode cX9_feed 30 = .ok (.aload_n 0, 1) := dk_42 (dk_at dksX9_feed_1 6 rfl rfl)
theorem dX9_feed_31 : decode cX9_feed 31 = .ok (.ldc 128, 2) := dk_18 128 (dk_at dksX9_feed_1 7 rfl rfl)
theorem dX9_feed_33 : decode cX9_feed 33 = .ok (.invokevirtual 106, 3) := dk_182 0 106 (dk_at dksX9_feed_1 9 rfl rfl)
theorem dX9_feed_36 : decode cX9_feed 36 = .ok (.ireturn, 1) := dk_172 (dk_at dksX9_feed_1 12 rfl rfl)
theorem dX9_feed_37 : decode cX9_feed 37 = .ok (.iconst 0, 1) := dk_3 (dk_at dksX9_feed_1 13 rfl rfl)
theorem dX9_feed_38 : decode cX9_feed 38 = .ok (.istore 4, 2) := dk_54 4 (dk_at dksX9_feed_1 14 rfl rfl)
theorem dX9_feed_40 : decode cX9_feed 40 = .ok (.iload 4, 2) := dk_21 4 (dk_at dksX9_feed_1 16 rfl rfl)
theorem dX9_feed_42 : decode cX9_feed 42 = .ok (.iload_n 3, 1) := dk_29 (dk_at dksX9_feed_1 18 rfl rfl)
theorem dX9_feed_43 : decode cX9_feed 43 = .ok (.if_icmp .ge 45, 3) := dk_162 0 45 (dk_at dksX9_feed_1 19 rfl rfl)
theorem dX9_feed_46 : decode cX9_feed 46 = .ok (.aload_n 0, 1) := dk_42 (dk_at dksX9_feed_1 22 rfl rfl)
theorem dX9_feed_47 : decode cX9_feed 47 = .ok (.getfield 9, 3) := dk_180 0 9 (dk_at dksX9_feed_2 0 rfl rfl)
theorem dX9_feed_50 : decode cX9_feed 50 = .ok (.bipush 40, 2) := dk_16 40 (dk_at dksX9_feed_2 3 rfl rfl)
theorem dX9_feed_52 : decode cX9_feed 52 = .ok (.aload_n 0, 1) := dk_42 (dk_at dksX9_feed_2 5 rfl rfl)
theorem dX9_feed_53 : decode cX9_feed 53 = .ok (.getfield 9, 3) := dk_180 0 9 (dk_at dksX9_feed_2 6 rfl rfl)
theorem dX9_feed_56 : decode cX9_feed 56 = .ok (.iconst 1, 1) := dk_4 (dk_at dksX9_feed_2 9 rfl rfl)
theorem dX9_feed_57 : decode cX9_feed 57 = .ok (.iaload, 1) := dk_46 (dk_at dksX9_feed_2 10 rfl rfl)
theorem dX9_feed_58 : decode cX9_feed 58 = .ok (.iadd, 1) := dk_96 (dk_at dksX9_feed_2 11 rfl rfl)
theorem dX9_feed_59 : decode cX9_feed 59 = .ok (.lload_n 1, 1) := dk_31 (dk_at dksX9_feed_2 12 rfl rfl)
theorem dX9_feed_60 : decode cX9_feed 60 = .ok (.bipush 8, 2) := dk_16 8 (dk_at dksX9_feed_2 13 rfl rfl)
theorem dX9_feed_62 : decode cX9_feed 62 = .ok (.iload 4, 2) := dk_21 4 (dk_at dksX9_feed_2 15 rfl rfl)
theorem dX9_feed_64 : decode cX9_feed 64 = .ok (.imul, 1) := dk_104 (dk_at dksX9_feed_2 17 rfl rfl)
theorem dX9_feed_65 : decode cX9_feed 65 = .ok (.lshr, 1) := dk_123 (dk_at dksX9_feed_2 18 rfl rfl)
theorem dX9_feed_66 : decode cX9_feed 66 = .ok (.ldc2_w 129, 3) := dk_20 0 129 (dk_at dksX9_feed_2 19 rfl rfl)
theorem dX9_feed_69 : decode cX9_feed 69 = .ok (.land, 1) := dk_127 (dk_at dksX9_feed_2 22 rfl rfl)
theorem dX9_feed_70 : decode cX9_feed 70 = .ok (.l2i, 1) := dk_136 (dk_at dksX9_feed_2 23 rfl rfl)
theorem dX9_feed_71 : decode cX9_feed 71 = .ok (.iastore, 1) := dk_79 (dk_at dksX9_feed_3 0 rfl rfl)
theorem dX9_feed_72 : decode cX9_feed 72 = .ok (.aload_n 0, 1) := dk_42 (dk_at dksX9_feed_3 1 rfl rfl)
theorem dX9_feed_73 : decode cX9_feed 73 = .ok (.getfield 9, 3) := dk_180 0 9 (dk_at dksX9_feed_3 2 rfl rfl)
theorem dX9_feed_76 : decode cX9_feed 76 = .ok (.iconst 1, 1) := dk_4 (dk_at dksX9_feed_3 5 rfl rfl)
theorem dX9_feed_77 : decode cX9_feed 77 = .ok (.dup2, 1) := dk_92 (dk_at dksX9_feed_3 6 rfl rfl)
theorem dX9_feed_78 : decode cX9_feed 78 = .ok (.iaload, 1) := dk_46 (dk_at dksX9_feed_3 7 rfl rfl)
theorem dX9_feed_79 : decode cX9_feed 79 = .ok (.iconst 1, 1) := dk_4 (dk_at dksX9_feed_3 8 rfl rfl)
theorem dX9_feed_80 : decode cX9_feed 80 = .ok (.iadd, 1) := dk_96 (dk_at dksX9_feed_3 9 rfl rfl)
theorem dX9_feed_81 : decode cX9_feed 81 = .ok (.iastore, 1) := dk_79 (dk_at dksX9_feed_3 10 rfl rfl)
theorem dX9_feed_82 : decode cX9_feed 82 = .ok (.iinc 4 1, 3) := dk_132 4 1 (dk_at dksX9_feed_3 11 rfl rfl)
theorem dX9_feed_85 : decode cX9_feed 85 = .ok (.goto (-45), 3) := dk_167 255 211 (dk_at dksX9_feed_3 14 rfl rfl)
theorem dX9_feed_88 : decode cX9_feed 88 = .ok (.aload_n 0, 1) := dk_42 (dk_at dksX9_feed_3 17 rfl rfl)
theorem dX9_feed_89 : decode cX9_feed 89 = .ok (.getfield 9, 3) := dk_180 0 9 (dk_at dksX9_feed_3 18 rfl rfl)
theorem dX9_feed_92 : decode cX9_feed 92 = .ok (.iconst 1, 1) := dk_4 (dk_at dksX9_feed_3 21 rfl rfl)
theorem dX9_feed_93 : decode cX9_feed 93 = .ok (.iaload, 1) := dk_46 (dk_at dksX9_feed_3 22 rfl rfl)
theorem dX9_feed_94 : decode cX9_feed 94 = .ok (.ireturn, 1) := dk_172 (dk_at dksX9_feed_3 23 rfl rfl)
abbrev cX9_law : ByteArray := prog_33_method_41_code
def yX9_law : MethodName := ⟨RX9, "law", "(II)I"⟩
def dkwX9_law_10 : List UInt8 := [167, 255, 211, 42, 180, 0, 9, 3, 92, 46, 4, 96, 79, 29, 172]
abbrev dktX9_law_10 : List UInt8 := dkwX9_law_10 ++ []
def dkwX9_law_9 : List UInt8 := [29, 104, 96, 21, 4, 96, 42, 180, 0, 19, 27, 46, 100, 42, 27, 21, 4, 182, 0, 201, 79, 132, 4, 1]
abbrev dktX9_law_9 : List UInt8 := dkwX9_law_9 ++ dktX9_law_10
def dkwX9_law_8 : List UInt8 := [46, 54, 4, 21, 4, 42, 180, 0, 19, 27, 4, 96, 46, 162, 0, 38, 42, 180, 0, 9, 16, 110, 16, 32]
abbrev dktX9_law_8 : List UInt8 := dkwX9_law_8 ++ dktX9_law_9
def dkwX9_law_7 : List UInt8 := [180, 0, 9, 16, 22, 29, 96, 27, 79, 42, 180, 0, 9, 16, 30, 29, 96, 28, 79, 42, 180, 0, 19, 27]
abbrev dktX9_law_7 : List UInt8 := dkwX9_law_7 ++ dktX9_law_8
def dkwX9_law_6 : List UInt8 := [42, 180, 0, 9, 4, 3, 79, 42, 180, 0, 131, 153, 0, 11, 16, 246, 42, 180, 0, 135, 100, 172, 42]
abbrev dktX9_law_6 : List UInt8 := dkwX9_law_6 ++ dktX9_law_7
def dkwX9_law_5 : List UInt8 := [154, 0, 16, 42, 180, 0, 135, 42, 180, 0, 9, 4, 46, 162, 0, 7, 4, 167, 0, 4, 3, 181, 0, 131]
abbrev dktX9_law_5 : List UInt8 := dkwX9_law_5 ++ dktX9_law_6
def dkwX9_law_4 : List UInt8 := [160, 0, 8, 16, 9, 167, 0, 5, 16, 10, 181, 0, 176, 42, 182, 0, 170, 42, 42, 180, 0, 131]
abbrev dktX9_law_4 : List UInt8 := dkwX9_law_4 ++ dktX9_law_5
def dkwX9_law_3 : List UInt8 := [42, 3, 181, 0, 131, 42, 3, 181, 0, 142, 42, 27, 154, 0, 8, 16, 7, 167, 0, 15, 27, 7]
abbrev dktX9_law_3 : List UInt8 := dkwX9_law_3 ++ dktX9_law_4
def dkwX9_law_2 : List UInt8 := [27, 153, 0, 13, 27, 4, 159, 0, 8, 27, 7, 160, 0, 103, 42, 3, 181, 0, 135, 42, 3, 181, 0, 167]
abbrev dktX9_law_2 : List UInt8 := dkwX9_law_2 ++ dktX9_law_3
def dkwX9_law_1 : List UInt8 := [182, 0, 106, 172, 42, 180, 0, 9, 3, 46, 62, 29, 16, 8, 160, 0, 10, 42, 18, 128, 182, 0, 106, 172]
abbrev dktX9_law_1 : List UInt8 := dkwX9_law_1 ++ dktX9_law_2
def dkwX9_law_0 : List UInt8 := [27, 3, 8, 184, 0, 94, 153, 0, 13, 28, 3, 16, 99, 184, 0, 94, 154, 0, 10, 42, 18, 105]
abbrev dktX9_law_0 : List UInt8 := dkwX9_law_0 ++ dktX9_law_1
theorem dksX9_law_0 : cX9_law.data.toList.drop 0 = dktX9_law_0 := by decide +kernel
theorem dksX9_law_1 : cX9_law.data.toList.drop 22 = dktX9_law_1 := dk_seg dksX9_law_0 22 rfl rfl
theorem dksX9_law_2 : cX9_law.data.toList.drop 46 = dktX9_law_2 := dk_seg dksX9_law_1 24 rfl rfl
theorem dksX9_law_3 : cX9_law.data.toList.drop 70 = dktX9_law_3 := dk_seg dksX9_law_2 24 rfl rfl
theorem dksX9_law_4 : cX9_law.data.toList.drop 92 = dktX9_law_4 := dk_seg dksX9_law_3 22 rfl rfl
theorem dksX9_law_5 : cX9_law.data.toList.drop 114 = dktX9_law_5 := dk_seg dksX9_law_4 22 rfl rfl
theorem dksX9_law_6 : cX9_law.data.toList.drop 138 = dktX9_law_6 := dk_seg dksX9_law_5 24 rfl rfl
theorem dksX9_law_7 : cX9_law.data.toList.drop 161 = dktX9_law_7 := dk_seg dksX9_law_6 23 rfl rfl
theorem dksX9_law_8 : cX9_law.data.toList.drop 185 = dktX9_law_8 := dk_seg dksX9_law_7 24 rfl rfl
theorem dksX9_law_9 : cX9_law.data.toList.drop 209 = dktX9_law_9 := dk_seg dksX9_law_8 24 rfl rfl
theorem dksX9_law_10 : cX9_law.data.toList.drop 233 = dktX9_law_10 := dk_seg dksX9_law_9 24 rfl rfl
theorem dX9_law_0 : decode cX9_law 0 = .ok (.iload_n 1, 1) := dk_27 (dk_at dksX9_law_0 0 rfl rfl)
theorem dX9_law_1 : decode cX9_law 1 = .ok (.iconst 0, 1) := dk_3 (dk_at dksX9_law_0 1 rfl rfl)
theorem dX9_law_2 : decode cX9_law 2 = .ok (.iconst 5, 1) := dk_8 (dk_at dksX9_law_0 2 rfl rfl)
theorem dX9_law_3 : decode cX9_law 3 = .ok (.invokestatic 94, 3) := dk_184 0 94 (dk_at dksX9_law_0 3 rfl rfl)
theorem dX9_law_6 : decode cX9_law 6 = .ok (.ifCond .eq 13, 3) := dk_153 0 13 (dk_at dksX9_law_0 6 rfl rfl)
theorem dX9_law_9 : decode cX9_law 9 = .ok (.iload_n 2, 1) := dk_28 (dk_at dksX9_law_0 9 rfl rfl)
theorem dX9_law_10 : decode cX9_law 10 = .ok (.iconst 0, 1) := dk_3 (dk_at dksX9_law_0 10 rfl rfl)
theorem dX9_law_11 : decode cX9_law 11 = .ok (.bipush 99, 2) := dk_16 99 (dk_at dksX9_law_0 11 rfl rfl)
theorem dX9_law_13 : decode cX9_law 13 = .ok (.invokestatic 94, 3) := dk_184 0 94 (dk_at dksX9_law_0 13 rfl rfl)
theorem dX9_law_16 : decode cX9_law 16 = .ok (.ifCond .ne 10, 3) := dk_154 0 10 (dk_at dksX9_law_0 16 rfl rfl)
theorem dX9_law_19 : decode cX9_law 19 = .ok (.aload_n 0, 1) := dk_42 (dk_at dksX9_law_0 19 rfl rfl)
theorem dX9_law_20 : decode cX9_law 20 = .ok (.ldc 105, 2) := dk_18 105 (dk_at dksX9_law_0 20 rfl rfl)
theorem dX9_law_22 : decode cX9_law 22 = .ok (.invokevirtual 106, 3) := dk_182 0 106 (dk_at dksX9_law_1 0 rfl rfl)
theorem dX9_law_25 : decode cX9_law 25 = .ok (.ireturn, 1) := dk_172 (dk_at dksX9_law_1 3 rfl rfl)
theorem dX9_law_26 : decode cX9_law 26 = .ok (.aload_n 0, 1) := dk_42 (dk_at dksX9_law_1 4 rfl rfl)
theorem dX9_law_27 : decode cX9_law 27 = .ok (.getfield 9, 3) := dk_180 0 9 (dk_at dksX9_law_1 5 rfl rfl)
theorem dX9_law_30 : decode cX9_law 30 = .ok (.iconst 0, 1) := dk_3 (dk_at dksX9_law_1 8 rfl rfl)
theorem dX9_law_31 : decode cX9_law 31 = .ok (.iaload, 1) := dk_46 (dk_at dksX9_law_1 9 rfl rfl)
theorem dX9_law_32 : decode cX9_law 32 = .ok (.istore_n 3, 1) := dk_62 (dk_at dksX9_law_1 10 rfl rfl)
theorem dX9_law_33 : decode cX9_law 33 = .ok (.iload_n 3, 1) := dk_29 (dk_at dksX9_law_1 11 rfl rfl)
theorem dX9_law_34 : decode cX9_law 34 = .ok (.bipush 8, 2) := dk_16 8 (dk_at dksX9_law_1 12 rfl rfl)
theorem dX9_law_36 : decode cX9_law 36 = .ok (.if_icmp .ne 10, 3) := dk_160 0 10 (dk_at dksX9_law_1 14 rfl rfl)
theorem dX9_law_39 : decode cX9_law 39 = .ok (.aload_n 0, 1) := dk_42 (dk_at dksX9_law_1 17 rfl rfl)
theorem dX9_law_40 : decode cX9_law 40 = .ok (.ldc 128, 2) := dk_18 128 (dk_at dksX9_law_1 18 rfl rfl)
theorem dX9_law_42 : decode cX9_law 42 = .ok (.invokevirtual 106, 3) := dk_182 0 106 (dk_at dksX9_law_1 20 rfl rfl)
theorem dX9_law_45 : decode cX9_law 45 = .ok (.ireturn, 1) := dk_172 (dk_at dksX9_law_1 23 rfl rfl)
theorem dX9_law_46 : decode cX9_law 46 = .ok (.iload_n 1, 1) := dk_27 (dk_at dksX9_law_2 0 rfl rfl)
theorem dX9_law_47 : decode cX9_law 47 = .ok (.ifCond .eq 13, 3) := dk_153 0 13 (dk_at dksX9_law_2 1 rfl rfl)
theorem dX9_law_50 : decode cX9_law 50 = .ok (.iload_n 1, 1) := dk_27 (dk_at dksX9_law_2 4 rfl rfl)
theorem dX9_law_51 : decode cX9_law 51 = .ok (.iconst 1, 1) := dk_4 (dk_at dksX9_law_2 5 rfl rfl)
theorem dX9_law_52 : decode cX9_law 52 = .ok (.if_icmp .eq 8, 3) := dk_159 0 8 (dk_at dksX9_law_2 6 rfl rfl)
theorem dX9_law_55 : decode cX9_law 55 = .ok (.iload_n 1, 1) := dk_27 (dk_at dksX9_law_2 9 rfl rfl)
theorem dX9_law_56 : decode cX9_law 56 = .ok (.iconst 4, 1) := dk_7 (dk_at dksX9_law_2 10 rfl rfl)
theorem dX9_law_57 : decode cX9_law 57 = .ok (.if_icmp .ne 103, 3) := dk_160 0 103 (dk_at dksX9_law_2 11 rfl rfl)
theorem dX9_law_60 : decode cX9_law 60 = .ok (.aload_n 0, 1) := dk_42 (dk_at dksX9_law_2 14 rfl rfl)
theorem dX9_law_61 : decode cX9_law 61 = .ok (.iconst 0, 1) := dk_3 (dk_at dksX9_law_2 15 rfl rfl)
theorem dX9_law_62 : decode cX9_law 62 = .ok (.putfield 135, 3) := dk_181 0 135 (dk_at dksX9_law_2 16 rfl rfl)
theorem dX9_law_65 : decode cX9_law 65 = .ok (.aload_n 0, 1) := dk_42 (dk_at dksX9_law_2 19 rfl rfl)
theorem dX9_law_66 : decode cX9_law 66 = .ok (.iconst 0, 1) := dk_3 (dk_at dksX9_law_2 20 rfl rfl)
theorem dX9_law_67 : decode cX9_law 67 = .ok (.putfield 167, 3) := dk_181 0 167 (dk_at dksX9_law_2 21 rfl rfl)
theorem dX9_law_70 : decode cX9_law 70 = .ok (.aload_n 0, 1) := dk_42 (dk_at dksX9_law_3 0 rfl rfl)
theorem dX9_law_71 : decode cX9_law 71 = .ok (.iconst 0, 1) := dk_3 (dk_at dksX9_law_3 1 rfl rfl)
theorem dX9_law_72 : decode cX9_law 72 = .ok (.putfield 131, 3) := dk_181 0 131 (dk_at dksX9_law_3 2 rfl rfl)
theorem dX9_law_75 : decode cX9_law 75 = .ok (.aload_n 0, 1) := dk_42 (dk_at dksX9_law_3 5 rfl rfl)
theorem dX9_law_76 : decode cX9_law 76 = .ok (.iconst 0, 1) := dk_3 (dk_at dksX9_law_3 6 rfl rfl)
theorem dX9_law_77 : decode cX9_law 77 = .ok (.putfield 142, 3) := dk_181 0 142 (dk_at dksX9_law_3 7 rfl rfl)
theorem dX9_law_80 : decode cX9_law 80 = .ok (.aload_n 0, 1) := dk_42 (dk_at dksX9_law_3 10 rfl rfl)
theorem dX9_law_81 : decode cX9_law 81 = .ok (.iload_n 1, 1) := dk_27 (dk_at dksX9_law_3 11 rfl rfl)
theorem dX9_law_82 : decode cX9_law 82 = .ok (.ifCond .ne 8, 3) := dk_154 0 8 (dk_at dksX9_law_3 12 rfl rfl)
theorem dX9_law_85 : decode cX9_law 85 = .ok (.bipush 7, 2) := dk_16 7 (dk_at dksX9_law_3 15 rfl rfl)
theorem dX9_law_87 : decode cX9_law 87 = .ok (.goto 15, 3) := dk_167 0 15 (dk_at dksX9_law_3 17 rfl rfl)
theorem dX9_law_90 : decode cX9_law 90 = .ok (.iload_n 1, 1) := dk_27 (dk_at dksX9_law_3 20 rfl rfl)
theorem dX9_law_91 : decode cX9_law 91 = .ok (.iconst 4, 1) := dk_7 (dk_at dksX9_law_3 21 rfl rfl)
theorem dX9_law_92 : decode cX9_law 92 = .ok (.if_icmp .ne 8, 3) := dk_160 0 8 (dk_at dksX9_law_4 0 rfl rfl)
theorem dX9_law_95 : decode cX9_law 95 = .ok (.bipush 9, 2) := dk_16 9 (dk_at dksX9_law_4 3 rfl rfl)
theorem dX9_law_97 : decode cX9_law 97 = .ok (.goto 5, 3) := dk_167 0 5 (dk_at dksX9_law_4 5 rfl rfl)
theorem dX9_law_100 : decode cX9_law 100 = .ok (.bipush 10, 2) := dk_16 10 (dk_at dksX9_law_4 8 rfl rfl)
theorem dX9_law_102 : decode cX9_law 102 = .ok (.putfield 176, 3) := dk_181 0 176 (dk_at dksX9_law_4 10 rfl rfl)
theorem dX9_law_105 : decode cX9_law 105 = .ok (.aload_n 0, 1) := dk_42 (dk_at dksX9_law_4 13 rfl rfl)
theorem dX9_law_106 : decode cX9_law 106 = .ok (.invokevirtual 170, 3) := dk_182 0 170 (dk_at dksX9_law_4 14 rfl rfl)
theorem dX9_law_109 : decode cX9_law 109 = .ok (.aload_n 0, 1) := dk_42 (dk_at dksX9_law_4 17 rfl rfl)
theorem dX9_law_110 : decode cX9_law 110 = .ok (.aload_n 0, 1) := dk_42 (dk_at dksX9_law_4 18 rfl rfl)
theorem dX9_law_111 : decode cX9_law 111 = .ok (.getfield 131, 3) := dk_180 0 131 (dk_at dksX9_law_4 19 rfl rfl)
theorem dX9_law_114 : decode cX9_law 114 = .ok (.ifCond .ne 16, 3) := dk_154 0 16 (dk_at dksX9_law_5 0 rfl rfl)
theorem dX9_law_117 : decode cX9_law 117 = .ok (.aload_n 0, 1) := dk_42 (dk_at dksX9_law_5 3 rfl rfl)
theorem dX9_law_118 : decode cX9_law 118 = .ok (.getfield 135, 3) := dk_180 0 135 (dk_at dksX9_law_5 4 rfl rfl)
theorem dX9_law_121 : decode cX9_law 121 = .ok (.aload_n 0, 1) := dk_42 (dk_at dksX9_law_5 7 rfl rfl)
theorem dX9_law_122 : decode cX9_law 122 = .ok (.getfield 9, 3) := dk_180 0 9 (dk_at dksX9_law_5 8 rfl rfl)
theorem dX9_law_125 : decode cX9_law 125 = .ok (.iconst 1, 1) := dk_4 (dk_at dksX9_law_5 11 rfl rfl)
theorem dX9_law_126 : decode cX9_law 126 = .ok (.iaload, 1) := dk_46 (dk_at dksX9_law_5 12 rfl rfl)
theorem dX9_law_127 : decode cX9_law 127 = .ok (.if_icmp .ge 7, 3) := dk_162 0 7 (dk_at dksX9_law_5 13 rfl rfl)
theorem dX9_law_130 : decode cX9_law 130 = .ok (.iconst 1, 1) := dk_4 (dk_at dksX9_law_5 16 rfl rfl)
theorem dX9_law_131 : decode cX9_law 131 = .ok (.goto 4, 3) := dk_167 0 4 (dk_at dksX9_law_5 17 rfl rfl)
theorem dX9_law_134 : decode cX9_law 134 = .ok (.iconst 0, 1) := dk_3 (dk_at dksX9_law_5 20 rfl rfl)
theorem dX9_law_135 : decode cX9_law 135 = .ok (.putfield 131, 3) := dk_181 0 131 (dk_at dksX9_law_5 21 rfl rfl)
theorem dX9_law_138 : decode cX9_law 138 = .ok (.aload_n 0, 1) := dk_42 (dk_at dksX9_law_6 0 rfl rfl)
theorem dX9_law_139 : decode cX9_law 139 = .ok (.getfield 9, 3) := dk_180 0 9 (dk_at dksX9_law_6 1 rfl rfl)
theorem dX9_law_142 : decode cX9_law 142 = .ok (.iconst 1, 1) := dk_4 (dk_at dksX9_law_6 4 rfl rfl)
theorem dX9_law_143 : decode cX9_law 143 = .ok (.iconst 0, 1) := dk_3 (dk_at dksX9_law_6 5 rfl rfl)
theorem dX9_law_144 : decode cX9_law 144 = .ok (.iastore, 1) := dk_79 (dk_at dksX9_law_6 6 rfl rfl)
theorem dX9_law_145 : decode cX9_law 145 = .ok (.aload_n 0, 1) := dk_42 (dk_at dksX9_law_6 7 rfl rfl)
theorem dX9_law_146 : decode cX9_law 146 = .ok (.getfield 131, 3) := dk_180 0 131 (dk_at dksX9_law_6 8 rfl rfl)
theorem dX9_law_149 : decode cX9_law 149 = .ok (.ifCond .eq 11, 3) := dk_153 0 11 (dk_at dksX9_law_6 11 rfl rfl)
theorem dX9_law_152 : decode cX9_law 152 = .ok (.bipush (-10), 2) := dk_16 246 (dk_at dksX9_law_6 14 rfl rfl)
theorem dX9_law_154 : decode cX9_law 154 = .ok (.aload_n 0, 1) := dk_42 (dk_at dksX9_law_6 16 rfl rfl)
theorem dX9_law_155 : decode cX9_law 155 = .ok (.getfield 135, 3) := dk_180 0 135 (dk_at dksX9_law_6 17 rfl rfl)
theorem dX9_law_158 : decode cX9_law 158 = .ok (.isub, 1) := dk_100 (dk_at dksX9_law_6 20 rfl rfl)
theorem dX9_law_159 : decode cX9_law 159 = .ok (.ireturn, 1) := dk_172 (dk_at dksX9_law_6 21 rfl rfl)
theorem dX9_law_160 : decode cX9_law 160 = .ok (.aload_n 0, 1) := dk_42 (dk_at dksX9_law_6 22 rfl rfl)
theorem dX9_law_161 : decode cX9_law 161 = .ok (.getfield 9, 3) := dk_180 0 9 (dk_at dksX9_law_7 0 rfl rfl)
theorem dX9_law_164 : decode cX9_law 164 = .ok (.bipush 22, 2) := dk_16 22 (dk_at dksX9_law_7 3 rfl rfl)
theorem dX9_law_166 : decode cX9_law 166 = .ok (.iload_n 3, 1) := dk_29 (dk_at dksX9_law_7 5 rfl rfl)
theorem dX9_law_167 : decode cX9_law 167 = .ok (.iadd, 1) := dk_96 (dk_at dksX9_law_7 6 rfl rfl)
theorem dX9_law_168 : decode cX9_law 168 = .ok (.iload_n 1, 1) := dk_27 (dk_at dksX9_law_7 7 rfl rfl)
theorem dX9_law_169 : decode cX9_law 169 = .ok (.iastore, 1) := dk_79 (dk_at dksX9_law_7 8 rfl rfl)
theorem dX9_law_170 : decode cX9_law 170 = .ok (.aload_n 0, 1) := dk_42 (dk_at dksX9_law_7 9 rfl rfl)
theorem dX9_law_171 : decode cX9_law 171 = .ok (.getfield 9, 3) := dk_180 0 9 (dk_at dksX9_law_7 10 rfl rfl)
theorem dX9_law_174 : decode cX9_law 174 = .ok (.bipush 30, 2) := dk_16 30 (dk_at dksX9_law_7 13 rfl rfl)
theorem dX9_law_176 : decode cX9_law 176 = .ok (.iload_n 3, 1) := dk_29 (dk_at dksX9_law_7 15 rfl rfl)
theorem dX9_law_177 : decode cX9_law 177 = .ok (.iadd, 1) := dk_96 (dk_at dksX9_law_7 16 rfl rfl)
theorem dX9_law_178 : decode cX9_law 178 = .ok (.iload_n 2, 1) := dk_28 (dk_at dksX9_law_7 17 rfl rfl)
theorem dX9_law_179 : decode cX9_law 179 = .ok (.iastore, 1) := dk_79 (dk_at dksX9_law_7 18 rfl rfl)
theorem dX9_law_180 : decode cX9_law 180 = .ok (.aload_n 0, 1) := dk_42 (dk_at dksX9_law_7 19 rfl rfl)
theorem dX9_law_181 : decode cX9_law 181 = .ok (.getfield 19, 3) := dk_180 0 19 (dk_at dksX9_law_7 20 rfl rfl)
theorem dX9_law_184 : decode cX9_law 184 = .ok (.iload_n 1, 1) := dk_27 (dk_at dksX9_law_7 23 rfl rfl)
theorem dX9_law_185 : decode cX9_law 185 = .ok (.iaload, 1) := dk_46 (dk_at dksX9_law_8 0 rfl rfl)
theorem dX9_law_186 : decode cX9_law 186 = .ok (.istore 4, 2) := dk_54 4 (dk_at dksX9_law_8 1 rfl rfl)
theorem dX9_law_188 : decode cX9_law 188 = .ok (.iload 4, 2) := dk_21 4 (dk_at dksX9_law_8 3 rfl rfl)
theorem dX9_law_190 : decode cX9_law 190 = .ok (.aload_n 0, 1) := dk_42 (dk_at dksX9_law_8 5 rfl rfl)
theorem dX9_law_191 : decode cX9_law 191 = .ok (.getfield 19, 3) := dk_180 0 19 (dk_at dksX9_law_8 6 rfl rfl)
theorem dX9_law_194 : decode cX9_law 194 = .ok (.iload_n 1, 1) := dk_27 (dk_at dksX9_law_8 9 rfl rfl)
theorem dX9_law_195 : decode cX9_law 195 = .ok (.iconst 1, 1) := dk_4 (dk_at dksX9_law_8 10 rfl rfl)
theorem dX9_law_196 : decode cX9_law 196 = .ok (.iadd, 1) := dk_96 (dk_at dksX9_law_8 11 rfl rfl)
theorem dX9_law_197 : decode cX9_law 197 = .ok (.iaload, 1) := dk_46 (dk_at dksX9_law_8 12 rfl rfl)
theorem dX9_law_198 : decode cX9_law 198 = .ok (.if_icmp .ge 38, 3) := dk_162 0 38 (dk_at dksX9_law_8 13 rfl rfl)
theorem dX9_law_201 : decode cX9_law 201 = .ok (.aload_n 0, 1) := dk_42 (dk_at dksX9_law_8 16 rfl rfl)
theorem dX9_law_202 : decode cX9_law 202 = .ok (.getfield 9, 3) := dk_180 0 9 (dk_at dksX9_law_8 17 rfl rfl)
theorem dX9_law_205 : decode cX9_law 205 = .ok (.bipush 110, 2) := dk_16 110 (dk_at dksX9_law_8 20 rfl rfl)
theorem dX9_law_207 : decode cX9_law 207 = .ok (.bipush 32, 2) := dk_16 32 (dk_at dksX9_law_8 22 rfl rfl)
theorem dX9_law_209 : decode cX9_law 209 = .ok (.iload_n 3, 1) := dk_29 (dk_at dksX9_law_9 0 rfl rfl)
theorem dX9_law_210 : decode cX9_law 210 = .ok (.imul, 1) := dk_104 (dk_at dksX9_law_9 1 rfl rfl)
theorem dX9_law_211 : decode cX9_law 211 = .ok (.iadd, 1) := dk_96 (dk_at dksX9_law_9 2 rfl rfl)
theorem dX9_law_212 : decode cX9_law 212 = .ok (.iload 4, 2) := dk_21 4 (dk_at dksX9_law_9 3 rfl rfl)
theorem dX9_law_214 : decode cX9_law 214 = .ok (.iadd, 1) := dk_96 (dk_at dksX9_law_9 5 rfl rfl)
theorem dX9_law_215 : decode cX9_law 215 = .ok (.aload_n 0, 1) := dk_42 (dk_at dksX9_law_9 6 rfl rfl)
theorem dX9_law_216 : decode cX9_law 216 = .ok (.getfield 19, 3) := dk_180 0 19 (dk_at dksX9_law_9 7 rfl rfl)
theorem dX9_law_219 : decode cX9_law 219 = .ok (.iload_n 1, 1) := dk_27 (dk_at dksX9_law_9 10 rfl rfl)
theorem dX9_law_220 : decode cX9_law 220 = .ok (.iaload, 1) := dk_46 (dk_at dksX9_law_9 11 rfl rfl)
theorem dX9_law_221 : decode cX9_law 221 = .ok (.isub, 1) := dk_100 (dk_at dksX9_law_9 12 rfl rfl)
theorem dX9_law_222 : decode cX9_law 222 = .ok (.aload_n 0, 1) := dk_42 (dk_at dksX9_law_9 13 rfl rfl)
theorem dX9_law_223 : decode cX9_law 223 = .ok (.iload_n 1, 1) := dk_27 (dk_at dksX9_law_9 14 rfl rfl)
theorem dX9_law_224 : decode cX9_law 224 = .ok (.iload 4, 2) := dk_21 4 (dk_at dksX9_law_9 15 rfl rfl)
theorem dX9_law_226 : decode cX9_law 226 = .ok (.invokevirtual 201, 3) := dk_182 0 201 (dk_at dksX9_law_9 17 rfl rfl)
theorem dX9_law_229 : decode cX9_law 229 = .ok (.iastore, 1) := dk_79 (dk_at dksX9_law_9 20 rfl rfl)
theorem dX9_law_230 : decode cX9_law 230 = .ok (.iinc 4 1, 3) := dk_132 4 1 (dk_at dksX9_law_9 21 rfl rfl)
theorem dX9_law_233 : decode cX9_law 233 = .ok (.goto (-45), 3) := dk_167 255 211 (dk_at dksX9_law_10 0 rfl rfl)
theorem dX9_law_236 : decode cX9_law 236 = .ok (.aload_n 0, 1) := dk_42 (dk_at dksX9_law_10 3 rfl rfl)
theorem dX9_law_237 : decode cX9_law 237 = .ok (.getfield 9, 3) := dk_180 0 9 (dk_at dksX9_law_10 4 rfl rfl)
theorem dX9_law_240 : decode cX9_law 240 = .ok (.iconst 0, 1) := dk_3 (dk_at dksX9_law_10 7 rfl rfl)
theorem dX9_law_241 : decode cX9_law 241 = .ok (.dup2, 1) := dk_92 (dk_at dksX9_law_10 8 rfl rfl)
theorem dX9_law_242 : decode cX9_law 242 = .ok (.iaload, 1) := dk_46 (dk_at dksX9_law_10 9 rfl rfl)
theorem dX9_law_243 : decode cX9_law 243 = .ok (.iconst 1, 1) := dk_4 (dk_at dksX9_law_10 10 rfl rfl)
theorem dX9_law_244 : decode cX9_law 244 = .ok (.iadd, 1) := dk_96 (dk_at dksX9_law_10 11 rfl rfl)
theorem dX9_law_245 : decode cX9_law 245 = .ok (.iastore, 1) := dk_79 (dk_at dksX9_law_10 12 rfl rfl)
theorem dX9_law_246 : decode cX9_law 246 = .ok (.iload_n 3, 1) := dk_29 (dk_at dksX9_law_10 13 rfl rfl)
theorem dX9_law_247 : decode cX9_law 247 = .ok (.ireturn, 1) := dk_172 (dk_at dksX9_law_10 14 rfl rfl)
abbrev cX9_either : ByteArray := prog_33_method_29_code
def yX9_either : MethodName := ⟨RX9, "either", "()V"⟩
def dkwX9_either_1 : List UInt8 := [167, 255, 236, 177]
abbrev dktX9_either_1 : List UInt8 := dkwX9_either_1 ++ []
def dkwX9_either_0 : List UInt8 := [42, 182, 0, 145, 42, 16, 124, 182, 0, 148, 153, 0, 17, 42, 182, 0, 145, 42, 17, 78, 32, 182, 0, 151]
abbrev dktX9_either_0 : List UInt8 := dkwX9_either_0 ++ dktX9_either_1
theorem dksX9_either_0 : cX9_either.data.toList.drop 0 = dktX9_either_0 := by decide +kernel
theorem dksX9_either_1 : cX9_either.data.toList.drop 24 = dktX9_either_1 := dk_seg dksX9_either_0 24 rfl rfl
theorem dX9_either_0 : decode cX9_either 0 = .ok (.aload_n 0, 1) := dk_42 (dk_at dksX9_either_0 0 rfl rfl)
theorem dX9_either_1 : decode cX9_either 1 = .ok (.invokevirtual 145, 3) := dk_182 0 145 (dk_at dksX9_either_0 1 rfl rfl)
theorem dX9_either_4 : decode cX9_either 4 = .ok (.aload_n 0, 1) := dk_42 (dk_at dksX9_either_0 4 rfl rfl)
theorem dX9_either_5 : decode cX9_either 5 = .ok (.bipush 124, 2) := dk_16 124 (dk_at dksX9_either_0 5 rfl rfl)
theorem dX9_either_7 : decode cX9_either 7 = .ok (.invokevirtual 148, 3) := dk_182 0 148 (dk_at dksX9_either_0 7 rfl rfl)
theorem dX9_either_10 : decode cX9_either 10 = .ok (.ifCond .eq 17, 3) := dk_153 0 17 (dk_at dksX9_either_0 10 rfl rfl)
theorem dX9_either_13 : decode cX9_either 13 = .ok (.aload_n 0, 1) := dk_42 (dk_at dksX9_either_0 13 rfl rfl)
theorem dX9_either_14 : decode cX9_either 14 = .ok (.invokevirtual 145, 3) := dk_182 0 145 (dk_at dksX9_either_0 14 rfl rfl)
theorem dX9_either_17 : decode cX9_either 17 = .ok (.aload_n 0, 1) := dk_42 (dk_at dksX9_either_0 17 rfl rfl)
theorem dX9_either_18 : decode cX9_either 18 = .ok (.sipush 20000, 3) := dk_17 78 32 (dk_at dksX9_either_0 18 rfl rfl)
theorem dX9_either_21 : decode cX9_either 21 = .ok (.invokevirtual 151, 3) := dk_182 0 151 (dk_at dksX9_either_0 21 rfl rfl)
theorem dX9_either_24 : decode cX9_either 24 = .ok (.goto (-20), 3) := dk_167 255 236 (dk_at dksX9_either_1 0 rfl rfl)
theorem dX9_either_27 : decode cX9_either 27 = .ok (.return_, 1) := dk_177 (dk_at dksX9_either_1 3 rfl rfl)
abbrev cX9_both : ByteArray := prog_33_method_30_code
def yX9_both : MethodName := ⟨RX9, "both", "()V"⟩
def dkwX9_both_1 : List UInt8 := [167, 255, 236, 177]
abbrev dktX9_both_1 : List UInt8 := dkwX9_both_1 ++ []
def dkwX9_both_0 : List UInt8 := [42, 182, 0, 155, 42, 16, 38, 182, 0, 148, 153, 0, 17, 42, 182, 0, 155, 42, 17, 78, 33, 182, 0, 151]
abbrev dktX9_both_0 : List UInt8 := dkwX9_both_0 ++ dktX9_both_1
theorem dksX9_both_0 : cX9_both.data.toList.drop 0 = dktX9_both_0 := by decide +kernel
theorem dksX9_both_1 : cX9_both.data.toList.drop 24 = dktX9_both_1 := dk_seg dksX9_both_0 24 rfl rfl
theorem dX9_both_0 : decode cX9_both 0 = .ok (.aload_n 0, 1) := dk_42 (dk_at dksX9_both_0 0 rfl rfl)
theorem dX9_both_1 : decode cX9_both 1 = .ok (.invokevirtual 155, 3) := dk_182 0 155 (dk_at dksX9_both_0 1 rfl rfl)
theorem dX9_both_4 : decode cX9_both 4 = .ok (.aload_n 0, 1) := dk_42 (dk_at dksX9_both_0 4 rfl rfl)
theorem dX9_both_5 : decode cX9_both 5 = .ok (.bipush 38, 2) := dk_16 38 (dk_at dksX9_both_0 5 rfl rfl)
theorem dX9_both_7 : decode cX9_both 7 = .ok (.invokevirtual 148, 3) := dk_182 0 148 (dk_at dksX9_both_0 7 rfl rfl)
theorem dX9_both_10 : decode cX9_both 10 = .ok (.ifCond .eq 17, 3) := dk_153 0 17 (dk_at dksX9_both_0 10 rfl rfl)
theorem dX9_both_13 : decode cX9_both 13 = .ok (.aload_n 0, 1) := dk_42 (dk_at dksX9_both_0 13 rfl rfl)
theorem dX9_both_14 : decode cX9_both 14 = .ok (.invokevirtual 155, 3) := dk_182 0 155 (dk_at dksX9_both_0 14 rfl rfl)
theorem dX9_both_17 : decode cX9_both 17 = .ok (.aload_n 0, 1) := dk_42 (dk_at dksX9_both_0 17 rfl rfl)
theorem dX9_both_18 : decode cX9_both 18 = .ok (.sipush 20001, 3) := dk_17 78 33 (dk_at dksX9_both_0 18 rfl rfl)
theorem dX9_both_21 : decode cX9_both 21 = .ok (.invokevirtual 151, 3) := dk_182 0 151 (dk_at dksX9_both_0 21 rfl rfl)
theorem dX9_both_24 : decode cX9_both 24 = .ok (.goto (-20), 3) := dk_167 255 236 (dk_at dksX9_both_1 0 rfl rfl)
theorem dX9_both_27 : decode cX9_both 27 = .ok (.return_, 1) := dk_177 (dk_at dksX9_both_1 3 rfl rfl)
abbrev cX9_compared : ByteArray := prog_33_method_31_code
def yX9_compared : MethodName := ⟨RX9, "compared", "()V"⟩
def dkwX9_compared_2 : List UInt8 := [167, 0, 4, 3, 60, 27, 158, 0, 12, 42, 182, 0, 158, 42, 27, 182, 0, 151, 177]
abbrev dktX9_compared_2 : List UInt8 := dkwX9_compared_2 ++ []
def dkwX9_compared_1 : List UInt8 := [182, 0, 148, 153, 0, 9, 17, 78, 35, 167, 0, 19, 42, 16, 62, 182, 0, 148, 153, 0, 9, 17, 78, 36]
abbrev dktX9_compared_1 : List UInt8 := dkwX9_compared_1 ++ dktX9_compared_2
def dkwX9_compared_0 : List UInt8 := [42, 182, 0, 158, 42, 16, 60, 182, 0, 148, 153, 0, 9, 17, 78, 34, 167, 0, 34, 42, 16, 61]
abbrev dktX9_compared_0 : List UInt8 := dkwX9_compared_0 ++ dktX9_compared_1
theorem dksX9_compared_0 : cX9_compared.data.toList.drop 0 = dktX9_compared_0 := by decide +kernel
theorem dksX9_compared_1 : cX9_compared.data.toList.drop 22 = dktX9_compared_1 := dk_seg dksX9_compared_0 22 rfl rfl
theorem dksX9_compared_2 : cX9_compared.data.toList.drop 46 = dktX9_compared_2 := dk_seg dksX9_compared_1 24 rfl rfl
theorem dX9_compared_0 : decode cX9_compared 0 = .ok (.aload_n 0, 1) := dk_42 (dk_at dksX9_compared_0 0 rfl rfl)
theorem dX9_compared_1 : decode cX9_compared 1 = .ok (.invokevirtual 158, 3) := dk_182 0 158 (dk_at dksX9_compared_0 1 rfl rfl)
theorem dX9_compared_4 : decode cX9_compared 4 = .ok (.aload_n 0, 1) := dk_42 (dk_at dksX9_compared_0 4 rfl rfl)
theorem dX9_compared_5 : decode cX9_compared 5 = .ok (.bipush 60, 2) := dk_16 60 (dk_at dksX9_compared_0 5 rfl rfl)
theorem dX9_compared_7 : decode cX9_compared 7 = .ok (.invokevirtual 148, 3) := dk_182 0 148 (dk_at dksX9_compared_0 7 rfl rfl)
theorem dX9_compared_10 : decode cX9_compared 10 = .ok (.ifCond .eq 9, 3) := dk_153 0 9 (dk_at dksX9_compared_0 10 rfl rfl)
theorem dX9_compared_13 : decode cX9_compared 13 = .ok (.sipush 20002, 3) := dk_17 78 34 (dk_at dksX9_compared_0 13 rfl rfl)
theorem dX9_compared_16 : decode cX9_compared 16 = .ok (.goto 34, 3) := dk_167 0 34 (dk_at dksX9_compared_0 16 rfl rfl)
theorem dX9_compared_19 : decode cX9_compared 19 = .ok (.aload_n 0, 1) := dk_42 (dk_at dksX9_compared_0 19 rfl rfl)
theorem dX9_compared_20 : decode cX9_compared 20 = .ok (.bipush 61, 2) := dk_16 61 (dk_at dksX9_compared_0 20 rfl rfl)
theorem dX9_compared_22 : decode cX9_compared 22 = .ok (.invokevirtual 148, 3) := dk_182 0 148 (dk_at dksX9_compared_1 0 rfl rfl)
theorem dX9_compared_25 : decode cX9_compared 25 = .ok (.ifCond .eq 9, 3) := dk_153 0 9 (dk_at dksX9_compared_1 3 rfl rfl)
theorem dX9_compared_28 : decode cX9_compared 28 = .ok (.sipush 20003, 3) := dk_17 78 35 (dk_at dksX9_compared_1 6 rfl rfl)
theorem dX9_compared_31 : decode cX9_compared 31 = .ok (.goto 19, 3) := dk_167 0 19 (dk_at dksX9_compared_1 9 rfl rfl)
theorem dX9_compared_34 : decode cX9_compared 34 = .ok (.aload_n 0, 1) := dk_42 (dk_at dksX9_compared_1 12 rfl rfl)
theorem dX9_compared_35 : decode cX9_compared 35 = .ok (.bipush 62, 2) := dk_16 62 (dk_at dksX9_compared_1 13 rfl rfl)
theorem dX9_compared_37 : decode cX9_compared 37 = .ok (.invokevirtual 148, 3) := dk_182 0 148 (dk_at dksX9_compared_1 15 rfl rfl)
theorem dX9_compared_40 : decode cX9_compared 40 = .ok (.ifCond .eq 9, 3) := dk_153 0 9 (dk_at dksX9_compared_1 18 rfl rfl)
theorem dX9_compared_43 : decode cX9_compared 43 = .ok (.sipush 20004, 3) := dk_17 78 36 (dk_at dksX9_compared_1 21 rfl rfl)
theorem dX9_compared_46 : decode cX9_compared 46 = .ok (.goto 4, 3) := dk_167 0 4 (dk_at dksX9_compared_2 0 rfl rfl)
theorem dX9_compared_49 : decode cX9_compared 49 = .ok (.iconst 0, 1) := dk_3 (dk_at dksX9_compared_2 3 rfl rfl)
theorem dX9_compared_50 : decode cX9_compared 50 = .ok (.istore_n 1, 1) := dk_60 (dk_at dksX9_compared_2 4 rfl rfl)
theorem dX9_compared_51 : decode cX9_compared 51 = .ok (.iload_n 1, 1) := dk_27 (dk_at dksX9_compared_2 5 rfl rfl)
theorem dX9_compared_52 : decode cX9_compared 52 = .ok (.ifCond .le 12, 3) := dk_158 0 12 (dk_at dksX9_compared_2 6 rfl rfl)
theorem dX9_compared_55 : decode cX9_compared 55 = .ok (.aload_n 0, 1) := dk_42 (dk_at dksX9_compared_2 9 rfl rfl)
theorem dX9_compared_56 : decode cX9_compared 56 = .ok (.invokevirtual 158, 3) := dk_182 0 158 (dk_at dksX9_compared_2 10 rfl rfl)
theorem dX9_compared_59 : decode cX9_compared 59 = .ok (.aload_n 0, 1) := dk_42 (dk_at dksX9_compared_2 13 rfl rfl)
theorem dX9_compared_60 : decode cX9_compared 60 = .ok (.iload_n 1, 1) := dk_27 (dk_at dksX9_compared_2 14 rfl rfl)
theorem dX9_compared_61 : decode cX9_compared 61 = .ok (.invokevirtual 151, 3) := dk_182 0 151 (dk_at dksX9_compared_2 15 rfl rfl)
theorem dX9_compared_64 : decode cX9_compared 64 = .ok (.return_, 1) := dk_177 (dk_at dksX9_compared_2 18 rfl rfl)
abbrev cX9_sum : ByteArray := prog_33_method_32_code
def yX9_sum : MethodName := ⟨RX9, "sum", "()V"⟩
def dkwX9_sum_3 : List UInt8 := [153, 0, 9, 17, 78, 38, 167, 0, 4, 3, 60, 167, 255, 211, 177]
abbrev dktX9_sum_3 : List UInt8 := dkwX9_sum_3 ++ []
def dkwX9_sum_2 : List UInt8 := [182, 0, 151, 42, 16, 43, 182, 0, 148, 153, 0, 9, 17, 78, 37, 167, 0, 19, 42, 16, 45, 182, 0, 148]
abbrev dktX9_sum_2 : List UInt8 := dkwX9_sum_2 ++ dktX9_sum_3
def dkwX9_sum_1 : List UInt8 := [182, 0, 148, 153, 0, 9, 17, 78, 38, 167, 0, 4, 3, 60, 27, 158, 0, 47, 42, 182, 0, 161, 42, 27]
abbrev dktX9_sum_1 : List UInt8 := dkwX9_sum_1 ++ dktX9_sum_2
def dkwX9_sum_0 : List UInt8 := [42, 182, 0, 161, 42, 16, 43, 182, 0, 148, 153, 0, 9, 17, 78, 37, 167, 0, 19, 42, 16, 45]
abbrev dktX9_sum_0 : List UInt8 := dkwX9_sum_0 ++ dktX9_sum_1
theorem dksX9_sum_0 : cX9_sum.data.toList.drop 0 = dktX9_sum_0 := by decide +kernel
theorem dksX9_sum_1 : cX9_sum.data.toList.drop 22 = dktX9_sum_1 := dk_seg dksX9_sum_0 22 rfl rfl
theorem dksX9_sum_2 : cX9_sum.data.toList.drop 46 = dktX9_sum_2 := dk_seg dksX9_sum_1 24 rfl rfl
theorem dksX9_sum_3 : cX9_sum.data.toList.drop 70 = dktX9_sum_3 := dk_seg dksX9_sum_2 24 rfl rfl
theorem dX9_sum_0 : decode cX9_sum 0 = .ok (.aload_n 0, 1) := dk_42 (dk_at dksX9_sum_0 0 rfl rfl)
theorem dX9_sum_1 : decode cX9_sum 1 = .ok (.invokevirtual 161, 3) := dk_182 0 161 (dk_at dksX9_sum_0 1 rfl rfl)
theorem dX9_sum_4 : decode cX9_sum 4 = .ok (.aload_n 0, 1) := dk_42 (dk_at dksX9_sum_0 4 rfl rfl)
theorem dX9_sum_5 : decode cX9_sum 5 = .ok (.bipush 43, 2) := dk_16 43 (dk_at dksX9_sum_0 5 rfl rfl)
theorem dX9_sum_7 : decode cX9_sum 7 = .ok (.invokevirtual 148, 3) := dk_182 0 148 (dk_at dksX9_sum_0 7 rfl rfl)
theorem dX9_sum_10 : decode cX9_sum 10 = .ok (.ifCond .eq 9, 3) := dk_153 0 9 (dk_at dksX9_sum_0 10 rfl rfl)
theorem dX9_sum_13 : decode cX9_sum 13 = .ok (.sipush 20005, 3) := dk_17 78 37 (dk_at dksX9_sum_0 13 rfl rfl)
theorem dX9_sum_16 : decode cX9_sum 16 = .ok (.goto 19, 3) := dk_167 0 19 (dk_at dksX9_sum_0 16 rfl rfl)
theorem dX9_sum_19 : decode cX9_sum 19 = .ok (.aload_n 0, 1) := dk_42 (dk_at dksX9_sum_0 19 rfl rfl)
theorem dX9_sum_20 : decode cX9_sum 20 = .ok (.bipush 45, 2) := dk_16 45 (dk_at dksX9_sum_0 20 rfl rfl)
theorem dX9_sum_22 : decode cX9_sum 22 = .ok (.invokevirtual 148, 3) := dk_182 0 148 (dk_at dksX9_sum_1 0 rfl rfl)
theorem dX9_sum_25 : decode cX9_sum 25 = .ok (.ifCond .eq 9, 3) := dk_153 0 9 (dk_at dksX9_sum_1 3 rfl rfl)
theorem dX9_sum_28 : decode cX9_sum 28 = .ok (.sipush 20006, 3) := dk_17 78 38 (dk_at dksX9_sum_1 6 rfl rfl)
theorem dX9_sum_31 : decode cX9_sum 31 = .ok (.goto 4, 3) := dk_167 0 4 (dk_at dksX9_sum_1 9 rfl rfl)
theorem dX9_sum_34 : decode cX9_sum 34 = .ok (.iconst 0, 1) := dk_3 (dk_at dksX9_sum_1 12 rfl rfl)
theorem dX9_sum_35 : decode cX9_sum 35 = .ok (.istore_n 1, 1) := dk_60 (dk_at dksX9_sum_1 13 rfl rfl)
theorem dX9_sum_36 : decode cX9_sum 36 = .ok (.iload_n 1, 1) := dk_27 (dk_at dksX9_sum_1 14 rfl rfl)
theorem dX9_sum_37 : decode cX9_sum 37 = .ok (.ifCond .le 47, 3) := dk_158 0 47 (dk_at dksX9_sum_1 15 rfl rfl)
theorem dX9_sum_40 : decode cX9_sum 40 = .ok (.aload_n 0, 1) := dk_42 (dk_at dksX9_sum_1 18 rfl rfl)
theorem dX9_sum_41 : decode cX9_sum 41 = .ok (.invokevirtual 161, 3) := dk_182 0 161 (dk_at dksX9_sum_1 19 rfl rfl)
theorem dX9_sum_44 : decode cX9_sum 44 = .ok (.aload_n 0, 1) := dk_42 (dk_at dksX9_sum_1 22 rfl rfl)
theorem dX9_sum_45 : decode cX9_sum 45 = .ok (.iload_n 1, 1) := dk_27 (dk_at dksX9_sum_1 23 rfl rfl)
theorem dX9_sum_46 : decode cX9_sum 46 = .ok (.invokevirtual 151, 3) := dk_182 0 151 (dk_at dksX9_sum_2 0 rfl rfl)
theorem dX9_sum_49 : decode cX9_sum 49 = .ok (.aload_n 0, 1) := dk_42 (dk_at dksX9_sum_2 3 rfl rfl)
theorem dX9_sum_50 : decode cX9_sum 50 = .ok (.bipush 43, 2) := dk_16 43 (dk_at dksX9_sum_2 4 rfl rfl)
theorem dX9_sum_52 : decode cX9_sum 52 = .ok (.invokevirtual 148, 3) := dk_182 0 148 (dk_at dksX9_sum_2 6 rfl rfl)
theorem dX9_sum_55 : decode cX9_sum 55 = .ok (.ifCond .eq 9, 3) := dk_153 0 9 (dk_at dksX9_sum_2 9 rfl rfl)
theorem dX9_sum_58 : decode cX9_sum 58 = .ok (.sipush 20005, 3) := dk_17 78 37 (dk_at dksX9_sum_2 12 rfl rfl)
theorem dX9_sum_61 : decode cX9_sum 61 = .ok (.goto 19, 3) := dk_167 0 19 (dk_at dksX9_sum_2 15 rfl rfl)
theorem dX9_sum_64 : decode cX9_sum 64 = .ok (.aload_n 0, 1) := dk_42 (dk_at dksX9_sum_2 18 rfl rfl)
theorem dX9_sum_65 : decode cX9_sum 65 = .ok (.bipush 45, 2) := dk_16 45 (dk_at dksX9_sum_2 19 rfl rfl)
theorem dX9_sum_67 : decode cX9_sum 67 = .ok (.invokevirtual 148, 3) := dk_182 0 148 (dk_at dksX9_sum_2 21 rfl rfl)
theorem dX9_sum_70 : decode cX9_sum 70 = .ok (.ifCond .eq 9, 3) := dk_153 0 9 (dk_at dksX9_sum_3 0 rfl rfl)
theorem dX9_sum_73 : decode cX9_sum 73 = .ok (.sipush 20006, 3) := dk_17 78 38 (dk_at dksX9_sum_3 3 rfl rfl)
theorem dX9_sum_76 : decode cX9_sum 76 = .ok (.goto 4, 3) := dk_167 0 4 (dk_at dksX9_sum_3 6 rfl rfl)
theorem dX9_sum_79 : decode cX9_sum 79 = .ok (.iconst 0, 1) := dk_3 (dk_at dksX9_sum_3 9 rfl rfl)
theorem dX9_sum_80 : decode cX9_sum 80 = .ok (.istore_n 1, 1) := dk_60 (dk_at dksX9_sum_3 10 rfl rfl)
theorem dX9_sum_81 : decode cX9_sum 81 = .ok (.goto (-45), 3) := dk_167 255 211 (dk_at dksX9_sum_3 11 rfl rfl)
theorem dX9_sum_84 : decode cX9_sum 84 = .ok (.return_, 1) := dk_177 (dk_at dksX9_sum_3 14 rfl rfl)
abbrev cX9_product : ByteArray := prog_33_method_33_code
def yX9_product : MethodName := ⟨RX9, "product", "()V"⟩
def dkwX9_product_4 : List UInt8 := [42, 16, 37, 182, 0, 148, 153, 0, 9, 17, 78, 41, 167, 0, 4, 3, 60, 167, 255, 196, 177]
abbrev dktX9_product_4 : List UInt8 := dkwX9_product_4 ++ []
def dkwX9_product_3 : List UInt8 := [153, 0, 9, 17, 78, 39, 167, 0, 34, 42, 16, 47, 182, 0, 148, 153, 0, 9, 17, 78, 40, 167, 0, 19]
abbrev dktX9_product_3 : List UInt8 := dkwX9_product_3 ++ dktX9_product_4
def dkwX9_product_2 : List UInt8 := [167, 0, 4, 3, 60, 27, 158, 0, 62, 42, 182, 0, 164, 42, 27, 182, 0, 151, 42, 16, 42, 182, 0, 148]
abbrev dktX9_product_2 : List UInt8 := dkwX9_product_2 ++ dktX9_product_3
def dkwX9_product_1 : List UInt8 := [182, 0, 148, 153, 0, 9, 17, 78, 40, 167, 0, 19, 42, 16, 37, 182, 0, 148, 153, 0, 9, 17, 78, 41]
abbrev dktX9_product_1 : List UInt8 := dkwX9_product_1 ++ dktX9_product_2
def dkwX9_product_0 : List UInt8 := [42, 182, 0, 164, 42, 16, 42, 182, 0, 148, 153, 0, 9, 17, 78, 39, 167, 0, 34, 42, 16, 47]
abbrev dktX9_product_0 : List UInt8 := dkwX9_product_0 ++ dktX9_product_1
theorem dksX9_product_0 : cX9_product.data.toList.drop 0 = dktX9_product_0 := by decide +kernel
theorem dksX9_product_1 : cX9_product.data.toList.drop 22 = dktX9_product_1 := dk_seg dksX9_product_0 22 rfl rfl
theorem dksX9_product_2 : cX9_product.data.toList.drop 46 = dktX9_product_2 := dk_seg dksX9_product_1 24 rfl rfl
theorem dksX9_product_3 : cX9_product.data.toList.drop 70 = dktX9_product_3 := dk_seg dksX9_product_2 24 rfl rfl
theorem dksX9_product_4 : cX9_product.data.toList.drop 94 = dktX9_product_4 := dk_seg dksX9_product_3 24 rfl rfl
theorem dX9_product_0 : decode cX9_product 0 = .ok (.aload_n 0, 1) := dk_42 (dk_at dksX9_product_0 0 rfl rfl)
theorem dX9_product_1 : decode cX9_product 1 = .ok (.invokevirtual 164, 3) := dk_182 0 164 (dk_at dksX9_product_0 1 rfl rfl)
theorem dX9_product_4 : decode cX9_product 4 = .ok (.aload_n 0, 1) := dk_42 (dk_at dksX9_product_0 4 rfl rfl)
theorem dX9_product_5 : decode cX9_product 5 = .ok (.bipush 42, 2) := dk_16 42 (dk_at dksX9_product_0 5 rfl rfl)
theorem dX9_product_7 : decode cX9_product 7 = .ok (.invokevirtual 148, 3) := dk_182 0 148 (dk_at dksX9_product_0 7 rfl rfl)
theorem dX9_product_10 : decode cX9_product 10 = .ok (.ifCond .eq 9, 3) := dk_153 0 9 (dk_at dksX9_product_0 10 rfl rfl)
theorem dX9_product_13 : decode cX9_product 13 = .ok (.sipush 20007, 3) := dk_17 78 39 (dk_at dksX9_product_0 13 rfl rfl)
theorem dX9_product_16 : decode cX9_product 16 = .ok (.goto 34, 3) := dk_167 0 34 (dk_at dksX9_product_0 16 rfl rfl)
theorem dX9_product_19 : decode cX9_product 19 = .ok (.aload_n 0, 1) := dk_42 (dk_at dksX9_product_0 19 rfl rfl)
theorem dX9_product_20 : decode cX9_product 20 = .ok (.bipush 47, 2) := dk_16 47 (dk_at dksX9_product_0 20 rfl rfl)
theorem dX9_product_22 : decode cX9_product 22 = .ok (.invokevirtual 148, 3) := dk_182 0 148 (dk_at dksX9_product_1 0 rfl rfl)
theorem dX9_product_25 : decode cX9_product 25 = .ok (.ifCond .eq 9, 3) := dk_153 0 9 (dk_at dksX9_product_1 3 rfl rfl)
theorem dX9_product_28 : decode cX9_product 28 = .ok (.sipush 20008, 3) := dk_17 78 40 (dk_at dksX9_product_1 6 rfl rfl)
theorem dX9_product_31 : decode cX9_product 31 = .ok (.goto 19, 3) := dk_167 0 19 (dk_at dksX9_product_1 9 rfl rfl)
theorem dX9_product_34 : decode cX9_product 34 = .ok (.aload_n 0, 1) := dk_42 (dk_at dksX9_product_1 12 rfl rfl)
theorem dX9_product_35 : decode cX9_product 35 = .ok (.bipush 37, 2) := dk_16 37 (dk_at dksX9_product_1 13 rfl rfl)
theorem dX9_product_37 : decode cX9_product 37 = .ok (.invokevirtual 148, 3) := dk_182 0 148 (dk_at dksX9_product_1 15 rfl rfl)
theorem dX9_product_40 : decode cX9_product 40 = .ok (.ifCond .eq 9, 3) := dk_153 0 9 (dk_at dksX9_product_1 18 rfl rfl)
theorem dX9_product_43 : decode cX9_product 43 = .ok (.sipush 20009, 3) := dk_17 78 41 (dk_at dksX9_product_1 21 rfl rfl)
theorem dX9_product_46 : decode cX9_product 46 = .ok (.goto 4, 3) := dk_167 0 4 (dk_at dksX9_product_2 0 rfl rfl)
theorem dX9_product_49 : decode cX9_product 49 = .ok (.iconst 0, 1) := dk_3 (dk_at dksX9_product_2 3 rfl rfl)
theorem dX9_product_50 : decode cX9_product 50 = .ok (.istore_n 1, 1) := dk_60 (dk_at dksX9_product_2 4 rfl rfl)
theorem dX9_product_51 : decode cX9_product 51 = .ok (.iload_n 1, 1) := dk_27 (dk_at dksX9_product_2 5 rfl rfl)
theorem dX9_product_52 : decode cX9_product 52 = .ok (.ifCond .le 62, 3) := dk_158 0 62 (dk_at dksX9_product_2 6 rfl rfl)
theorem dX9_product_55 : decode cX9_product 55 = .ok (.aload_n 0, 1) := dk_42 (dk_at dksX9_product_2 9 rfl rfl)
theorem dX9_product_56 : decode cX9_product 56 = .ok (.invokevirtual 164, 3) := dk_182 0 164 (dk_at dksX9_product_2 10 rfl rfl)
theorem dX9_product_59 : decode cX9_product 59 = .ok (.aload_n 0, 1) := dk_42 (dk_at dksX9_product_2 13 rfl rfl)
theorem dX9_product_60 : decode cX9_product 60 = .ok (.iload_n 1, 1) := dk_27 (dk_at dksX9_product_2 14 rfl rfl)
theorem dX9_product_61 : decode cX9_product 61 = .ok (.invokevirtual 151, 3) := dk_182 0 151 (dk_at dksX9_product_2 15 rfl rfl)
theorem dX9_product_64 : decode cX9_product 64 = .ok (.aload_n 0, 1) := dk_42 (dk_at dksX9_product_2 18 rfl rfl)
theorem dX9_product_65 : decode cX9_product 65 = .ok (.bipush 42, 2) := dk_16 42 (dk_at dksX9_product_2 19 rfl rfl)
theorem dX9_product_67 : decode cX9_product 67 = .ok (.invokevirtual 148, 3) := dk_182 0 148 (dk_at dksX9_product_2 21 rfl rfl)
theorem dX9_product_70 : decode cX9_product 70 = .ok (.ifCond .eq 9, 3) := dk_153 0 9 (dk_at dksX9_product_3 0 rfl rfl)
theorem dX9_product_73 : decode cX9_product 73 = .ok (.sipush 20007, 3) := dk_17 78 39 (dk_at dksX9_product_3 3 rfl rfl)
theorem dX9_product_76 : decode cX9_product 76 = .ok (.goto 34, 3) := dk_167 0 34 (dk_at dksX9_product_3 6 rfl rfl)
theorem dX9_product_79 : decode cX9_product 79 = .ok (.aload_n 0, 1) := dk_42 (dk_at dksX9_product_3 9 rfl rfl)
theorem dX9_product_80 : decode cX9_product 80 = .ok (.bipush 47, 2) := dk_16 47 (dk_at dksX9_product_3 10 rfl rfl)
theorem dX9_product_82 : decode cX9_product 82 = .ok (.invokevirtual 148, 3) := dk_182 0 148 (dk_at dksX9_product_3 12 rfl rfl)
theorem dX9_product_85 : decode cX9_product 85 = .ok (.ifCond .eq 9, 3) := dk_153 0 9 (dk_at dksX9_product_3 15 rfl rfl)
theorem dX9_product_88 : decode cX9_product 88 = .ok (.sipush 20008, 3) := dk_17 78 40 (dk_at dksX9_product_3 18 rfl rfl)
theorem dX9_product_91 : decode cX9_product 91 = .ok (.goto 19, 3) := dk_167 0 19 (dk_at dksX9_product_3 21 rfl rfl)
theorem dX9_product_94 : decode cX9_product 94 = .ok (.aload_n 0, 1) := dk_42 (dk_at dksX9_product_4 0 rfl rfl)
theorem dX9_product_95 : decode cX9_product 95 = .ok (.bipush 37, 2) := dk_16 37 (dk_at dksX9_product_4 1 rfl rfl)
theorem dX9_product_97 : decode cX9_product 97 = .ok (.invokevirtual 148, 3) := dk_182 0 148 (dk_at dksX9_product_4 3 rfl rfl)
theorem dX9_product_100 : decode cX9_product 100 = .ok (.ifCond .eq 9, 3) := dk_153 0 9 (dk_at dksX9_product_4 6 rfl rfl)
theorem dX9_product_103 : decode cX9_product 103 = .ok (.sipush 20009, 3) := dk_17 78 41 (dk_at dksX9_product_4 9 rfl rfl)
theorem dX9_product_106 : decode cX9_product 106 = .ok (.goto 4, 3) := dk_167 0 4 (dk_at dksX9_product_4 12 rfl rfl)
theorem dX9_product_109 : decode cX9_product 109 = .ok (.iconst 0, 1) := dk_3 (dk_at dksX9_product_4 15 rfl rfl)
theorem dX9_product_110 : decode cX9_product 110 = .ok (.istore_n 1, 1) := dk_60 (dk_at dksX9_product_4 16 rfl rfl)
theorem dX9_product_111 : decode cX9_product 111 = .ok (.goto (-60), 3) := dk_167 255 196 (dk_at dksX9_product_4 17 rfl rfl)
theorem dX9_product_114 : decode cX9_product 114 = .ok (.return_, 1) := dk_177 (dk_at dksX9_product_4 20 rfl rfl)
abbrev cX9_one : ByteArray := prog_33_method_35_code
def yX9_one : MethodName := ⟨RX9, "one", "()V"⟩
def dkwX9_one_10 : List UInt8 := [154, 0, 22, 42, 17, 39, 16, 28, 96, 182, 0, 151, 42, 89, 180, 0, 135, 4, 96, 181, 0, 135, 177]
abbrev dktX9_one_10 : List UInt8 := dkwX9_one_10 ++ []
def dkwX9_one_9 : List UInt8 := [180, 0, 176, 4, 100, 184, 0, 94, 154, 0, 7, 4, 167, 0, 4, 3, 181, 0, 131, 42, 180, 0, 131]
abbrev dktX9_one_9 : List UInt8 := dkwX9_one_9 ++ dktX9_one_10
def dkwX9_one_8 : List UInt8 := [156, 0, 7, 2, 167, 0, 7, 27, 184, 0, 173, 61, 42, 42, 180, 0, 131, 154, 0, 17, 28, 3, 42]
abbrev dktX9_one_8 : List UInt8 := dkwX9_one_8 ++ dktX9_one_9
def dkwX9_one_7 : List UInt8 := [180, 0, 135, 4, 96, 181, 0, 135, 132, 3, 1, 167, 255, 211, 42, 28, 182, 0, 151, 167, 0, 72, 27]
abbrev dktX9_one_7 : List UInt8 := dkwX9_one_7 ++ dktX9_one_8
def dkwX9_one_6 : List UInt8 := [16, 57, 184, 0, 94, 153, 0, 32, 16, 10, 28, 104, 42, 182, 0, 138, 96, 16, 48, 100, 61, 42, 89]
abbrev dktX9_one_6 : List UInt8 := dkwX9_one_6 ++ dktX9_one_7
def dkwX9_one_5 : List UInt8 := [16, 57, 184, 0, 94, 153, 0, 63, 3, 61, 3, 62, 29, 7, 162, 0, 46, 42, 182, 0, 138, 16, 48]
abbrev dktX9_one_5 : List UInt8 := dkwX9_one_5 ++ dktX9_one_6
def dkwX9_one_4 : List UInt8 := [4, 167, 0, 4, 3, 181, 0, 131, 42, 89, 180, 0, 167, 4, 100, 181, 0, 167, 167, 0, 143, 27, 16, 48]
abbrev dktX9_one_4 : List UInt8 := dkwX9_one_4 ++ dktX9_one_5
def dkwX9_one_3 : List UInt8 := [42, 17, 78, 42, 182, 0, 151, 167, 0, 25, 42, 182, 0, 170, 42, 42, 16, 41, 182, 0, 148, 154, 0, 7]
abbrev dktX9_one_3 : List UInt8 := dkwX9_one_3 ++ dktX9_one_4
def dkwX9_one_2 : List UInt8 := [96, 181, 0, 167, 42, 89, 180, 0, 135, 4, 96, 181, 0, 135, 27, 16, 33, 160, 0, 17, 42, 182, 0, 164]
abbrev dktX9_one_2 : List UInt8 := dkwX9_one_2 ++ dktX9_one_3
def dkwX9_one_1 : List UInt8 := [160, 0, 7, 4, 167, 0, 4, 3, 181, 0, 131, 42, 180, 0, 131, 154, 0, 218, 42, 89, 180, 0, 167, 4]
abbrev dktX9_one_1 : List UInt8 := dkwX9_one_1 ++ dktX9_one_2
def dkwX9_one_0 : List UInt8 := [42, 182, 0, 138, 60, 27, 16, 33, 159, 0, 9, 27, 16, 40, 160, 0, 102, 42, 42, 180, 0, 167, 8]
abbrev dktX9_one_0 : List UInt8 := dkwX9_one_0 ++ dktX9_one_1
theorem dksX9_one_0 : cX9_one.data.toList.drop 0 = dktX9_one_0 := by decide +kernel
theorem dksX9_one_1 : cX9_one.data.toList.drop 23 = dktX9_one_1 := dk_seg dksX9_one_0 23 rfl rfl
theorem dksX9_one_2 : cX9_one.data.toList.drop 47 = dktX9_one_2 := dk_seg dksX9_one_1 24 rfl rfl
theorem dksX9_one_3 : cX9_one.data.toList.drop 71 = dktX9_one_3 := dk_seg dksX9_one_2 24 rfl rfl
theorem dksX9_one_4 : cX9_one.data.toList.drop 95 = dktX9_one_4 := dk_seg dksX9_one_3 24 rfl rfl
theorem dksX9_one_5 : cX9_one.data.toList.drop 119 = dktX9_one_5 := dk_seg dksX9_one_4 24 rfl rfl
theorem dksX9_one_6 : cX9_one.data.toList.drop 142 = dktX9_one_6 := dk_seg dksX9_one_5 23 rfl rfl
theorem dksX9_one_7 : cX9_one.data.toList.drop 165 = dktX9_one_7 := dk_seg dksX9_one_6 23 rfl rfl
theorem dksX9_one_8 : cX9_one.data.toList.drop 188 = dktX9_one_8 := dk_seg dksX9_one_7 23 rfl rfl
theorem dksX9_one_9 : cX9_one.data.toList.drop 211 = dktX9_one_9 := dk_seg dksX9_one_8 23 rfl rfl
theorem dksX9_one_10 : cX9_one.data.toList.drop 234 = dktX9_one_10 := dk_seg dksX9_one_9 23 rfl rfl
theorem dX9_one_0 : decode cX9_one 0 = .ok (.aload_n 0, 1) := dk_42 (dk_at dksX9_one_0 0 rfl rfl)
theorem dX9_one_1 : decode cX9_one 1 = .ok (.invokevirtual 138, 3) := dk_182 0 138 (dk_at dksX9_one_0 1 rfl rfl)
theorem dX9_one_4 : decode cX9_one 4 = .ok (.istore_n 1, 1) := dk_60 (dk_at dksX9_one_0 4 rfl rfl)
theorem dX9_one_5 : decode cX9_one 5 = .ok (.iload_n 1, 1) := dk_27 (dk_at dksX9_one_0 5 rfl rfl)
theorem dX9_one_6 : decode cX9_one 6 = .ok (.bipush 33, 2) := dk_16 33 (dk_at dksX9_one_0 6 rfl rfl)
theorem dX9_one_8 : decode cX9_one 8 = .ok (.if_icmp .eq 9, 3) := dk_159 0 9 (dk_at dksX9_one_0 8 rfl rfl)
theorem dX9_one_11 : decode cX9_one 11 = .ok (.iload_n 1, 1) := dk_27 (dk_at dksX9_one_0 11 rfl rfl)
theorem dX9_one_12 : decode cX9_one 12 = .ok (.bipush 40, 2) := dk_16 40 (dk_at dksX9_one_0 12 rfl rfl)
theorem dX9_one_14 : decode cX9_one 14 = .ok (.if_icmp .ne 102, 3) := dk_160 0 102 (dk_at dksX9_one_0 14 rfl rfl)
theorem dX9_one_17 : decode cX9_one 17 = .ok (.aload_n 0, 1) := dk_42 (dk_at dksX9_one_0 17 rfl rfl)
theorem dX9_one_18 : decode cX9_one 18 = .ok (.aload_n 0, 1) := dk_42 (dk_at dksX9_one_0 18 rfl rfl)
theorem dX9_one_19 : decode cX9_one 19 = .ok (.getfield 167, 3) := dk_180 0 167 (dk_at dksX9_one_0 19 rfl rfl)
theorem dX9_one_22 : decode cX9_one 22 = .ok (.iconst 5, 1) := dk_8 (dk_at dksX9_one_0 22 rfl rfl)
theorem dX9_one_23 : decode cX9_one 23 = .ok (.if_icmp .ne 7, 3) := dk_160 0 7 (dk_at dksX9_one_1 0 rfl rfl)
theorem dX9_one_26 : decode cX9_one 26 = .ok (.iconst 1, 1) := dk_4 (dk_at dksX9_one_1 3 rfl rfl)
theorem dX9_one_27 : decode cX9_one 27 = .ok (.goto 4, 3) := dk_167 0 4 (dk_at dksX9_one_1 4 rfl rfl)
theorem dX9_one_30 : decode cX9_one 30 = .ok (.iconst 0, 1) := dk_3 (dk_at dksX9_one_1 7 rfl rfl)
theorem dX9_one_31 : decode cX9_one 31 = .ok (.putfield 131, 3) := dk_181 0 131 (dk_at dksX9_one_1 8 rfl rfl)
theorem dX9_one_34 : decode cX9_one 34 = .ok (.aload_n 0, 1) := dk_42 (dk_at dksX9_one_1 11 rfl rfl)
theorem dX9_one_35 : decode cX9_one 35 = .ok (.getfield 131, 3) := dk_180 0 131 (dk_at dksX9_one_1 12 rfl rfl)
theorem dX9_one_38 : decode cX9_one 38 = .ok (.ifCond .ne 218, 3) := dk_154 0 218 (dk_at dksX9_one_1 15 rfl rfl)
theorem dX9_one_41 : decode cX9_one 41 = .ok (.aload_n 0, 1) := dk_42 (dk_at dksX9_one_1 18 rfl rfl)
theorem dX9_one_42 : decode cX9_one 42 = .ok (.dup, 1) := dk_89 (dk_at dksX9_one_1 19 rfl rfl)
theorem dX9_one_43 : decode cX9_one 43 = .ok (.getfield 167, 3) := dk_180 0 167 (dk_at dksX9_one_1 20 rfl rfl)
theorem dX9_one_46 : decode cX9_one 46 = .ok (.iconst 1, 1) := dk_4 (dk_at dksX9_one_1 23 rfl rfl)
theorem dX9_one_47 : decode cX9_one 47 = .ok (.iadd, 1) := dk_96 (dk_at dksX9_one_2 0 rfl rfl)
theorem dX9_one_48 : decode cX9_one 48 = .ok (.putfield 167, 3) := dk_181 0 167 (dk_at dksX9_one_2 1 rfl rfl)
theorem dX9_one_51 : decode cX9_one 51 = .ok (.aload_n 0, 1) := dk_42 (dk_at dksX9_one_2 4 rfl rfl)
theorem dX9_one_52 : decode cX9_one 52 = .ok (.dup, 1) := dk_89 (dk_at dksX9_one_2 5 rfl rfl)
theorem dX9_one_53 : decode cX9_one 53 = .ok (.getfield 135, 3) := dk_180 0 135 (dk_at dksX9_one_2 6 rfl rfl)
theorem dX9_one_56 : decode cX9_one 56 = .ok (.iconst 1, 1) := dk_4 (dk_at dksX9_one_2 9 rfl rfl)
theorem dX9_one_57 : decode cX9_one 57 = .ok (.iadd, 1) := dk_96 (dk_at dksX9_one_2 10 rfl rfl)
theorem dX9_one_58 : decode cX9_one 58 = .ok (.putfield 135, 3) := dk_181 0 135 (dk_at dksX9_one_2 11 rfl rfl)
theorem dX9_one_61 : decode cX9_one 61 = .ok (.iload_n 1, 1) := dk_27 (dk_at dksX9_one_2 14 rfl rfl)
theorem dX9_one_62 : decode cX9_one 62 = .ok (.bipush 33, 2) := dk_16 33 (dk_at dksX9_one_2 15 rfl rfl)
theorem dX9_one_64 : decode cX9_one 64 = .ok (.if_icmp .ne 17, 3) := dk_160 0 17 (dk_at dksX9_one_2 17 rfl rfl)
theorem dX9_one_67 : decode cX9_one 67 = .ok (.aload_n 0, 1) := dk_42 (dk_at dksX9_one_2 20 rfl rfl)
theorem dX9_one_68 : decode cX9_one 68 = .ok (.invokevirtual 164, 3) := dk_182 0 164 (dk_at dksX9_one_2 21 rfl rfl)
theorem dX9_one_71 : decode cX9_one 71 = .ok (.aload_n 0, 1) := dk_42 (dk_at dksX9_one_3 0 rfl rfl)
theorem dX9_one_72 : decode cX9_one 72 = .ok (.sipush 20010, 3) := dk_17 78 42 (dk_at dksX9_one_3 1 rfl rfl)
theorem dX9_one_75 : decode cX9_one 75 = .ok (.invokevirtual 151, 3) := dk_182 0 151 (dk_at dksX9_one_3 4 rfl rfl)
theorem dX9_one_78 : decode cX9_one 78 = .ok (.goto 25, 3) := dk_167 0 25 (dk_at dksX9_one_3 7 rfl rfl)
theorem dX9_one_81 : decode cX9_one 81 = .ok (.aload_n 0, 1) := dk_42 (dk_at dksX9_one_3 10 rfl rfl)
theorem dX9_one_82 : decode cX9_one 82 = .ok (.invokevirtual 170, 3) := dk_182 0 170 (dk_at dksX9_one_3 11 rfl rfl)
theorem dX9_one_85 : decode cX9_one 85 = .ok (.aload_n 0, 1) := dk_42 (dk_at dksX9_one_3 14 rfl rfl)
theorem dX9_one_86 : decode cX9_one 86 = .ok (.aload_n 0, 1) := dk_42 (dk_at dksX9_one_3 15 rfl rfl)
theorem dX9_one_87 : decode cX9_one 87 = .ok (.bipush 41, 2) := dk_16 41 (dk_at dksX9_one_3 16 rfl rfl)
theorem dX9_one_89 : decode cX9_one 89 = .ok (.invokevirtual 148, 3) := dk_182 0 148 (dk_at dksX9_one_3 18 rfl rfl)
theorem dX9_one_92 : decode cX9_one 92 = .ok (.ifCond .ne 7, 3) := dk_154 0 7 (dk_at dksX9_one_3 21 rfl rfl)
theorem dX9_one_95 : decode cX9_one 95 = .ok (.iconst 1, 1) := dk_4 (dk_at dksX9_one_4 0 rfl rfl)
theorem dX9_one_96 : decode cX9_one 96 = .ok (.goto 4, 3) := dk_167 0 4 (dk_at dksX9_one_4 1 rfl rfl)
theorem dX9_one_99 : decode cX9_one 99 = .ok (.iconst 0, 1) := dk_3 (dk_at dksX9_one_4 4 rfl rfl)
theorem dX9_one_100 : decode cX9_one 100 = .ok (.putfield 131, 3) := dk_181 0 131 (dk_at dksX9_one_4 5 rfl rfl)
theorem dX9_one_103 : decode cX9_one 103 = .ok (.aload_n 0, 1) := dk_42 (dk_at dksX9_one_4 8 rfl rfl)
theorem dX9_one_104 : decode cX9_one 104 = .ok (.dup, 1) := dk_89 (dk_at dksX9_one_4 9 rfl rfl)
theorem dX9_one_105 : decode cX9_one 105 = .ok (.getfield 167, 3) := dk_180 0 167 (dk_at dksX9_one_4 10 rfl rfl)
theorem dX9_one_108 : decode cX9_one 108 = .ok (.iconst 1, 1) := dk_4 (dk_at dksX9_one_4 13 rfl rfl)
theorem dX9_one_109 : decode cX9_one 109 = .ok (.isub, 1) := dk_100 (dk_at dksX9_one_4 14 rfl rfl)
theorem dX9_one_110 : decode cX9_one 110 = .ok (.putfield 167, 3) := dk_181 0 167 (dk_at dksX9_one_4 15 rfl rfl)
theorem dX9_one_113 : decode cX9_one 113 = .ok (.goto 143, 3) := dk_167 0 143 (dk_at dksX9_one_4 18 rfl rfl)
theorem dX9_one_116 : decode cX9_one 116 = .ok (.iload_n 1, 1) := dk_27 (dk_at dksX9_one_4 21 rfl rfl)
theorem dX9_one_117 : decode cX9_one 117 = .ok (.bipush 48, 2) := dk_16 48 (dk_at dksX9_one_4 22 rfl rfl)
theorem dX9_one_119 : decode cX9_one 119 = .ok (.bipush 57, 2) := dk_16 57 (dk_at dksX9_one_5 0 rfl rfl)
theorem dX9_one_121 : decode cX9_one 121 = .ok (.invokestatic 94, 3) := dk_184 0 94 (dk_at dksX9_one_5 2 rfl rfl)
theorem dX9_one_124 : decode cX9_one 124 = .ok (.ifCond .eq 63, 3) := dk_153 0 63 (dk_at dksX9_one_5 5 rfl rfl)
theorem dX9_one_127 : decode cX9_one 127 = .ok (.iconst 0, 1) := dk_3 (dk_at dksX9_one_5 8 rfl rfl)
theorem dX9_one_128 : decode cX9_one 128 = .ok (.istore_n 2, 1) := dk_61 (dk_at dksX9_one_5 9 rfl rfl)
theorem dX9_one_129 : decode cX9_one 129 = .ok (.iconst 0, 1) := dk_3 (dk_at dksX9_one_5 10 rfl rfl)
theorem dX9_one_130 : decode cX9_one 130 = .ok (.istore_n 3, 1) := dk_62 (dk_at dksX9_one_5 11 rfl rfl)
theorem dX9_one_131 : decode cX9_one 131 = .ok (.iload_n 3, 1) := dk_29 (dk_at dksX9_one_5 12 rfl rfl)
theorem dX9_one_132 : decode cX9_one 132 = .ok (.iconst 4, 1) := dk_7 (dk_at dksX9_one_5 13 rfl rfl)
theorem dX9_one_133 : decode cX9_one 133 = .ok (.if_icmp .ge 46, 3) := dk_162 0 46 (dk_at dksX9_one_5 14 rfl rfl)
theorem dX9_one_136 : decode cX9_one 136 = .ok (.aload_n 0, 1) := dk_42 (dk_at dksX9_one_5 17 rfl rfl)
theorem dX9_one_137 : decode cX9_one 137 = .ok (.invokevirtual 138, 3) := dk_182 0 138 (dk_at dksX9_one_5 18 rfl rfl)
theorem dX9_one_140 : decode cX9_one 140 = .ok (.bipush 48, 2) := dk_16 48 (dk_at dksX9_one_5 21 rfl rfl)
theorem dX9_one_142 : decode cX9_one 142 = .ok (.bipush 57, 2) := dk_16 57 (dk_at dksX9_one_6 0 rfl rfl)
theorem dX9_one_144 : decode cX9_one 144 = .ok (.invokestatic 94, 3) := dk_184 0 94 (dk_at dksX9_one_6 2 rfl rfl)
theorem dX9_one_147 : decode cX9_one 147 = .ok (.ifCond .eq 32, 3) := dk_153 0 32 (dk_at dksX9_one_6 5 rfl rfl)
theorem dX9_one_150 : decode cX9_one 150 = .ok (.bipush 10, 2) := dk_16 10 (dk_at dksX9_one_6 8 rfl rfl)
theorem dX9_one_152 : decode cX9_one 152 = .ok (.iload_n 2, 1) := dk_28 (dk_at dksX9_one_6 10 rfl rfl)
theorem dX9_one_153 : decode cX9_one 153 = .ok (.imul, 1) := dk_104 (dk_at dksX9_one_6 11 rfl rfl)
theorem dX9_one_154 : decode cX9_one 154 = .ok (.aload_n 0, 1) := dk_42 (dk_at dksX9_one_6 12 rfl rfl)
theorem dX9_one_155 : decode cX9_one 155 = .ok (.invokevirtual 138, 3) := dk_182 0 138 (dk_at dksX9_one_6 13 rfl rfl)
theorem dX9_one_158 : decode cX9_one 158 = .ok (.iadd, 1) := dk_96 (dk_at dksX9_one_6 16 rfl rfl)
theorem dX9_one_159 : decode cX9_one 159 = .ok (.bipush 48, 2) := dk_16 48 (dk_at dksX9_one_6 17 rfl rfl)
theorem dX9_one_161 : decode cX9_one 161 = .ok (.isub, 1) := dk_100 (dk_at dksX9_one_6 19 rfl rfl)
theorem dX9_one_162 : decode cX9_one 162 = .ok (.istore_n 2, 1) := dk_61 (dk_at dksX9_one_6 20 rfl rfl)
theorem dX9_one_163 : decode cX9_one 163 = .ok (.aload_n 0, 1) := dk_42 (dk_at dksX9_one_6 21 rfl rfl)
theorem dX9_one_164 : decode cX9_one 164 = .ok (.dup, 1) := dk_89 (dk_at dksX9_one_6 22 rfl rfl)
theorem dX9_one_165 : decode cX9_one 165 = .ok (.getfield 135, 3) := dk_180 0 135 (dk_at dksX9_one_7 0 rfl rfl)
theorem dX9_one_168 : decode cX9_one 168 = .ok (.iconst 1, 1) := dk_4 (dk_at dksX9_one_7 3 rfl rfl)
theorem dX9_one_169 : decode cX9_one 169 = .ok (.iadd, 1) := dk_96 (dk_at dksX9_one_7 4 rfl rfl)
theorem dX9_one_170 : decode cX9_one 170 = .ok (.putfield 135, 3) := dk_181 0 135 (dk_at dksX9_one_7 5 rfl rfl)
theorem dX9_one_173 : decode cX9_one 173 = .ok (.iinc 3 1, 3) := dk_132 3 1 (dk_at dksX9_one_7 8 rfl rfl)
theorem dX9_one_176 : decode cX9_one 176 = .ok (.goto (-45), 3) := dk_167 255 211 (dk_at dksX9_one_7 11 rfl rfl)
theorem dX9_one_179 : decode cX9_one 179 = .ok (.aload_n 0, 1) := dk_42 (dk_at dksX9_one_7 14 rfl rfl)
theorem dX9_one_180 : decode cX9_one 180 = .ok (.iload_n 2, 1) := dk_28 (dk_at dksX9_one_7 15 rfl rfl)
theorem dX9_one_181 : decode cX9_one 181 = .ok (.invokevirtual 151, 3) := dk_182 0 151 (dk_at dksX9_one_7 16 rfl rfl)
theorem dX9_one_184 : decode cX9_one 184 = .ok (.goto 72, 3) := dk_167 0 72 (dk_at dksX9_one_7 19 rfl rfl)
theorem dX9_one_187 : decode cX9_one 187 = .ok (.iload_n 1, 1) := dk_27 (dk_at dksX9_one_7 22 rfl rfl)
theorem dX9_one_188 : decode cX9_one 188 = .ok (.ifCond .ge 7, 3) := dk_156 0 7 (dk_at dksX9_one_8 0 rfl rfl)
theorem dX9_one_191 : decode cX9_one 191 = .ok (.iconst (-1), 1) := dk_2 (dk_at dksX9_one_8 3 rfl rfl)
theorem dX9_one_192 : decode cX9_one 192 = .ok (.goto 7, 3) := dk_167 0 7 (dk_at dksX9_one_8 4 rfl rfl)
theorem dX9_one_195 : decode cX9_one 195 = .ok (.iload_n 1, 1) := dk_27 (dk_at dksX9_one_8 7 rfl rfl)
theorem dX9_one_196 : decode cX9_one 196 = .ok (.invokestatic 173, 3) := dk_184 0 173 (dk_at dksX9_one_8 8 rfl rfl)
theorem dX9_one_199 : decode cX9_one 199 = .ok (.istore_n 2, 1) := dk_61 (dk_at dksX9_one_8 11 rfl rfl)
theorem dX9_one_200 : decode cX9_one 200 = .ok (.aload_n 0, 1) := dk_42 (dk_at dksX9_one_8 12 rfl rfl)
theorem dX9_one_201 : decode cX9_one 201 = .ok (.aload_n 0, 1) := dk_42 (dk_at dksX9_one_8 13 rfl rfl)
theorem dX9_one_202 : decode cX9_one 202 = .ok (.getfield 131, 3) := dk_180 0 131 (dk_at dksX9_one_8 14 rfl rfl)
theorem dX9_one_205 : decode cX9_one 205 = .ok (.ifCond .ne 17, 3) := dk_154 0 17 (dk_at dksX9_one_8 17 rfl rfl)
theorem dX9_one_208 : decode cX9_one 208 = .ok (.iload_n 2, 1) := dk_28 (dk_at dksX9_one_8 20 rfl rfl)
theorem dX9_one_209 : decode cX9_one 209 = .ok (.iconst 0, 1) := dk_3 (dk_at dksX9_one_8 21 rfl rfl)
theorem dX9_one_210 : decode cX9_one 210 = .ok (.aload_n 0, 1) := dk_42 (dk_at dksX9_one_8 22 rfl rfl)
theorem dX9_one_211 : decode cX9_one 211 = .ok (.getfield 176, 3) := dk_180 0 176 (dk_at dksX9_one_9 0 rfl rfl)
theorem dX9_one_214 : decode cX9_one 214 = .ok (.iconst 1, 1) := dk_4 (dk_at dksX9_one_9 3 rfl rfl)
theorem dX9_one_215 : decode cX9_one 215 = .ok (.isub, 1) := dk_100 (dk_at dksX9_one_9 4 rfl rfl)
theorem dX9_one_216 : decode cX9_one 216 = .ok (.invokestatic 94, 3) := dk_184 0 94 (dk_at dksX9_one_9 5 rfl rfl)
theorem dX9_one_219 : decode cX9_one 219 = .ok (.ifCond .ne 7, 3) := dk_154 0 7 (dk_at dksX9_one_9 8 rfl rfl)
theorem dX9_one_222 : decode cX9_one 222 = .ok (.iconst 1, 1) := dk_4 (dk_at dksX9_one_9 11 rfl rfl)
theorem dX9_one_223 : decode cX9_one 223 = .ok (.goto 4, 3) := dk_167 0 4 (dk_at dksX9_one_9 12 rfl rfl)
theorem dX9_one_226 : decode cX9_one 226 = .ok (.iconst 0, 1) := dk_3 (dk_at dksX9_one_9 15 rfl rfl)
theorem dX9_one_227 : decode cX9_one 227 = .ok (.putfield 131, 3) := dk_181 0 131 (dk_at dksX9_one_9 16 rfl rfl)
theorem dX9_one_230 : decode cX9_one 230 = .ok (.aload_n 0, 1) := dk_42 (dk_at dksX9_one_9 19 rfl rfl)
theorem dX9_one_231 : decode cX9_one 231 = .ok (.getfield 131, 3) := dk_180 0 131 (dk_at dksX9_one_9 20 rfl rfl)
theorem dX9_one_234 : decode cX9_one 234 = .ok (.ifCond .ne 22, 3) := dk_154 0 22 (dk_at dksX9_one_10 0 rfl rfl)
theorem dX9_one_237 : decode cX9_one 237 = .ok (.aload_n 0, 1) := dk_42 (dk_at dksX9_one_10 3 rfl rfl)
theorem dX9_one_238 : decode cX9_one 238 = .ok (.sipush 10000, 3) := dk_17 39 16 (dk_at dksX9_one_10 4 rfl rfl)
theorem dX9_one_241 : decode cX9_one 241 = .ok (.iload_n 2, 1) := dk_28 (dk_at dksX9_one_10 7 rfl rfl)
theorem dX9_one_242 : decode cX9_one 242 = .ok (.iadd, 1) := dk_96 (dk_at dksX9_one_10 8 rfl rfl)
theorem dX9_one_243 : decode cX9_one 243 = .ok (.invokevirtual 151, 3) := dk_182 0 151 (dk_at dksX9_one_10 9 rfl rfl)
theorem dX9_one_246 : decode cX9_one 246 = .ok (.aload_n 0, 1) := dk_42 (dk_at dksX9_one_10 12 rfl rfl)
theorem dX9_one_247 : decode cX9_one 247 = .ok (.dup, 1) := dk_89 (dk_at dksX9_one_10 13 rfl rfl)
theorem dX9_one_248 : decode cX9_one 248 = .ok (.getfield 135, 3) := dk_180 0 135 (dk_at dksX9_one_10 14 rfl rfl)
theorem dX9_one_251 : decode cX9_one 251 = .ok (.iconst 1, 1) := dk_4 (dk_at dksX9_one_10 17 rfl rfl)
theorem dX9_one_252 : decode cX9_one 252 = .ok (.iadd, 1) := dk_96 (dk_at dksX9_one_10 18 rfl rfl)
theorem dX9_one_253 : decode cX9_one 253 = .ok (.putfield 135, 3) := dk_181 0 135 (dk_at dksX9_one_10 19 rfl rfl)
theorem dX9_one_256 : decode cX9_one 256 = .ok (.return_, 1) := dk_177 (dk_at dksX9_one_10 22 rfl rfl)
abbrev cX9_here : ByteArray := prog_33_method_26_code
def yX9_here : MethodName := ⟨RX9, "here", "()I"⟩
def dkwX9_here_1 : List UInt8 := [16, 40, 42, 180, 0, 135, 96, 46, 167, 0, 4, 2, 172]
abbrev dktX9_here_1 : List UInt8 := dkwX9_here_1 ++ []
def dkwX9_here_0 : List UInt8 := [42, 180, 0, 131, 154, 0, 31, 42, 180, 0, 135, 42, 180, 0, 9, 4, 46, 162, 0, 18, 42, 180, 0, 9]
abbrev dktX9_here_0 : List UInt8 := dkwX9_here_0 ++ dktX9_here_1
theorem dksX9_here_0 : cX9_here.data.toList.drop 0 = dktX9_here_0 := by decide +kernel
theorem dksX9_here_1 : cX9_here.data.toList.drop 24 = dktX9_here_1 := dk_seg dksX9_here_0 24 rfl rfl
theorem dX9_here_0 : decode cX9_here 0 = .ok (.aload_n 0, 1) := dk_42 (dk_at dksX9_here_0 0 rfl rfl)
theorem dX9_here_1 : decode cX9_here 1 = .ok (.getfield 131, 3) := dk_180 0 131 (dk_at dksX9_here_0 1 rfl rfl)
theorem dX9_here_4 : decode cX9_here 4 = .ok (.ifCond .ne 31, 3) := dk_154 0 31 (dk_at dksX9_here_0 4 rfl rfl)
theorem dX9_here_7 : decode cX9_here 7 = .ok (.aload_n 0, 1) := dk_42 (dk_at dksX9_here_0 7 rfl rfl)
theorem dX9_here_8 : decode cX9_here 8 = .ok (.getfield 135, 3) := dk_180 0 135 (dk_at dksX9_here_0 8 rfl rfl)
theorem dX9_here_11 : decode cX9_here 11 = .ok (.aload_n 0, 1) := dk_42 (dk_at dksX9_here_0 11 rfl rfl)
theorem dX9_here_12 : decode cX9_here 12 = .ok (.getfield 9, 3) := dk_180 0 9 (dk_at dksX9_here_0 12 rfl rfl)
theorem dX9_here_15 : decode cX9_here 15 = .ok (.iconst 1, 1) := dk_4 (dk_at dksX9_here_0 15 rfl rfl)
theorem dX9_here_16 : decode cX9_here 16 = .ok (.iaload, 1) := dk_46 (dk_at dksX9_here_0 16 rfl rfl)
theorem dX9_here_17 : decode cX9_here 17 = .ok (.if_icmp .ge 18, 3) := dk_162 0 18 (dk_at dksX9_here_0 17 rfl rfl)
theorem dX9_here_20 : decode cX9_here 20 = .ok (.aload_n 0, 1) := dk_42 (dk_at dksX9_here_0 20 rfl rfl)
theorem dX9_here_21 : decode cX9_here 21 = .ok (.getfield 9, 3) := dk_180 0 9 (dk_at dksX9_here_0 21 rfl rfl)
theorem dX9_here_24 : decode cX9_here 24 = .ok (.bipush 40, 2) := dk_16 40 (dk_at dksX9_here_1 0 rfl rfl)
theorem dX9_here_26 : decode cX9_here 26 = .ok (.aload_n 0, 1) := dk_42 (dk_at dksX9_here_1 2 rfl rfl)
theorem dX9_here_27 : decode cX9_here 27 = .ok (.getfield 135, 3) := dk_180 0 135 (dk_at dksX9_here_1 3 rfl rfl)
theorem dX9_here_30 : decode cX9_here 30 = .ok (.iadd, 1) := dk_96 (dk_at dksX9_here_1 6 rfl rfl)
theorem dX9_here_31 : decode cX9_here 31 = .ok (.iaload, 1) := dk_46 (dk_at dksX9_here_1 7 rfl rfl)
theorem dX9_here_32 : decode cX9_here 32 = .ok (.goto 4, 3) := dk_167 0 4 (dk_at dksX9_here_1 8 rfl rfl)
theorem dX9_here_35 : decode cX9_here 35 = .ok (.iconst (-1), 1) := dk_2 (dk_at dksX9_here_1 11 rfl rfl)
theorem dX9_here_36 : decode cX9_here 36 = .ok (.ireturn, 1) := dk_172 (dk_at dksX9_here_1 12 rfl rfl)
abbrev cX9_codes : ByteArray := prog_33_method_28_code
def yX9_codes : MethodName := ⟨RX9, "codes", "(I)V"⟩
def dkwX9_codes_1 : List UInt8 := [181, 0, 142, 177]
abbrev dktX9_codes_1 : List UInt8 := dkwX9_codes_1 ++ []
def dkwX9_codes_0 : List UInt8 := [42, 180, 0, 131, 154, 0, 23, 42, 180, 0, 31, 42, 180, 0, 142, 27, 79, 42, 89, 180, 0, 142, 4, 96]
abbrev dktX9_codes_0 : List UInt8 := dkwX9_codes_0 ++ dktX9_codes_1
theorem dksX9_codes_0 : cX9_codes.data.toList.drop 0 = dktX9_codes_0 := by decide +kernel
theorem dksX9_codes_1 : cX9_codes.data.toList.drop 24 = dktX9_codes_1 := dk_seg dksX9_codes_0 24 rfl rfl
theorem dX9_codes_0 : decode cX9_codes 0 = .ok (.aload_n 0, 1) := dk_42 (dk_at dksX9_codes_0 0 rfl rfl)
theorem dX9_codes_1 : decode cX9_codes 1 = .ok (.getfield 131, 3) := dk_180 0 131 (dk_at dksX9_codes_0 1 rfl rfl)
theorem dX9_codes_4 : decode cX9_codes 4 = .ok (.ifCond .ne 23, 3) := dk_154 0 23 (dk_at dksX9_codes_0 4 rfl rfl)
theorem dX9_codes_7 : decode cX9_codes 7 = .ok (.aload_n 0, 1) := dk_42 (dk_at dksX9_codes_0 7 rfl rfl)
theorem dX9_codes_8 : decode cX9_codes 8 = .ok (.getfield 31, 3) := dk_180 0 31 (dk_at dksX9_codes_0 8 rfl rfl)
theorem dX9_codes_11 : decode cX9_codes 11 = .ok (.aload_n 0, 1) := dk_42 (dk_at dksX9_codes_0 11 rfl rfl)
theorem dX9_codes_12 : decode cX9_codes 12 = .ok (.getfield 142, 3) := dk_180 0 142 (dk_at dksX9_codes_0 12 rfl rfl)
theorem dX9_codes_15 : decode cX9_codes 15 = .ok (.iload_n 1, 1) := dk_27 (dk_at dksX9_codes_0 15 rfl rfl)
theorem dX9_codes_16 : decode cX9_codes 16 = .ok (.iastore, 1) := dk_79 (dk_at dksX9_codes_0 16 rfl rfl)
theorem dX9_codes_17 : decode cX9_codes 17 = .ok (.aload_n 0, 1) := dk_42 (dk_at dksX9_codes_0 17 rfl rfl)
theorem dX9_codes_18 : decode cX9_codes 18 = .ok (.dup, 1) := dk_89 (dk_at dksX9_codes_0 18 rfl rfl)
theorem dX9_codes_19 : decode cX9_codes 19 = .ok (.getfield 142, 3) := dk_180 0 142 (dk_at dksX9_codes_0 19 rfl rfl)
theorem dX9_codes_22 : decode cX9_codes 22 = .ok (.iconst 1, 1) := dk_4 (dk_at dksX9_codes_0 22 rfl rfl)
theorem dX9_codes_23 : decode cX9_codes 23 = .ok (.iadd, 1) := dk_96 (dk_at dksX9_codes_0 23 rfl rfl)
theorem dX9_codes_24 : decode cX9_codes 24 = .ok (.putfield 142, 3) := dk_181 0 142 (dk_at dksX9_codes_1 0 rfl rfl)
theorem dX9_codes_27 : decode cX9_codes 27 = .ok (.return_, 1) := dk_177 (dk_at dksX9_codes_1 3 rfl rfl)
abbrev cX9_takes : ByteArray := prog_33_method_27_code
def yX9_takes : MethodName := ⟨RX9, "takes", "(I)Z"⟩
def dkwX9_takes_1 : List UInt8 := [167, 0, 4, 3, 96, 181, 0, 135, 28, 172]
abbrev dktX9_takes_1 : List UInt8 := dkwX9_takes_1 ++ []
def dkwX9_takes_0 : List UInt8 := [42, 182, 0, 138, 27, 160, 0, 7, 4, 167, 0, 4, 3, 61, 42, 89, 180, 0, 135, 28, 153, 0, 7, 4]
abbrev dktX9_takes_0 : List UInt8 := dkwX9_takes_0 ++ dktX9_takes_1
theorem dksX9_takes_0 : cX9_takes.data.toList.drop 0 = dktX9_takes_0 := by decide +kernel
theorem dksX9_takes_1 : cX9_takes.data.toList.drop 24 = dktX9_takes_1 := dk_seg dksX9_takes_0 24 rfl rfl
theorem dX9_takes_0 : decode cX9_takes 0 = .ok (.aload_n 0, 1) := dk_42 (dk_at dksX9_takes_0 0 rfl rfl)
theorem dX9_takes_1 : decode cX9_takes 1 = .ok (.invokevirtual 138, 3) := dk_182 0 138 (dk_at dksX9_takes_0 1 rfl rfl)
theorem dX9_takes_4 : decode cX9_takes 4 = .ok (.iload_n 1, 1) := dk_27 (dk_at dksX9_takes_0 4 rfl rfl)
theorem dX9_takes_5 : decode cX9_takes 5 = .ok (.if_icmp .ne 7, 3) := dk_160 0 7 (dk_at dksX9_takes_0 5 rfl rfl)
theorem dX9_takes_8 : decode cX9_takes 8 = .ok (.iconst 1, 1) := dk_4 (dk_at dksX9_takes_0 8 rfl rfl)
theorem dX9_takes_9 : decode cX9_takes 9 = .ok (.goto 4, 3) := dk_167 0 4 (dk_at dksX9_takes_0 9 rfl rfl)
theorem dX9_takes_12 : decode cX9_takes 12 = .ok (.iconst 0, 1) := dk_3 (dk_at dksX9_takes_0 12 rfl rfl)
theorem dX9_takes_13 : decode cX9_takes 13 = .ok (.istore_n 2, 1) := dk_61 (dk_at dksX9_takes_0 13 rfl rfl)
theorem dX9_takes_14 : decode cX9_takes 14 = .ok (.aload_n 0, 1) := dk_42 (dk_at dksX9_takes_0 14 rfl rfl)
theorem dX9_takes_15 : decode cX9_takes 15 = .ok (.dup, 1) := dk_89 (dk_at dksX9_takes_0 15 rfl rfl)
theorem dX9_takes_16 : decode cX9_takes 16 = .ok (.getfield 135, 3) := dk_180 0 135 (dk_at dksX9_takes_0 16 rfl rfl)
theorem dX9_takes_19 : decode cX9_takes 19 = .ok (.iload_n 2, 1) := dk_28 (dk_at dksX9_takes_0 19 rfl rfl)
theorem dX9_takes_20 : decode cX9_takes 20 = .ok (.ifCond .eq 7, 3) := dk_153 0 7 (dk_at dksX9_takes_0 20 rfl rfl)
theorem dX9_takes_23 : decode cX9_takes 23 = .ok (.iconst 1, 1) := dk_4 (dk_at dksX9_takes_0 23 rfl rfl)
theorem dX9_takes_24 : decode cX9_takes 24 = .ok (.goto 4, 3) := dk_167 0 4 (dk_at dksX9_takes_1 0 rfl rfl)
theorem dX9_takes_27 : decode cX9_takes 27 = .ok (.iconst 0, 1) := dk_3 (dk_at dksX9_takes_1 3 rfl rfl)
theorem dX9_takes_28 : decode cX9_takes 28 = .ok (.iadd, 1) := dk_96 (dk_at dksX9_takes_1 4 rfl rfl)
theorem dX9_takes_29 : decode cX9_takes 29 = .ok (.putfield 135, 3) := dk_181 0 135 (dk_at dksX9_takes_1 5 rfl rfl)
theorem dX9_takes_32 : decode cX9_takes 32 = .ok (.iload_n 2, 1) := dk_28 (dk_at dksX9_takes_1 8 rfl rfl)
theorem dX9_takes_33 : decode cX9_takes 33 = .ok (.ireturn, 1) := dk_172 (dk_at dksX9_takes_1 9 rfl rfl)
abbrev cX9_nameOf : ByteArray := prog_33_method_34_code
def yX9_nameOf : MethodName := ⟨RX9, "nameOf", "(I)I"⟩
def dkwX9_nameOf_3 : List UInt8 := [2, 172]
abbrev dktX9_nameOf_3 : List UInt8 := dkwX9_nameOf_3 ++ []
def dkwX9_nameOf_2 : List UInt8 := [3, 172, 4, 172, 5, 172, 6, 172, 7, 172, 8, 172, 16, 6, 172, 16, 7, 172, 16, 8, 172, 16, 9, 172]
abbrev dktX9_nameOf_2 : List UInt8 := dkwX9_nameOf_2 ++ dktX9_nameOf_3
def dkwX9_nameOf_1 : List UInt8 := [170, 0, 0, 0, 0, 0, 131, 0, 0, 0, 97, 0, 0, 0, 119, 0, 0, 0, 107, 0, 0, 0, 109, 0, 0, 0, 111, 0, 0, 0, 122, 0, 0, 0, 131, 0, 0, 0, 131, 0, 0, 0, 131, 0, 0, 0, 131, 0, 0, 0, 128, 0, 0, 0, 131, 0, 0, 0, 131, 0, 0, 0, 131, 0, 0, 0, 131, 0, 0, 0, 131, 0, 0, 0, 131, 0, 0, 0, 115, 0, 0, 0, 117, 0, 0, 0, 119, 0, 0, 0, 113, 0, 0, 0, 131, 0, 0, 0, 131, 0, 0, 0, 131, 0, 0, 0, 125]
abbrev dktX9_nameOf_1 : List UInt8 := dkwX9_nameOf_1 ++ dktX9_nameOf_2
def dkwX9_nameOf_0 : List UInt8 := [26]
abbrev dktX9_nameOf_0 : List UInt8 := dkwX9_nameOf_0 ++ dktX9_nameOf_1
theorem dksX9_nameOf_0 : cX9_nameOf.data.toList.drop 0 = dktX9_nameOf_0 := by decide +kernel
theorem dksX9_nameOf_1 : cX9_nameOf.data.toList.drop 1 = dktX9_nameOf_1 := dk_seg dksX9_nameOf_0 1 rfl rfl
theorem dksX9_nameOf_2 : cX9_nameOf.data.toList.drop 108 = dktX9_nameOf_2 := dk_seg dksX9_nameOf_1 107 rfl rfl
theorem dksX9_nameOf_3 : cX9_nameOf.data.toList.drop 132 = dktX9_nameOf_3 := dk_seg dksX9_nameOf_2 24 rfl rfl
theorem dX9_nameOf_0 : decode cX9_nameOf 0 = .ok (.iload_n 0, 1) := dk_26 (dk_at dksX9_nameOf_0 0 rfl rfl)
theorem dX9_nameOf_1 : decode cX9_nameOf 1 = .ok (.tableswitch 131 97 119 #[107, 109, 111, 122, 131, 131, 131, 131, 128, 131, 131, 131, 131, 131, 131, 115, 117, 119, 113, 131, 131, 131, 125], 107) := by decide +kernel
theorem dX9_nameOf_108 : decode cX9_nameOf 108 = .ok (.iconst 0, 1) := dk_3 (dk_at dksX9_nameOf_2 0 rfl rfl)
theorem dX9_nameOf_109 : decode cX9_nameOf 109 = .ok (.ireturn, 1) := dk_172 (dk_at dksX9_nameOf_2 1 rfl rfl)
theorem dX9_nameOf_110 : decode cX9_nameOf 110 = .ok (.iconst 1, 1) := dk_4 (dk_at dksX9_nameOf_2 2 rfl rfl)
theorem dX9_nameOf_111 : decode cX9_nameOf 111 = .ok (.ireturn, 1) := dk_172 (dk_at dksX9_nameOf_2 3 rfl rfl)
theorem dX9_nameOf_112 : decode cX9_nameOf 112 = .ok (.iconst 2, 1) := dk_5 (dk_at dksX9_nameOf_2 4 rfl rfl)
theorem dX9_nameOf_113 : decode cX9_nameOf 113 = .ok (.ireturn, 1) := dk_172 (dk_at dksX9_nameOf_2 5 rfl rfl)
theorem dX9_nameOf_114 : decode cX9_nameOf 114 = .ok (.iconst 3, 1) := dk_6 (dk_at dksX9_nameOf_2 6 rfl rfl)
theorem dX9_nameOf_115 : decode cX9_nameOf 115 = .ok (.ireturn, 1) := dk_172 (dk_at dksX9_nameOf_2 7 rfl rfl)
theorem dX9_nameOf_116 : decode cX9_nameOf 116 = .ok (.iconst 4, 1) := dk_7 (dk_at dksX9_nameOf_2 8 rfl rfl)
theorem dX9_nameOf_117 : decode cX9_nameOf 117 = .ok (.ireturn, 1) := dk_172 (dk_at dksX9_nameOf_2 9 rfl rfl)
theorem dX9_nameOf_118 : decode cX9_nameOf 118 = .ok (.iconst 5, 1) := dk_8 (dk_at dksX9_nameOf_2 10 rfl rfl)
theorem dX9_nameOf_119 : decode cX9_nameOf 119 = .ok (.ireturn, 1) := dk_172 (dk_at dksX9_nameOf_2 11 rfl rfl)
theorem dX9_nameOf_120 : decode cX9_nameOf 120 = .ok (.bipush 6, 2) := dk_16 6 (dk_at dksX9_nameOf_2 12 rfl rfl)
theorem dX9_nameOf_122 : decode cX9_nameOf 122 = .ok (.ireturn, 1) := dk_172 (dk_at dksX9_nameOf_2 14 rfl rfl)
theorem dX9_nameOf_123 : decode cX9_nameOf 123 = .ok (.bipush 7, 2) := dk_16 7 (dk_at dksX9_nameOf_2 15 rfl rfl)
theorem dX9_nameOf_125 : decode cX9_nameOf 125 = .ok (.ireturn, 1) := dk_172 (dk_at dksX9_nameOf_2 17 rfl rfl)
theorem dX9_nameOf_126 : decode cX9_nameOf 126 = .ok (.bipush 8, 2) := dk_16 8 (dk_at dksX9_nameOf_2 18 rfl rfl)
theorem dX9_nameOf_128 : decode cX9_nameOf 128 = .ok (.ireturn, 1) := dk_172 (dk_at dksX9_nameOf_2 20 rfl rfl)
theorem dX9_nameOf_129 : decode cX9_nameOf 129 = .ok (.bipush 9, 2) := dk_16 9 (dk_at dksX9_nameOf_2 21 rfl rfl)
theorem dX9_nameOf_131 : decode cX9_nameOf 131 = .ok (.ireturn, 1) := dk_172 (dk_at dksX9_nameOf_2 23 rfl rfl)
theorem dX9_nameOf_132 : decode cX9_nameOf 132 = .ok (.iconst (-1), 1) := dk_2 (dk_at dksX9_nameOf_3 0 rfl rfl)
theorem dX9_nameOf_133 : decode cX9_nameOf 133 = .ok (.ireturn, 1) := dk_172 (dk_at dksX9_nameOf_3 1 rfl rfl)
abbrev cX9_tableOf : ByteArray := prog_33_method_40_code
def yX9_tableOf : MethodName := ⟨RX9, "tableOf", "(II)I"⟩
def dkwX9_tableOf_4 : List UInt8 := [132, 5, 1, 167, 255, 217, 132, 4, 1, 167, 255, 166, 29, 172]
abbrev dktX9_tableOf_4 : List UInt8 := dkwX9_tableOf_4 ++ []
def dkwX9_tableOf_3 : List UInt8 := [182, 0, 198, 153, 0, 17, 4, 6, 21, 4, 104, 21, 5, 96, 7, 100, 120, 167, 0, 4, 3, 128, 62]
abbrev dktX9_tableOf_3 : List UInt8 := dkwX9_tableOf_3 ++ dktX9_tableOf_4
def dkwX9_tableOf_2 : List UInt8 := [3, 128, 62, 167, 0, 48, 4, 54, 5, 21, 5, 6, 163, 0, 39, 29, 42, 27, 21, 4, 21, 5]
abbrev dktX9_tableOf_2 : List UInt8 := dkwX9_tableOf_2 ++ dktX9_tableOf_3
def dkwX9_tableOf_1 : List UInt8 := [156, 0, 30, 29, 42, 27, 21, 4, 3, 182, 0, 198, 153, 0, 12, 4, 21, 4, 4, 100, 120, 167, 0, 4]
abbrev dktX9_tableOf_1 : List UInt8 := dkwX9_tableOf_1 ++ dktX9_tableOf_2
def dkwX9_tableOf_0 : List UInt8 := [42, 28, 181, 0, 179, 3, 62, 4, 54, 4, 21, 4, 6, 163, 0, 90, 42, 180, 0, 25, 28, 46]
abbrev dktX9_tableOf_0 : List UInt8 := dkwX9_tableOf_0 ++ dktX9_tableOf_1
theorem dksX9_tableOf_0 : cX9_tableOf.data.toList.drop 0 = dktX9_tableOf_0 := by decide +kernel
theorem dksX9_tableOf_1 : cX9_tableOf.data.toList.drop 22 = dktX9_tableOf_1 := dk_seg dksX9_tableOf_0 22 rfl rfl
theorem dksX9_tableOf_2 : cX9_tableOf.data.toList.drop 46 = dktX9_tableOf_2 := dk_seg dksX9_tableOf_1 24 rfl rfl
theorem dksX9_tableOf_3 : cX9_tableOf.data.toList.drop 68 = dktX9_tableOf_3 := dk_seg dksX9_tableOf_2 22 rfl rfl
theorem dksX9_tableOf_4 : cX9_tableOf.data.toList.drop 91 = dktX9_tableOf_4 := dk_seg dksX9_tableOf_3 23 rfl rfl
theorem dX9_tableOf_0 : decode cX9_tableOf 0 = .ok (.aload_n 0, 1) := dk_42 (dk_at dksX9_tableOf_0 0 rfl rfl)
theorem dX9_tableOf_1 : decode cX9_tableOf 1 = .ok (.iload_n 2, 1) := dk_28 (dk_at dksX9_tableOf_0 1 rfl rfl)
theorem dX9_tableOf_2 : decode cX9_tableOf 2 = .ok (.putfield 179, 3) := dk_181 0 179 (dk_at dksX9_tableOf_0 2 rfl rfl)
theorem dX9_tableOf_5 : decode cX9_tableOf 5 = .ok (.iconst 0, 1) := dk_3 (dk_at dksX9_tableOf_0 5 rfl rfl)
theorem dX9_tableOf_6 : decode cX9_tableOf 6 = .ok (.istore_n 3, 1) := dk_62 (dk_at dksX9_tableOf_0 6 rfl rfl)
theorem dX9_tableOf_7 : decode cX9_tableOf 7 = .ok (.iconst 1, 1) := dk_4 (dk_at dksX9_tableOf_0 7 rfl rfl)
theorem dX9_tableOf_8 : decode cX9_tableOf 8 = .ok (.istore 4, 2) := dk_54 4 (dk_at dksX9_tableOf_0 8 rfl rfl)
theorem dX9_tableOf_10 : decode cX9_tableOf 10 = .ok (.iload 4, 2) := dk_21 4 (dk_at dksX9_tableOf_0 10 rfl rfl)
theorem dX9_tableOf_12 : decode cX9_tableOf 12 = .ok (.iconst 3, 1) := dk_6 (dk_at dksX9_tableOf_0 12 rfl rfl)
theorem dX9_tableOf_13 : decode cX9_tableOf 13 = .ok (.if_icmp .gt 90, 3) := dk_163 0 90 (dk_at dksX9_tableOf_0 13 rfl rfl)
theorem dX9_tableOf_16 : decode cX9_tableOf 16 = .ok (.aload_n 0, 1) := dk_42 (dk_at dksX9_tableOf_0 16 rfl rfl)
theorem dX9_tableOf_17 : decode cX9_tableOf 17 = .ok (.getfield 25, 3) := dk_180 0 25 (dk_at dksX9_tableOf_0 17 rfl rfl)
theorem dX9_tableOf_20 : decode cX9_tableOf 20 = .ok (.iload_n 2, 1) := dk_28 (dk_at dksX9_tableOf_0 20 rfl rfl)
theorem dX9_tableOf_21 : decode cX9_tableOf 21 = .ok (.iaload, 1) := dk_46 (dk_at dksX9_tableOf_0 21 rfl rfl)
theorem dX9_tableOf_22 : decode cX9_tableOf 22 = .ok (.ifCond .ge 30, 3) := dk_156 0 30 (dk_at dksX9_tableOf_1 0 rfl rfl)
theorem dX9_tableOf_25 : decode cX9_tableOf 25 = .ok (.iload_n 3, 1) := dk_29 (dk_at dksX9_tableOf_1 3 rfl rfl)
theorem dX9_tableOf_26 : decode cX9_tableOf 26 = .ok (.aload_n 0, 1) := dk_42 (dk_at dksX9_tableOf_1 4 rfl rfl)
theorem dX9_tableOf_27 : decode cX9_tableOf 27 = .ok (.iload_n 1, 1) := dk_27 (dk_at dksX9_tableOf_1 5 rfl rfl)
theorem dX9_tableOf_28 : decode cX9_tableOf 28 = .ok (.iload 4, 2) := dk_21 4 (dk_at dksX9_tableOf_1 6 rfl rfl)
theorem dX9_tableOf_30 : decode cX9_tableOf 30 = .ok (.iconst 0, 1) := dk_3 (dk_at dksX9_tableOf_1 8 rfl rfl)
theorem dX9_tableOf_31 : decode cX9_tableOf 31 = .ok (.invokevirtual 198, 3) := dk_182 0 198 (dk_at dksX9_tableOf_1 9 rfl rfl)
theorem dX9_tableOf_34 : decode cX9_tableOf 34 = .ok (.ifCond .eq 12, 3) := dk_153 0 12 (dk_at dksX9_tableOf_1 12 rfl rfl)
theorem dX9_tableOf_37 : decode cX9_tableOf 37 = .ok (.iconst 1, 1) := dk_4 (dk_at dksX9_tableOf_1 15 rfl rfl)
theorem dX9_tableOf_38 : decode cX9_tableOf 38 = .ok (.iload 4, 2) := dk_21 4 (dk_at dksX9_tableOf_1 16 rfl rfl)
theorem dX9_tableOf_40 : decode cX9_tableOf 40 = .ok (.iconst 1, 1) := dk_4 (dk_at dksX9_tableOf_1 18 rfl rfl)
theorem dX9_tableOf_41 : decode cX9_tableOf 41 = .ok (.isub, 1) := dk_100 (dk_at dksX9_tableOf_1 19 rfl rfl)
theorem dX9_tableOf_42 : decode cX9_tableOf 42 = .ok (.ishl, 1) := dk_120 (dk_at dksX9_tableOf_1 20 rfl rfl)
theorem dX9_tableOf_43 : decode cX9_tableOf 43 = .ok (.goto 4, 3) := dk_167 0 4 (dk_at dksX9_tableOf_1 21 rfl rfl)
theorem dX9_tableOf_46 : decode cX9_tableOf 46 = .ok (.iconst 0, 1) := dk_3 (dk_at dksX9_tableOf_2 0 rfl rfl)
theorem dX9_tableOf_47 : decode cX9_tableOf 47 = .ok (.ior, 1) := dk_128 (dk_at dksX9_tableOf_2 1 rfl rfl)
theorem dX9_tableOf_48 : decode cX9_tableOf 48 = .ok (.istore_n 3, 1) := dk_62 (dk_at dksX9_tableOf_2 2 rfl rfl)
theorem dX9_tableOf_49 : decode cX9_tableOf 49 = .ok (.goto 48, 3) := dk_167 0 48 (dk_at dksX9_tableOf_2 3 rfl rfl)
theorem dX9_tableOf_52 : decode cX9_tableOf 52 = .ok (.iconst 1, 1) := dk_4 (dk_at dksX9_tableOf_2 6 rfl rfl)
theorem dX9_tableOf_53 : decode cX9_tableOf 53 = .ok (.istore 5, 2) := dk_54 5 (dk_at dksX9_tableOf_2 7 rfl rfl)
theorem dX9_tableOf_55 : decode cX9_tableOf 55 = .ok (.iload 5, 2) := dk_21 5 (dk_at dksX9_tableOf_2 9 rfl rfl)
theorem dX9_tableOf_57 : decode cX9_tableOf 57 = .ok (.iconst 3, 1) := dk_6 (dk_at dksX9_tableOf_2 11 rfl rfl)
theorem dX9_tableOf_58 : decode cX9_tableOf 58 = .ok (.if_icmp .gt 39, 3) := dk_163 0 39 (dk_at dksX9_tableOf_2 12 rfl rfl)
theorem dX9_tableOf_61 : decode cX9_tableOf 61 = .ok (.iload_n 3, 1) := dk_29 (dk_at dksX9_tableOf_2 15 rfl rfl)
theorem dX9_tableOf_62 : decode cX9_tableOf 62 = .ok (.aload_n 0, 1) := dk_42 (dk_at dksX9_tableOf_2 16 rfl rfl)
theorem dX9_tableOf_63 : decode cX9_tableOf 63 = .ok (.iload_n 1, 1) := dk_27 (dk_at dksX9_tableOf_2 17 rfl rfl)
theorem dX9_tableOf_64 : decode cX9_tableOf 64 = .ok (.iload 4, 2) := dk_21 4 (dk_at dksX9_tableOf_2 18 rfl rfl)
theorem dX9_tableOf_66 : decode cX9_tableOf 66 = .ok (.iload 5, 2) := dk_21 5 (dk_at dksX9_tableOf_2 20 rfl rfl)
theorem dX9_tableOf_68 : decode cX9_tableOf 68 = .ok (.invokevirtual 198, 3) := dk_182 0 198 (dk_at dksX9_tableOf_3 0 rfl rfl)
theorem dX9_tableOf_71 : decode cX9_tableOf 71 = .ok (.ifCond .eq 17, 3) := dk_153 0 17 (dk_at dksX9_tableOf_3 3 rfl rfl)
theorem dX9_tableOf_74 : decode cX9_tableOf 74 = .ok (.iconst 1, 1) := dk_4 (dk_at dksX9_tableOf_3 6 rfl rfl)
theorem dX9_tableOf_75 : decode cX9_tableOf 75 = .ok (.iconst 3, 1) := dk_6 (dk_at dksX9_tableOf_3 7 rfl rfl)
theorem dX9_tableOf_76 : decode cX9_tableOf 76 = .ok (.iload 4, 2) := dk_21 4 (dk_at dksX9_tableOf_3 8 rfl rfl)
theorem dX9_tableOf_78 : decode cX9_tableOf 78 = .ok (.imul, 1) := dk_104 (dk_at dksX9_tableOf_3 10 rfl rfl)
theorem dX9_tableOf_79 : decode cX9_tableOf 79 = .ok (.iload 5, 2) := dk_21 5 (dk_at dksX9_tableOf_3 11 rfl rfl)
theorem dX9_tableOf_81 : decode cX9_tableOf 81 = .ok (.iadd, 1) := dk_96 (dk_at dksX9_tableOf_3 13 rfl rfl)
theorem dX9_tableOf_82 : decode cX9_tableOf 82 = .ok (.iconst 4, 1) := dk_7 (dk_at dksX9_tableOf_3 14 rfl rfl)
theorem dX9_tableOf_83 : decode cX9_tableOf 83 = .ok (.isub, 1) := dk_100 (dk_at dksX9_tableOf_3 15 rfl rfl)
theorem dX9_tableOf_84 : decode cX9_tableOf 84 = .ok (.ishl, 1) := dk_120 (dk_at dksX9_tableOf_3 16 rfl rfl)
theorem dX9_tableOf_85 : decode cX9_tableOf 85 = .ok (.goto 4, 3) := dk_167 0 4 (dk_at dksX9_tableOf_3 17 rfl rfl)
theorem dX9_tableOf_88 : decode cX9_tableOf 88 = .ok (.iconst 0, 1) := dk_3 (dk_at dksX9_tableOf_3 20 rfl rfl)
theorem dX9_tableOf_89 : decode cX9_tableOf 89 = .ok (.ior, 1) := dk_128 (dk_at dksX9_tableOf_3 21 rfl rfl)
theorem dX9_tableOf_90 : decode cX9_tableOf 90 = .ok (.istore_n 3, 1) := dk_62 (dk_at dksX9_tableOf_3 22 rfl rfl)
theorem dX9_tableOf_91 : decode cX9_tableOf 91 = .ok (.iinc 5 1, 3) := dk_132 5 1 (dk_at dksX9_tableOf_4 0 rfl rfl)
theorem dX9_tableOf_94 : decode cX9_tableOf 94 = .ok (.goto (-39), 3) := dk_167 255 217 (dk_at dksX9_tableOf_4 3 rfl rfl)
theorem dX9_tableOf_97 : decode cX9_tableOf 97 = .ok (.iinc 4 1, 3) := dk_132 4 1 (dk_at dksX9_tableOf_4 6 rfl rfl)
theorem dX9_tableOf_100 : decode cX9_tableOf 100 = .ok (.goto (-90), 3) := dk_167 255 166 (dk_at dksX9_tableOf_4 9 rfl rfl)
theorem dX9_tableOf_103 : decode cX9_tableOf 103 = .ok (.iload_n 3, 1) := dk_29 (dk_at dksX9_tableOf_4 12 rfl rfl)
theorem dX9_tableOf_104 : decode cX9_tableOf 104 = .ok (.ireturn, 1) := dk_172 (dk_at dksX9_tableOf_4 13 rfl rfl)
abbrev cX9_isSo : ByteArray := prog_33_method_39_code
def yX9_isSo : MethodName := ⟨RX9, "isSo", "(III)Z"⟩
def dkwX9_isSo_4 : List UInt8 := [172]
abbrev dktX9_isSo_4 : List UInt8 := dkwX9_isSo_4 ++ []
def dkwX9_isSo_3 : List UInt8 := [6, 160, 0, 7, 6, 167, 0, 6, 6, 28, 100, 160, 0, 7, 4, 167, 0, 4, 3, 172, 42, 182, 0, 194]
abbrev dktX9_isSo_3 : List UInt8 := dkwX9_isSo_3 ++ dktX9_isSo_4
def dkwX9_isSo_2 : List UInt8 := [28, 6, 159, 0, 7, 4, 167, 0, 4, 3, 172, 29, 28, 160, 0, 7, 4, 167, 0, 4, 3, 172, 29, 28]
abbrev dktX9_isSo_2 : List UInt8 := dkwX9_isSo_2 ++ dktX9_isSo_3
def dkwX9_isSo_1 : List UInt8 := [170, 0, 0, 0, 73, 0, 0, 0, 2, 0, 0, 0, 5, 0, 0, 0, 40, 0, 0, 0, 51, 0, 0, 0, 73, 0, 0, 0, 29]
abbrev dktX9_isSo_1 : List UInt8 := dkwX9_isSo_1 ++ dktX9_isSo_2
def dkwX9_isSo_0 : List UInt8 := [42, 28, 181, 0, 182, 42, 29, 181, 0, 185, 27]
abbrev dktX9_isSo_0 : List UInt8 := dkwX9_isSo_0 ++ dktX9_isSo_1
theorem dksX9_isSo_0 : cX9_isSo.data.toList.drop 0 = dktX9_isSo_0 := by decide +kernel
theorem dksX9_isSo_1 : cX9_isSo.data.toList.drop 11 = dktX9_isSo_1 := dk_seg dksX9_isSo_0 11 rfl rfl
theorem dksX9_isSo_2 : cX9_isSo.data.toList.drop 40 = dktX9_isSo_2 := dk_seg dksX9_isSo_1 29 rfl rfl
theorem dksX9_isSo_3 : cX9_isSo.data.toList.drop 64 = dktX9_isSo_3 := dk_seg dksX9_isSo_2 24 rfl rfl
theorem dksX9_isSo_4 : cX9_isSo.data.toList.drop 88 = dktX9_isSo_4 := dk_seg dksX9_isSo_3 24 rfl rfl
theorem dX9_isSo_0 : decode cX9_isSo 0 = .ok (.aload_n 0, 1) := dk_42 (dk_at dksX9_isSo_0 0 rfl rfl)
theorem dX9_isSo_1 : decode cX9_isSo 1 = .ok (.iload_n 2, 1) := dk_28 (dk_at dksX9_isSo_0 1 rfl rfl)
theorem dX9_isSo_2 : decode cX9_isSo 2 = .ok (.putfield 182, 3) := dk_181 0 182 (dk_at dksX9_isSo_0 2 rfl rfl)
theorem dX9_isSo_5 : decode cX9_isSo 5 = .ok (.aload_n 0, 1) := dk_42 (dk_at dksX9_isSo_0 5 rfl rfl)
theorem dX9_isSo_6 : decode cX9_isSo 6 = .ok (.iload_n 3, 1) := dk_29 (dk_at dksX9_isSo_0 6 rfl rfl)
theorem dX9_isSo_7 : decode cX9_isSo 7 = .ok (.putfield 185, 3) := dk_181 0 185 (dk_at dksX9_isSo_0 7 rfl rfl)
theorem dX9_isSo_10 : decode cX9_isSo 10 = .ok (.iload_n 1, 1) := dk_27 (dk_at dksX9_isSo_0 10 rfl rfl)
theorem dX9_isSo_11 : decode cX9_isSo 11 = .ok (.tableswitch 73 2 5 #[40, 51, 73, 29], 29) := by decide +kernel
theorem dX9_isSo_40 : decode cX9_isSo 40 = .ok (.iload_n 2, 1) := dk_28 (dk_at dksX9_isSo_2 0 rfl rfl)
theorem dX9_isSo_41 : decode cX9_isSo 41 = .ok (.iconst 3, 1) := dk_6 (dk_at dksX9_isSo_2 1 rfl rfl)
theorem dX9_isSo_42 : decode cX9_isSo 42 = .ok (.if_icmp .eq 7, 3) := dk_159 0 7 (dk_at dksX9_isSo_2 2 rfl rfl)
theorem dX9_isSo_45 : decode cX9_isSo 45 = .ok (.iconst 1, 1) := dk_4 (dk_at dksX9_isSo_2 5 rfl rfl)
theorem dX9_isSo_46 : decode cX9_isSo 46 = .ok (.goto 4, 3) := dk_167 0 4 (dk_at dksX9_isSo_2 6 rfl rfl)
theorem dX9_isSo_49 : decode cX9_isSo 49 = .ok (.iconst 0, 1) := dk_3 (dk_at dksX9_isSo_2 9 rfl rfl)
theorem dX9_isSo_50 : decode cX9_isSo 50 = .ok (.ireturn, 1) := dk_172 (dk_at dksX9_isSo_2 10 rfl rfl)
theorem dX9_isSo_51 : decode cX9_isSo 51 = .ok (.iload_n 3, 1) := dk_29 (dk_at dksX9_isSo_2 11 rfl rfl)
theorem dX9_isSo_52 : decode cX9_isSo 52 = .ok (.iload_n 2, 1) := dk_28 (dk_at dksX9_isSo_2 12 rfl rfl)
theorem dX9_isSo_53 : decode cX9_isSo 53 = .ok (.if_icmp .ne 7, 3) := dk_160 0 7 (dk_at dksX9_isSo_2 13 rfl rfl)
theorem dX9_isSo_56 : decode cX9_isSo 56 = .ok (.iconst 1, 1) := dk_4 (dk_at dksX9_isSo_2 16 rfl rfl)
theorem dX9_isSo_57 : decode cX9_isSo 57 = .ok (.goto 4, 3) := dk_167 0 4 (dk_at dksX9_isSo_2 17 rfl rfl)
theorem dX9_isSo_60 : decode cX9_isSo 60 = .ok (.iconst 0, 1) := dk_3 (dk_at dksX9_isSo_2 20 rfl rfl)
theorem dX9_isSo_61 : decode cX9_isSo 61 = .ok (.ireturn, 1) := dk_172 (dk_at dksX9_isSo_2 21 rfl rfl)
theorem dX9_isSo_62 : decode cX9_isSo 62 = .ok (.iload_n 3, 1) := dk_29 (dk_at dksX9_isSo_2 22 rfl rfl)
theorem dX9_isSo_63 : decode cX9_isSo 63 = .ok (.iload_n 2, 1) := dk_28 (dk_at dksX9_isSo_2 23 rfl rfl)
theorem dX9_isSo_64 : decode cX9_isSo 64 = .ok (.iconst 3, 1) := dk_6 (dk_at dksX9_isSo_3 0 rfl rfl)
theorem dX9_isSo_65 : decode cX9_isSo 65 = .ok (.if_icmp .ne 7, 3) := dk_160 0 7 (dk_at dksX9_isSo_3 1 rfl rfl)
theorem dX9_isSo_68 : decode cX9_isSo 68 = .ok (.iconst 3, 1) := dk_6 (dk_at dksX9_isSo_3 4 rfl rfl)
theorem dX9_isSo_69 : decode cX9_isSo 69 = .ok (.goto 6, 3) := dk_167 0 6 (dk_at dksX9_isSo_3 5 rfl rfl)
theorem dX9_isSo_72 : decode cX9_isSo 72 = .ok (.iconst 3, 1) := dk_6 (dk_at dksX9_isSo_3 8 rfl rfl)
theorem dX9_isSo_73 : decode cX9_isSo 73 = .ok (.iload_n 2, 1) := dk_28 (dk_at dksX9_isSo_3 9 rfl rfl)
theorem dX9_isSo_74 : decode cX9_isSo 74 = .ok (.isub, 1) := dk_100 (dk_at dksX9_isSo_3 10 rfl rfl)
theorem dX9_isSo_75 : decode cX9_isSo 75 = .ok (.if_icmp .ne 7, 3) := dk_160 0 7 (dk_at dksX9_isSo_3 11 rfl rfl)
theorem dX9_isSo_78 : decode cX9_isSo 78 = .ok (.iconst 1, 1) := dk_4 (dk_at dksX9_isSo_3 14 rfl rfl)
theorem dX9_isSo_79 : decode cX9_isSo 79 = .ok (.goto 4, 3) := dk_167 0 4 (dk_at dksX9_isSo_3 15 rfl rfl)
theorem dX9_isSo_82 : decode cX9_isSo 82 = .ok (.iconst 0, 1) := dk_3 (dk_at dksX9_isSo_3 18 rfl rfl)
theorem dX9_isSo_83 : decode cX9_isSo 83 = .ok (.ireturn, 1) := dk_172 (dk_at dksX9_isSo_3 19 rfl rfl)
theorem dX9_isSo_84 : decode cX9_isSo 84 = .ok (.aload_n 0, 1) := dk_42 (dk_at dksX9_isSo_3 20 rfl rfl)
theorem dX9_isSo_85 : decode cX9_isSo 85 = .ok (.invokevirtual 194, 3) := dk_182 0 194 (dk_at dksX9_isSo_3 21 rfl rfl)
theorem dX9_isSo_88 : decode cX9_isSo 88 = .ok (.ireturn, 1) := dk_172 (dk_at dksX9_isSo_4 0 rfl rfl)
abbrev cX9_isText : ByteArray := prog_33_method_38_code
def yX9_isText : MethodName := ⟨RX9, "isText", "()Z"⟩
def dkwX9_isText_6 : List UInt8 := [172]
abbrev dktX9_isText_6 : List UInt8 := dkwX9_isText_6 ++ []
def dkwX9_isText_5 : List UInt8 := [184, 0, 190, 79, 132, 2, 1, 167, 255, 136, 42, 180, 0, 34, 3, 46, 153, 0, 7, 4, 167, 0, 4, 3]
abbrev dktX9_isText_5 : List UInt8 := dkwX9_isText_5 ++ dktX9_isText_6
def dkwX9_isText_4 : List UInt8 := [42, 180, 0, 34, 27, 4, 100, 29, 42, 180, 0, 34, 27, 4, 100, 46, 42, 180, 0, 34, 27, 46]
abbrev dktX9_isText_4 : List UInt8 := dkwX9_isText_4 ++ dktX9_isText_5
def dkwX9_isText_3 : List UInt8 := [100, 42, 180, 0, 34, 27, 4, 100, 46, 154, 0, 7, 4, 167, 0, 4, 3, 79, 167, 0, 32, 132, 1, 255]
abbrev dktX9_isText_3 : List UInt8 := dkwX9_isText_3 ++ dktX9_isText_4
def dkwX9_isText_2 : List UInt8 := [100, 182, 0, 188, 79, 132, 1, 1, 167, 0, 66, 29, 17, 78, 42, 160, 0, 30, 42, 180, 0, 34, 27, 4]
abbrev dktX9_isText_2 : List UInt8 := dkwX9_isText_2 ++ dktX9_isText_3
def dkwX9_isText_1 : List UInt8 := [162, 0, 35, 42, 180, 0, 34, 27, 29, 17, 39, 16, 162, 0, 7, 29, 167, 0, 12, 42, 29, 17, 39, 16]
abbrev dktX9_isText_1 : List UInt8 := dkwX9_isText_1 ++ dktX9_isText_2
def dkwX9_isText_0 : List UInt8 := [3, 60, 3, 61, 28, 42, 180, 0, 142, 162, 0, 118, 42, 180, 0, 31, 28, 46, 62, 29, 17, 78, 32]
abbrev dktX9_isText_0 : List UInt8 := dkwX9_isText_0 ++ dktX9_isText_1
theorem dksX9_isText_0 : cX9_isText.data.toList.drop 0 = dktX9_isText_0 := by decide +kernel
theorem dksX9_isText_1 : cX9_isText.data.toList.drop 23 = dktX9_isText_1 := dk_seg dksX9_isText_0 23 rfl rfl
theorem dksX9_isText_2 : cX9_isText.data.toList.drop 47 = dktX9_isText_2 := dk_seg dksX9_isText_1 24 rfl rfl
theorem dksX9_isText_3 : cX9_isText.data.toList.drop 71 = dktX9_isText_3 := dk_seg dksX9_isText_2 24 rfl rfl
theorem dksX9_isText_4 : cX9_isText.data.toList.drop 95 = dktX9_isText_4 := dk_seg dksX9_isText_3 24 rfl rfl
theorem dksX9_isText_5 : cX9_isText.data.toList.drop 117 = dktX9_isText_5 := dk_seg dksX9_isText_4 22 rfl rfl
theorem dksX9_isText_6 : cX9_isText.data.toList.drop 141 = dktX9_isText_6 := dk_seg dksX9_isText_5 24 rfl rfl
theorem dX9_isText_0 : decode cX9_isText 0 = .ok (.iconst 0, 1) := dk_3 (dk_at dksX9_isText_0 0 rfl rfl)
theorem dX9_isText_1 : decode cX9_isText 1 = .ok (.istore_n 1, 1) := dk_60 (dk_at dksX9_isText_0 1 rfl rfl)
theorem dX9_isText_2 : decode cX9_isText 2 = .ok (.iconst 0, 1) := dk_3 (dk_at dksX9_isText_0 2 rfl rfl)
theorem dX9_isText_3 : decode cX9_isText 3 = .ok (.istore_n 2, 1) := dk_61 (dk_at dksX9_isText_0 3 rfl rfl)
theorem dX9_isText_4 : decode cX9_isText 4 = .ok (.iload_n 2, 1) := dk_28 (dk_at dksX9_isText_0 4 rfl rfl)
theorem dX9_isText_5 : decode cX9_isText 5 = .ok (.aload_n 0, 1) := dk_42 (dk_at dksX9_isText_0 5 rfl rfl)
theorem dX9_isText_6 : decode cX9_isText 6 = .ok (.getfield 142, 3) := dk_180 0 142 (dk_at dksX9_isText_0 6 rfl rfl)
theorem dX9_isText_9 : decode cX9_isText 9 = .ok (.if_icmp .ge 118, 3) := dk_162 0 118 (dk_at dksX9_isText_0 9 rfl rfl)
theorem dX9_isText_12 : decode cX9_isText 12 = .ok (.aload_n 0, 1) := dk_42 (dk_at dksX9_isText_0 12 rfl rfl)
theorem dX9_isText_13 : decode cX9_isText 13 = .ok (.getfield 31, 3) := dk_180 0 31 (dk_at dksX9_isText_0 13 rfl rfl)
theorem dX9_isText_16 : decode cX9_isText 16 = .ok (.iload_n 2, 1) := dk_28 (dk_at dksX9_isText_0 16 rfl rfl)
theorem dX9_isText_17 : decode cX9_isText 17 = .ok (.iaload, 1) := dk_46 (dk_at dksX9_isText_0 17 rfl rfl)
theorem dX9_isText_18 : decode cX9_isText 18 = .ok (.istore_n 3, 1) := dk_62 (dk_at dksX9_isText_0 18 rfl rfl)
theorem dX9_isText_19 : decode cX9_isText 19 = .ok (.iload_n 3, 1) := dk_29 (dk_at dksX9_isText_0 19 rfl rfl)
theorem dX9_isText_20 : decode cX9_isText 20 = .ok (.sipush 20000, 3) := dk_17 78 32 (dk_at dksX9_isText_0 20 rfl rfl)
theorem dX9_isText_23 : decode cX9_isText 23 = .ok (.if_icmp .ge 35, 3) := dk_162 0 35 (dk_at dksX9_isText_1 0 rfl rfl)
theorem dX9_isText_26 : decode cX9_isText 26 = .ok (.aload_n 0, 1) := dk_42 (dk_at dksX9_isText_1 3 rfl rfl)
theorem dX9_isText_27 : decode cX9_isText 27 = .ok (.getfield 34, 3) := dk_180 0 34 (dk_at dksX9_isText_1 4 rfl rfl)
theorem dX9_isText_30 : decode cX9_isText 30 = .ok (.iload_n 1, 1) := dk_27 (dk_at dksX9_isText_1 7 rfl rfl)
theorem dX9_isText_31 : decode cX9_isText 31 = .ok (.iload_n 3, 1) := dk_29 (dk_at dksX9_isText_1 8 rfl rfl)
theorem dX9_isText_32 : decode cX9_isText 32 = .ok (.sipush 10000, 3) := dk_17 39 16 (dk_at dksX9_isText_1 9 rfl rfl)
theorem dX9_isText_35 : decode cX9_isText 35 = .ok (.if_icmp .ge 7, 3) := dk_162 0 7 (dk_at dksX9_isText_1 12 rfl rfl)
theorem dX9_isText_38 : decode cX9_isText 38 = .ok (.iload_n 3, 1) := dk_29 (dk_at dksX9_isText_1 15 rfl rfl)
theorem dX9_isText_39 : decode cX9_isText 39 = .ok (.goto 12, 3) := dk_167 0 12 (dk_at dksX9_isText_1 16 rfl rfl)
theorem dX9_isText_42 : decode cX9_isText 42 = .ok (.aload_n 0, 1) := dk_42 (dk_at dksX9_isText_1 19 rfl rfl)
theorem dX9_isText_43 : decode cX9_isText 43 = .ok (.iload_n 3, 1) := dk_29 (dk_at dksX9_isText_1 20 rfl rfl)
theorem dX9_isText_44 : decode cX9_isText 44 = .ok (.sipush 10000, 3) := dk_17 39 16 (dk_at dksX9_isText_1 21 rfl rfl)
theorem dX9_isText_47 : decode cX9_isText 47 = .ok (.isub, 1) := dk_100 (dk_at dksX9_isText_2 0 rfl rfl)
theorem dX9_isText_48 : decode cX9_isText 48 = .ok (.invokevirtual 188, 3) := dk_182 0 188 (dk_at dksX9_isText_2 1 rfl rfl)
theorem dX9_isText_51 : decode cX9_isText 51 = .ok (.iastore, 1) := dk_79 (dk_at dksX9_isText_2 4 rfl rfl)
theorem dX9_isText_52 : decode cX9_isText 52 = .ok (.iinc 1 1, 3) := dk_132 1 1 (dk_at dksX9_isText_2 5 rfl rfl)
theorem dX9_isText_55 : decode cX9_isText 55 = .ok (.goto 66, 3) := dk_167 0 66 (dk_at dksX9_isText_2 8 rfl rfl)
theorem dX9_isText_58 : decode cX9_isText 58 = .ok (.iload_n 3, 1) := dk_29 (dk_at dksX9_isText_2 11 rfl rfl)
theorem dX9_isText_59 : decode cX9_isText 59 = .ok (.sipush 20010, 3) := dk_17 78 42 (dk_at dksX9_isText_2 12 rfl rfl)
theorem dX9_isText_62 : decode cX9_isText 62 = .ok (.if_icmp .ne 30, 3) := dk_160 0 30 (dk_at dksX9_isText_2 15 rfl rfl)
theorem dX9_isText_65 : decode cX9_isText 65 = .ok (.aload_n 0, 1) := dk_42 (dk_at dksX9_isText_2 18 rfl rfl)
theorem dX9_isText_66 : decode cX9_isText 66 = .ok (.getfield 34, 3) := dk_180 0 34 (dk_at dksX9_isText_2 19 rfl rfl)
theorem dX9_isText_69 : decode cX9_isText 69 = .ok (.iload_n 1, 1) := dk_27 (dk_at dksX9_isText_2 22 rfl rfl)
theorem dX9_isText_70 : decode cX9_isText 70 = .ok (.iconst 1, 1) := dk_4 (dk_at dksX9_isText_2 23 rfl rfl)
theorem dX9_isText_71 : decode cX9_isText 71 = .ok (.isub, 1) := dk_100 (dk_at dksX9_isText_3 0 rfl rfl)
theorem dX9_isText_72 : decode cX9_isText 72 = .ok (.aload_n 0, 1) := dk_42 (dk_at dksX9_isText_3 1 rfl rfl)
theorem dX9_isText_73 : decode cX9_isText 73 = .ok (.getfield 34, 3) := dk_180 0 34 (dk_at dksX9_isText_3 2 rfl rfl)
theorem dX9_isText_76 : decode cX9_isText 76 = .ok (.iload_n 1, 1) := dk_27 (dk_at dksX9_isText_3 5 rfl rfl)
theorem dX9_isText_77 : decode cX9_isText 77 = .ok (.iconst 1, 1) := dk_4 (dk_at dksX9_isText_3 6 rfl rfl)
theorem dX9_isText_78 : decode cX9_isText 78 = .ok (.isub, 1) := dk_100 (dk_at dksX9_isText_3 7 rfl rfl)
theorem dX9_isText_79 : decode cX9_isText 79 = .ok (.iaload, 1) := dk_46 (dk_at dksX9_isText_3 8 rfl rfl)
theorem dX9_isText_80 : decode cX9_isText 80 = .ok (.ifCond .ne 7, 3) := dk_154 0 7 (dk_at dksX9_isText_3 9 rfl rfl)
theorem dX9_isText_83 : decode cX9_isText 83 = .ok (.iconst 1, 1) := dk_4 (dk_at dksX9_isText_3 12 rfl rfl)
theorem dX9_isText_84 : decode cX9_isText 84 = .ok (.goto 4, 3) := dk_167 0 4 (dk_at dksX9_isText_3 13 rfl rfl)
theorem dX9_isText_87 : decode cX9_isText 87 = .ok (.iconst 0, 1) := dk_3 (dk_at dksX9_isText_3 16 rfl rfl)
theorem dX9_isText_88 : decode cX9_isText 88 = .ok (.iastore, 1) := dk_79 (dk_at dksX9_isText_3 17 rfl rfl)
theorem dX9_isText_89 : decode cX9_isText 89 = .ok (.goto 32, 3) := dk_167 0 32 (dk_at dksX9_isText_3 18 rfl rfl)
theorem dX9_isText_92 : decode cX9_isText 92 = .ok (.iinc 1 (-1), 3) := dk_132 1 255 (dk_at dksX9_isText_3 21 rfl rfl)
theorem dX9_isText_95 : decode cX9_isText 95 = .ok (.aload_n 0, 1) := dk_42 (dk_at dksX9_isText_4 0 rfl rfl)
theorem dX9_isText_96 : decode cX9_isText 96 = .ok (.getfield 34, 3) := dk_180 0 34 (dk_at dksX9_isText_4 1 rfl rfl)
theorem dX9_isText_99 : decode cX9_isText 99 = .ok (.iload_n 1, 1) := dk_27 (dk_at dksX9_isText_4 4 rfl rfl)
theorem dX9_isText_100 : decode cX9_isText 100 = .ok (.iconst 1, 1) := dk_4 (dk_at dksX9_isText_4 5 rfl rfl)
theorem dX9_isText_101 : decode cX9_isText 101 = .ok (.isub, 1) := dk_100 (dk_at dksX9_isText_4 6 rfl rfl)
theorem dX9_isText_102 : decode cX9_isText 102 = .ok (.iload_n 3, 1) := dk_29 (dk_at dksX9_isText_4 7 rfl rfl)
theorem dX9_isText_103 : decode cX9_isText 103 = .ok (.aload_n 0, 1) := dk_42 (dk_at dksX9_isText_4 8 rfl rfl)
theorem dX9_isText_104 : decode cX9_isText 104 = .ok (.getfield 34, 3) := dk_180 0 34 (dk_at dksX9_isText_4 9 rfl rfl)
theorem dX9_isText_107 : decode cX9_isText 107 = .ok (.iload_n 1, 1) := dk_27 (dk_at dksX9_isText_4 12 rfl rfl)
theorem dX9_isText_108 : decode cX9_isText 108 = .ok (.iconst 1, 1) := dk_4 (dk_at dksX9_isText_4 13 rfl rfl)
theorem dX9_isText_109 : decode cX9_isText 109 = .ok (.isub, 1) := dk_100 (dk_at dksX9_isText_4 14 rfl rfl)
theorem dX9_isText_110 : decode cX9_isText 110 = .ok (.iaload, 1) := dk_46 (dk_at dksX9_isText_4 15 rfl rfl)
theorem dX9_isText_111 : decode cX9_isText 111 = .ok (.aload_n 0, 1) := dk_42 (dk_at dksX9_isText_4 16 rfl rfl)
theorem dX9_isText_112 : decode cX9_isText 112 = .ok (.getfield 34, 3) := dk_180 0 34 (dk_at dksX9_isText_4 17 rfl rfl)
theorem dX9_isText_115 : decode cX9_isText 115 = .ok (.iload_n 1, 1) := dk_27 (dk_at dksX9_isText_4 20 rfl rfl)
theorem dX9_isText_116 : decode cX9_isText 116 = .ok (.iaload, 1) := dk_46 (dk_at dksX9_isText_4 21 rfl rfl)
theorem dX9_isText_117 : decode cX9_isText 117 = .ok (.invokestatic 190, 3) := dk_184 0 190 (dk_at dksX9_isText_5 0 rfl rfl)
theorem dX9_isText_120 : decode cX9_isText 120 = .ok (.iastore, 1) := dk_79 (dk_at dksX9_isText_5 3 rfl rfl)
theorem dX9_isText_121 : decode cX9_isText 121 = .ok (.iinc 2 1, 3) := dk_132 2 1 (dk_at dksX9_isText_5 4 rfl rfl)
theorem dX9_isText_124 : decode cX9_isText 124 = .ok (.goto (-120), 3) := dk_167 255 136 (dk_at dksX9_isText_5 7 rfl rfl)
theorem dX9_isText_127 : decode cX9_isText 127 = .ok (.aload_n 0, 1) := dk_42 (dk_at dksX9_isText_5 10 rfl rfl)
theorem dX9_isText_128 : decode cX9_isText 128 = .ok (.getfield 34, 3) := dk_180 0 34 (dk_at dksX9_isText_5 11 rfl rfl)
theorem dX9_isText_131 : decode cX9_isText 131 = .ok (.iconst 0, 1) := dk_3 (dk_at dksX9_isText_5 14 rfl rfl)
theorem dX9_isText_132 : decode cX9_isText 132 = .ok (.iaload, 1) := dk_46 (dk_at dksX9_isText_5 15 rfl rfl)
theorem dX9_isText_133 : decode cX9_isText 133 = .ok (.ifCond .eq 7, 3) := dk_153 0 7 (dk_at dksX9_isText_5 16 rfl rfl)
theorem dX9_isText_136 : decode cX9_isText 136 = .ok (.iconst 1, 1) := dk_4 (dk_at dksX9_isText_5 19 rfl rfl)
theorem dX9_isText_137 : decode cX9_isText 137 = .ok (.goto 4, 3) := dk_167 0 4 (dk_at dksX9_isText_5 20 rfl rfl)
theorem dX9_isText_140 : decode cX9_isText 140 = .ok (.iconst 0, 1) := dk_3 (dk_at dksX9_isText_5 23 rfl rfl)
theorem dX9_isText_141 : decode cX9_isText 141 = .ok (.ireturn, 1) := dk_172 (dk_at dksX9_isText_6 0 rfl rfl)
abbrev cX9_named : ByteArray := prog_33_method_36_code
def yX9_named : MethodName := ⟨RX9, "named", "(I)I"⟩
def dkwX9_named_5 : List UInt8 := [180, 0, 28, 42, 180, 0, 179, 46, 184, 0, 90, 172, 42, 180, 0, 28, 42, 180, 0, 179, 46, 172]
abbrev dktX9_named_5 : List UInt8 := dkwX9_named_5 ++ []
def dkwX9_named_4 : List UInt8 := [184, 0, 78, 164, 0, 19, 42, 180, 0, 25, 42, 180, 0, 179, 46, 5, 184, 0, 90, 167, 0, 16, 28, 42]
abbrev dktX9_named_4 : List UInt8 := dkwX9_named_4 ++ dktX9_named_5
def dkwX9_named_3 : List UInt8 := [7, 100, 184, 0, 90, 172, 42, 180, 0, 185, 172, 42, 180, 0, 25, 42, 180, 0, 179, 46, 184, 0, 78, 28]
abbrev dktX9_named_3 : List UInt8 := dkwX9_named_3 ++ dktX9_named_4
def dkwX9_named_2 : List UInt8 := [28, 3, 184, 0, 109, 172, 28, 4, 184, 0, 109, 172, 42, 180, 0, 182, 172, 28, 184, 0, 78, 172, 28, 27]
abbrev dktX9_named_2 : List UInt8 := dkwX9_named_2 ++ dktX9_named_3
def dkwX9_named_1 : List UInt8 := [170, 0, 0, 0, 133, 0, 0, 0, 0, 0, 0, 0, 8, 0, 0, 0, 49, 0, 0, 0, 55, 0, 0, 0, 61, 0, 0, 0, 66, 0, 0, 0, 71, 0, 0, 0, 71, 0, 0, 0, 71, 0, 0, 0, 79, 0, 0, 0, 84]
abbrev dktX9_named_1 : List UInt8 := dkwX9_named_1 ++ dktX9_named_2
def dkwX9_named_0 : List UInt8 := [42, 180, 0, 22, 42, 180, 0, 179, 46, 61, 27]
abbrev dktX9_named_0 : List UInt8 := dkwX9_named_0 ++ dktX9_named_1
theorem dksX9_named_0 : cX9_named.data.toList.drop 0 = dktX9_named_0 := by decide +kernel
theorem dksX9_named_1 : cX9_named.data.toList.drop 11 = dktX9_named_1 := dk_seg dksX9_named_0 11 rfl rfl
theorem dksX9_named_2 : cX9_named.data.toList.drop 60 = dktX9_named_2 := dk_seg dksX9_named_1 49 rfl rfl
theorem dksX9_named_3 : cX9_named.data.toList.drop 84 = dktX9_named_3 := dk_seg dksX9_named_2 24 rfl rfl
theorem dksX9_named_4 : cX9_named.data.toList.drop 108 = dktX9_named_4 := dk_seg dksX9_named_3 24 rfl rfl
theorem dksX9_named_5 : cX9_named.data.toList.drop 132 = dktX9_named_5 := dk_seg dksX9_named_4 24 rfl rfl
theorem dX9_named_0 : decode cX9_named 0 = .ok (.aload_n 0, 1) := dk_42 (dk_at dksX9_named_0 0 rfl rfl)
theorem dX9_named_1 : decode cX9_named 1 = .ok (.getfield 22, 3) := dk_180 0 22 (dk_at dksX9_named_0 1 rfl rfl)
theorem dX9_named_4 : decode cX9_named 4 = .ok (.aload_n 0, 1) := dk_42 (dk_at dksX9_named_0 4 rfl rfl)
theorem dX9_named_5 : decode cX9_named 5 = .ok (.getfield 179, 3) := dk_180 0 179 (dk_at dksX9_named_0 5 rfl rfl)
theorem dX9_named_8 : decode cX9_named 8 = .ok (.iaload, 1) := dk_46 (dk_at dksX9_named_0 8 rfl rfl)
theorem dX9_named_9 : decode cX9_named 9 = .ok (.istore_n 2, 1) := dk_61 (dk_at dksX9_named_0 9 rfl rfl)
theorem dX9_named_10 : decode cX9_named 10 = .ok (.iload_n 1, 1) := dk_27 (dk_at dksX9_named_0 10 rfl rfl)
theorem dX9_named_11 : decode cX9_named 11 = .ok (.tableswitch 133 0 8 #[49, 55, 61, 66, 71, 71, 71, 79, 84], 49) := by decide +kernel
theorem dX9_named_60 : decode cX9_named 60 = .ok (.iload_n 2, 1) := dk_28 (dk_at dksX9_named_2 0 rfl rfl)
theorem dX9_named_61 : decode cX9_named 61 = .ok (.iconst 0, 1) := dk_3 (dk_at dksX9_named_2 1 rfl rfl)
theorem dX9_named_62 : decode cX9_named 62 = .ok (.invokestatic 109, 3) := dk_184 0 109 (dk_at dksX9_named_2 2 rfl rfl)
theorem dX9_named_65 : decode cX9_named 65 = .ok (.ireturn, 1) := dk_172 (dk_at dksX9_named_2 5 rfl rfl)
theorem dX9_named_66 : decode cX9_named 66 = .ok (.iload_n 2, 1) := dk_28 (dk_at dksX9_named_2 6 rfl rfl)
theorem dX9_named_67 : decode cX9_named 67 = .ok (.iconst 1, 1) := dk_4 (dk_at dksX9_named_2 7 rfl rfl)
theorem dX9_named_68 : decode cX9_named 68 = .ok (.invokestatic 109, 3) := dk_184 0 109 (dk_at dksX9_named_2 8 rfl rfl)
theorem dX9_named_71 : decode cX9_named 71 = .ok (.ireturn, 1) := dk_172 (dk_at dksX9_named_2 11 rfl rfl)
theorem dX9_named_72 : decode cX9_named 72 = .ok (.aload_n 0, 1) := dk_42 (dk_at dksX9_named_2 12 rfl rfl)
theorem dX9_named_73 : decode cX9_named 73 = .ok (.getfield 182, 3) := dk_180 0 182 (dk_at dksX9_named_2 13 rfl rfl)
theorem dX9_named_76 : decode cX9_named 76 = .ok (.ireturn, 1) := dk_172 (dk_at dksX9_named_2 16 rfl rfl)
theorem dX9_named_77 : decode cX9_named 77 = .ok (.iload_n 2, 1) := dk_28 (dk_at dksX9_named_2 17 rfl rfl)
theorem dX9_named_78 : decode cX9_named 78 = .ok (.invokestatic 78, 3) := dk_184 0 78 (dk_at dksX9_named_2 18 rfl rfl)
theorem dX9_named_81 : decode cX9_named 81 = .ok (.ireturn, 1) := dk_172 (dk_at dksX9_named_2 21 rfl rfl)
theorem dX9_named_82 : decode cX9_named 82 = .ok (.iload_n 2, 1) := dk_28 (dk_at dksX9_named_2 22 rfl rfl)
theorem dX9_named_83 : decode cX9_named 83 = .ok (.iload_n 1, 1) := dk_27 (dk_at dksX9_named_2 23 rfl rfl)
theorem dX9_named_84 : decode cX9_named 84 = .ok (.iconst 4, 1) := dk_7 (dk_at dksX9_named_3 0 rfl rfl)
theorem dX9_named_85 : decode cX9_named 85 = .ok (.isub, 1) := dk_100 (dk_at dksX9_named_3 1 rfl rfl)
theorem dX9_named_86 : decode cX9_named 86 = .ok (.invokestatic 90, 3) := dk_184 0 90 (dk_at dksX9_named_3 2 rfl rfl)
theorem dX9_named_89 : decode cX9_named 89 = .ok (.ireturn, 1) := dk_172 (dk_at dksX9_named_3 5 rfl rfl)
theorem dX9_named_90 : decode cX9_named 90 = .ok (.aload_n 0, 1) := dk_42 (dk_at dksX9_named_3 6 rfl rfl)
theorem dX9_named_91 : decode cX9_named 91 = .ok (.getfield 185, 3) := dk_180 0 185 (dk_at dksX9_named_3 7 rfl rfl)
theorem dX9_named_94 : decode cX9_named 94 = .ok (.ireturn, 1) := dk_172 (dk_at dksX9_named_3 10 rfl rfl)
theorem dX9_named_95 : decode cX9_named 95 = .ok (.aload_n 0, 1) := dk_42 (dk_at dksX9_named_3 11 rfl rfl)
theorem dX9_named_96 : decode cX9_named 96 = .ok (.getfield 25, 3) := dk_180 0 25 (dk_at dksX9_named_3 12 rfl rfl)
theorem dX9_named_99 : decode cX9_named 99 = .ok (.aload_n 0, 1) := dk_42 (dk_at dksX9_named_3 15 rfl rfl)
theorem dX9_named_100 : decode cX9_named 100 = .ok (.getfield 179, 3) := dk_180 0 179 (dk_at dksX9_named_3 16 rfl rfl)
theorem dX9_named_103 : decode cX9_named 103 = .ok (.iaload, 1) := dk_46 (dk_at dksX9_named_3 19 rfl rfl)
theorem dX9_named_104 : decode cX9_named 104 = .ok (.invokestatic 78, 3) := dk_184 0 78 (dk_at dksX9_named_3 20 rfl rfl)
theorem dX9_named_107 : decode cX9_named 107 = .ok (.iload_n 2, 1) := dk_28 (dk_at dksX9_named_3 23 rfl rfl)
theorem dX9_named_108 : decode cX9_named 108 = .ok (.invokestatic 78, 3) := dk_184 0 78 (dk_at dksX9_named_4 0 rfl rfl)
theorem dX9_named_111 : decode cX9_named 111 = .ok (.if_icmp .le 19, 3) := dk_164 0 19 (dk_at dksX9_named_4 3 rfl rfl)
theorem dX9_named_114 : decode cX9_named 114 = .ok (.aload_n 0, 1) := dk_42 (dk_at dksX9_named_4 6 rfl rfl)
theorem dX9_named_115 : decode cX9_named 115 = .ok (.getfield 25, 3) := dk_180 0 25 (dk_at dksX9_named_4 7 rfl rfl)
theorem dX9_named_118 : decode cX9_named 118 = .ok (.aload_n 0, 1) := dk_42 (dk_at dksX9_named_4 10 rfl rfl)
theorem dX9_named_119 : decode cX9_named 119 = .ok (.getfield 179, 3) := dk_180 0 179 (dk_at dksX9_named_4 11 rfl rfl)
theorem dX9_named_122 : decode cX9_named 122 = .ok (.iaload, 1) := dk_46 (dk_at dksX9_named_4 14 rfl rfl)
theorem dX9_named_123 : decode cX9_named 123 = .ok (.iconst 2, 1) := dk_5 (dk_at dksX9_named_4 15 rfl rfl)
theorem dX9_named_124 : decode cX9_named 124 = .ok (.invokestatic 90, 3) := dk_184 0 90 (dk_at dksX9_named_4 16 rfl rfl)
theorem dX9_named_127 : decode cX9_named 127 = .ok (.goto 16, 3) := dk_167 0 16 (dk_at dksX9_named_4 19 rfl rfl)
theorem dX9_named_130 : decode cX9_named 130 = .ok (.iload_n 2, 1) := dk_28 (dk_at dksX9_named_4 22 rfl rfl)
theorem dX9_named_131 : decode cX9_named 131 = .ok (.aload_n 0, 1) := dk_42 (dk_at dksX9_named_4 23 rfl rfl)
theorem dX9_named_132 : decode cX9_named 132 = .ok (.getfield 28, 3) := dk_180 0 28 (dk_at dksX9_named_5 0 rfl rfl)
theorem dX9_named_135 : decode cX9_named 135 = .ok (.aload_n 0, 1) := dk_42 (dk_at dksX9_named_5 3 rfl rfl)
theorem dX9_named_136 : decode cX9_named 136 = .ok (.getfield 179, 3) := dk_180 0 179 (dk_at dksX9_named_5 4 rfl rfl)
theorem dX9_named_139 : decode cX9_named 139 = .ok (.iaload, 1) := dk_46 (dk_at dksX9_named_5 7 rfl rfl)
theorem dX9_named_140 : decode cX9_named 140 = .ok (.invokestatic 90, 3) := dk_184 0 90 (dk_at dksX9_named_5 8 rfl rfl)
theorem dX9_named_143 : decode cX9_named 143 = .ok (.ireturn, 1) := dk_172 (dk_at dksX9_named_5 11 rfl rfl)
theorem dX9_named_144 : decode cX9_named 144 = .ok (.aload_n 0, 1) := dk_42 (dk_at dksX9_named_5 12 rfl rfl)
theorem dX9_named_145 : decode cX9_named 145 = .ok (.getfield 28, 3) := dk_180 0 28 (dk_at dksX9_named_5 13 rfl rfl)
theorem dX9_named_148 : decode cX9_named 148 = .ok (.aload_n 0, 1) := dk_42 (dk_at dksX9_named_5 16 rfl rfl)
theorem dX9_named_149 : decode cX9_named 149 = .ok (.getfield 179, 3) := dk_180 0 179 (dk_at dksX9_named_5 17 rfl rfl)
theorem dX9_named_152 : decode cX9_named 152 = .ok (.iaload, 1) := dk_46 (dk_at dksX9_named_5 20 rfl rfl)
theorem dX9_named_153 : decode cX9_named 153 = .ok (.ireturn, 1) := dk_172 (dk_at dksX9_named_5 21 rfl rfl)
abbrev cX9_done : ByteArray := prog_33_method_37_code
def yX9_done : MethodName := ⟨RX9, "done", "(III)I"⟩
def dkwX9_done_6 : List UInt8 := [27, 28, 112, 172]
abbrev dktX9_done_6 : List UInt8 := dkwX9_done_6 ++ []
def dkwX9_done_5 : List UInt8 := [27, 28, 104, 172, 28, 154, 0, 7, 3, 167, 0, 6, 27, 28, 108, 172, 28, 154, 0, 7, 3, 167, 0, 6]
abbrev dktX9_done_5 : List UInt8 := dkwX9_done_5 ++ dktX9_done_6
def dkwX9_done_4 : List UInt8 := [167, 0, 4, 3, 172, 27, 28, 164, 0, 7, 4, 167, 0, 4, 3, 172, 27, 28, 96, 172, 27, 28, 100, 172]
abbrev dktX9_done_4 : List UInt8 := dkwX9_done_4 ++ dktX9_done_5
def dkwX9_done_3 : List UInt8 := [167, 0, 4, 3, 172, 27, 28, 162, 0, 7, 4, 167, 0, 4, 3, 172, 27, 28, 160, 0, 7, 4]
abbrev dktX9_done_3 : List UInt8 := dkwX9_done_3 ++ dktX9_done_4
def dkwX9_done_2 : List UInt8 := [27, 154, 0, 7, 28, 153, 0, 7, 4, 167, 0, 4, 3, 172, 27, 153, 0, 11, 28, 153, 0, 7, 4]
abbrev dktX9_done_2 : List UInt8 := dkwX9_done_2 ++ dktX9_done_3
def dkwX9_done_1 : List UInt8 := [170, 0, 0, 0, 0, 0, 136, 0, 0, 78, 32, 0, 0, 78, 40, 0, 0, 0, 51, 0, 0, 0, 65, 0, 0, 0, 79, 0, 0, 0, 90, 0, 0, 0, 101, 0, 0, 0, 112, 0, 0, 0, 116, 0, 0, 0, 120, 0, 0, 0, 124]
abbrev dktX9_done_1 : List UInt8 := dkwX9_done_1 ++ dktX9_done_2
def dkwX9_done_0 : List UInt8 := [26]
abbrev dktX9_done_0 : List UInt8 := dkwX9_done_0 ++ dktX9_done_1
theorem dksX9_done_0 : cX9_done.data.toList.drop 0 = dktX9_done_0 := by decide +kernel
theorem dksX9_done_1 : cX9_done.data.toList.drop 1 = dktX9_done_1 := dk_seg dksX9_done_0 1 rfl rfl
theorem dksX9_done_2 : cX9_done.data.toList.drop 52 = dktX9_done_2 := dk_seg dksX9_done_1 51 rfl rfl
theorem dksX9_done_3 : cX9_done.data.toList.drop 75 = dktX9_done_3 := dk_seg dksX9_done_2 23 rfl rfl
theorem dksX9_done_4 : cX9_done.data.toList.drop 97 = dktX9_done_4 := dk_seg dksX9_done_3 22 rfl rfl
theorem dksX9_done_5 : cX9_done.data.toList.drop 121 = dktX9_done_5 := dk_seg dksX9_done_4 24 rfl rfl
theorem dksX9_done_6 : cX9_done.data.toList.drop 145 = dktX9_done_6 := dk_seg dksX9_done_5 24 rfl rfl
theorem dX9_done_0 : decode cX9_done 0 = .ok (.iload_n 0, 1) := dk_26 (dk_at dksX9_done_0 0 rfl rfl)
theorem dX9_done_1 : decode cX9_done 1 = .ok (.tableswitch 136 20000 20008 #[51, 65, 79, 90, 101, 112, 116, 120, 124], 51) := by decide +kernel
theorem dX9_done_52 : decode cX9_done 52 = .ok (.iload_n 1, 1) := dk_27 (dk_at dksX9_done_2 0 rfl rfl)
theorem dX9_done_53 : decode cX9_done 53 = .ok (.ifCond .ne 7, 3) := dk_154 0 7 (dk_at dksX9_done_2 1 rfl rfl)
theorem dX9_done_56 : decode cX9_done 56 = .ok (.iload_n 2, 1) := dk_28 (dk_at dksX9_done_2 4 rfl rfl)
theorem dX9_done_57 : decode cX9_done 57 = .ok (.ifCond .eq 7, 3) := dk_153 0 7 (dk_at dksX9_done_2 5 rfl rfl)
theorem dX9_done_60 : decode cX9_done 60 = .ok (.iconst 1, 1) := dk_4 (dk_at dksX9_done_2 8 rfl rfl)
theorem dX9_done_61 : decode cX9_done 61 = .ok (.goto 4, 3) := dk_167 0 4 (dk_at dksX9_done_2 9 rfl rfl)
theorem dX9_done_64 : decode cX9_done 64 = .ok (.iconst 0, 1) := dk_3 (dk_at dksX9_done_2 12 rfl rfl)
theorem dX9_done_65 : decode cX9_done 65 = .ok (.ireturn, 1) := dk_172 (dk_at dksX9_done_2 13 rfl rfl)
theorem dX9_done_66 : decode cX9_done 66 = .ok (.iload_n 1, 1) := dk_27 (dk_at dksX9_done_2 14 rfl rfl)
theorem dX9_done_67 : decode cX9_done 67 = .ok (.ifCond .eq 11, 3) := dk_153 0 11 (dk_at dksX9_done_2 15 rfl rfl)
theorem dX9_done_70 : decode cX9_done 70 = .ok (.iload_n 2, 1) := dk_28 (dk_at dksX9_done_2 18 rfl rfl)
theorem dX9_done_71 : decode cX9_done 71 = .ok (.ifCond .eq 7, 3) := dk_153 0 7 (dk_at dksX9_done_2 19 rfl rfl)
theorem dX9_done_74 : decode cX9_done 74 = .ok (.iconst 1, 1) := dk_4 (dk_at dksX9_done_2 22 rfl rfl)
theorem dX9_done_75 : decode cX9_done 75 = .ok (.goto 4, 3) := dk_167 0 4 (dk_at dksX9_done_3 0 rfl rfl)
theorem dX9_done_78 : decode cX9_done 78 = .ok (.iconst 0, 1) := dk_3 (dk_at dksX9_done_3 3 rfl rfl)
theorem dX9_done_79 : decode cX9_done 79 = .ok (.ireturn, 1) := dk_172 (dk_at dksX9_done_3 4 rfl rfl)
theorem dX9_done_80 : decode cX9_done 80 = .ok (.iload_n 1, 1) := dk_27 (dk_at dksX9_done_3 5 rfl rfl)
theorem dX9_done_81 : decode cX9_done 81 = .ok (.iload_n 2, 1) := dk_28 (dk_at dksX9_done_3 6 rfl rfl)
theorem dX9_done_82 : decode cX9_done 82 = .ok (.if_icmp .ge 7, 3) := dk_162 0 7 (dk_at dksX9_done_3 7 rfl rfl)
theorem dX9_done_85 : decode cX9_done 85 = .ok (.iconst 1, 1) := dk_4 (dk_at dksX9_done_3 10 rfl rfl)
theorem dX9_done_86 : decode cX9_done 86 = .ok (.goto 4, 3) := dk_167 0 4 (dk_at dksX9_done_3 11 rfl rfl)
theorem dX9_done_89 : decode cX9_done 89 = .ok (.iconst 0, 1) := dk_3 (dk_at dksX9_done_3 14 rfl rfl)
theorem dX9_done_90 : decode cX9_done 90 = .ok (.ireturn, 1) := dk_172 (dk_at dksX9_done_3 15 rfl rfl)
theorem dX9_done_91 : decode cX9_done 91 = .ok (.iload_n 1, 1) := dk_27 (dk_at dksX9_done_3 16 rfl rfl)
theorem dX9_done_92 : decode cX9_done 92 = .ok (.iload_n 2, 1) := dk_28 (dk_at dksX9_done_3 17 rfl rfl)
theorem dX9_done_93 : decode cX9_done 93 = .ok (.if_icmp .ne 7, 3) := dk_160 0 7 (dk_at dksX9_done_3 18 rfl rfl)
theorem dX9_done_96 : decode cX9_done 96 = .ok (.iconst 1, 1) := dk_4 (dk_at dksX9_done_3 21 rfl rfl)
theorem dX9_done_97 : decode cX9_done 97 = .ok (.goto 4, 3) := dk_167 0 4 (dk_at dksX9_done_4 0 rfl rfl)
theorem dX9_done_100 : decode cX9_done 100 = .ok (.iconst 0, 1) := dk_3 (dk_at dksX9_done_4 3 rfl rfl)
theorem dX9_done_101 : decode cX9_done 101 = .ok (.ireturn, 1) := dk_172 (dk_at dksX9_done_4 4 rfl rfl)
theorem dX9_done_102 : decode cX9_done 102 = .ok (.iload_n 1, 1) := dk_27 (dk_at dksX9_done_4 5 rfl rfl)
theorem dX9_done_103 : decode cX9_done 103 = .ok (.iload_n 2, 1) := dk_28 (dk_at dksX9_done_4 6 rfl rfl)
theorem dX9_done_104 : decode cX9_done 104 = .ok (.if_icmp .le 7, 3) := dk_164 0 7 (dk_at dksX9_done_4 7 rfl rfl)
theorem dX9_done_107 : decode cX9_done 107 = .ok (.iconst 1, 1) := dk_4 (dk_at dksX9_done_4 10 rfl rfl)
theorem dX9_done_108 : decode cX9_done 108 = .ok (.goto 4, 3) := dk_167 0 4 (dk_at dksX9_done_4 11 rfl rfl)
theorem dX9_done_111 : decode cX9_done 111 = .ok (.iconst 0, 1) := dk_3 (dk_at dksX9_done_4 14 rfl rfl)
theorem dX9_done_112 : decode cX9_done 112 = .ok (.ireturn, 1) := dk_172 (dk_at dksX9_done_4 15 rfl rfl)
theorem dX9_done_113 : decode cX9_done 113 = .ok (.iload_n 1, 1) := dk_27 (dk_at dksX9_done_4 16 rfl rfl)
theorem dX9_done_114 : decode cX9_done 114 = .ok (.iload_n 2, 1) := dk_28 (dk_at dksX9_done_4 17 rfl rfl)
theorem dX9_done_115 : decode cX9_done 115 = .ok (.iadd, 1) := dk_96 (dk_at dksX9_done_4 18 rfl rfl)
theorem dX9_done_116 : decode cX9_done 116 = .ok (.ireturn, 1) := dk_172 (dk_at dksX9_done_4 19 rfl rfl)
theorem dX9_done_117 : decode cX9_done 117 = .ok (.iload_n 1, 1) := dk_27 (dk_at dksX9_done_4 20 rfl rfl)
theorem dX9_done_118 : decode cX9_done 118 = .ok (.iload_n 2, 1) := dk_28 (dk_at dksX9_done_4 21 rfl rfl)
theorem dX9_done_119 : decode cX9_done 119 = .ok (.isub, 1) := dk_100 (dk_at dksX9_done_4 22 rfl rfl)
theorem dX9_done_120 : decode cX9_done 120 = .ok (.ireturn, 1) := dk_172 (dk_at dksX9_done_4 23 rfl rfl)
theorem dX9_done_121 : decode cX9_done 121 = .ok (.iload_n 1, 1) := dk_27 (dk_at dksX9_done_5 0 rfl rfl)
theorem dX9_done_122 : decode cX9_done 122 = .ok (.iload_n 2, 1) := dk_28 (dk_at dksX9_done_5 1 rfl rfl)
theorem dX9_done_123 : decode cX9_done 123 = .ok (.imul, 1) := dk_104 (dk_at dksX9_done_5 2 rfl rfl)
theorem dX9_done_124 : decode cX9_done 124 = .ok (.ireturn, 1) := dk_172 (dk_at dksX9_done_5 3 rfl rfl)
theorem dX9_done_125 : decode cX9_done 125 = .ok (.iload_n 2, 1) := dk_28 (dk_at dksX9_done_5 4 rfl rfl)
theorem dX9_done_126 : decode cX9_done 126 = .ok (.ifCond .ne 7, 3) := dk_154 0 7 (dk_at dksX9_done_5 5 rfl rfl)
theorem dX9_done_129 : decode cX9_done 129 = .ok (.iconst 0, 1) := dk_3 (dk_at dksX9_done_5 8 rfl rfl)
theorem dX9_done_130 : decode cX9_done 130 = .ok (.goto 6, 3) := dk_167 0 6 (dk_at dksX9_done_5 9 rfl rfl)
theorem dX9_done_133 : decode cX9_done 133 = .ok (.iload_n 1, 1) := dk_27 (dk_at dksX9_done_5 12 rfl rfl)
theorem dX9_done_134 : decode cX9_done 134 = .ok (.iload_n 2, 1) := dk_28 (dk_at dksX9_done_5 13 rfl rfl)
theorem dX9_done_135 : decode cX9_done 135 = .ok (.idiv, 1) := dk_108 (dk_at dksX9_done_5 14 rfl rfl)
theorem dX9_done_136 : decode cX9_done 136 = .ok (.ireturn, 1) := dk_172 (dk_at dksX9_done_5 15 rfl rfl)
theorem dX9_done_137 : decode cX9_done 137 = .ok (.iload_n 2, 1) := dk_28 (dk_at dksX9_done_5 16 rfl rfl)
theorem dX9_done_138 : decode cX9_done 138 = .ok (.ifCond .ne 7, 3) := dk_154 0 7 (dk_at dksX9_done_5 17 rfl rfl)
theorem dX9_done_141 : decode cX9_done 141 = .ok (.iconst 0, 1) := dk_3 (dk_at dksX9_done_5 20 rfl rfl)
theorem dX9_done_142 : decode cX9_done 142 = .ok (.goto 6, 3) := dk_167 0 6 (dk_at dksX9_done_5 21 rfl rfl)
theorem dX9_done_145 : decode cX9_done 145 = .ok (.iload_n 1, 1) := dk_27 (dk_at dksX9_done_6 0 rfl rfl)
theorem dX9_done_146 : decode cX9_done 146 = .ok (.iload_n 2, 1) := dk_28 (dk_at dksX9_done_6 1 rfl rfl)
theorem dX9_done_147 : decode cX9_done 147 = .ok (.irem, 1) := dk_112 (dk_at dksX9_done_6 2 rfl rfl)
theorem dX9_done_148 : decode cX9_done 148 = .ok (.ireturn, 1) := dk_172 (dk_at dksX9_done_6 3 rfl rfl)
abbrev cX9_price : ByteArray := prog_33_method_42_code
def yX9_price : MethodName := ⟨RX9, "price", "(II)I"⟩
def dkwX9_price_1 : List UInt8 := [172, 42, 180, 0, 9, 16, 30, 27, 96, 46, 62, 42, 180, 0, 9, 16, 30, 27, 96, 28, 79, 29, 172]
abbrev dktX9_price_1 : List UInt8 := dkwX9_price_1 ++ []
def dkwX9_price_0 : List UInt8 := [42, 27, 182, 0, 204, 153, 0, 13, 28, 3, 16, 99, 184, 0, 94, 154, 0, 10, 42, 18, 105, 182, 0, 106]
abbrev dktX9_price_0 : List UInt8 := dkwX9_price_0 ++ dktX9_price_1
theorem dksX9_price_0 : cX9_price.data.toList.drop 0 = dktX9_price_0 := by decide +kernel
theorem dksX9_price_1 : cX9_price.data.toList.drop 24 = dktX9_price_1 := dk_seg dksX9_price_0 24 rfl rfl
theorem dX9_price_0 : decode cX9_price 0 = .ok (.aload_n 0, 1) := dk_42 (dk_at dksX9_price_0 0 rfl rfl)
theorem dX9_price_1 : decode cX9_price 1 = .ok (.iload_n 1, 1) := dk_27 (dk_at dksX9_price_0 1 rfl rfl)
theorem dX9_price_2 : decode cX9_price 2 = .ok (.invokevirtual 204, 3) := dk_182 0 204 (dk_at dksX9_price_0 2 rfl rfl)
theorem dX9_price_5 : decode cX9_price 5 = .ok (.ifCond .eq 13, 3) := dk_153 0 13 (dk_at dksX9_price_0 5 rfl rfl)
theorem dX9_price_8 : decode cX9_price 8 = .ok (.iload_n 2, 1) := dk_28 (dk_at dksX9_price_0 8 rfl rfl)
theorem dX9_price_9 : decode cX9_price 9 = .ok (.iconst 0, 1) := dk_3 (dk_at dksX9_price_0 9 rfl rfl)
theorem dX9_price_10 : decode cX9_price 10 = .ok (.bipush 99, 2) := dk_16 99 (dk_at dksX9_price_0 10 rfl rfl)
theorem dX9_price_12 : decode cX9_price 12 = .ok (.invokestatic 94, 3) := dk_184 0 94 (dk_at dksX9_price_0 12 rfl rfl)
theorem dX9_price_15 : decode cX9_price 15 = .ok (.ifCond .ne 10, 3) := dk_154 0 10 (dk_at dksX9_price_0 15 rfl rfl)
theorem dX9_price_18 : decode cX9_price 18 = .ok (.aload_n 0, 1) := dk_42 (dk_at dksX9_price_0 18 rfl rfl)
theorem dX9_price_19 : decode cX9_price 19 = .ok (.ldc 105, 2) := dk_18 105 (dk_at dksX9_price_0 19 rfl rfl)
theorem dX9_price_21 : decode cX9_price 21 = .ok (.invokevirtual 106, 3) := dk_182 0 106 (dk_at dksX9_price_0 21 rfl rfl)
theorem dX9_price_24 : decode cX9_price 24 = .ok (.ireturn, 1) := dk_172 (dk_at dksX9_price_1 0 rfl rfl)
theorem dX9_price_25 : decode cX9_price 25 = .ok (.aload_n 0, 1) := dk_42 (dk_at dksX9_price_1 1 rfl rfl)
theorem dX9_price_26 : decode cX9_price 26 = .ok (.getfield 9, 3) := dk_180 0 9 (dk_at dksX9_price_1 2 rfl rfl)
theorem dX9_price_29 : decode cX9_price 29 = .ok (.bipush 30, 2) := dk_16 30 (dk_at dksX9_price_1 5 rfl rfl)
theorem dX9_price_31 : decode cX9_price 31 = .ok (.iload_n 1, 1) := dk_27 (dk_at dksX9_price_1 7 rfl rfl)
theorem dX9_price_32 : decode cX9_price 32 = .ok (.iadd, 1) := dk_96 (dk_at dksX9_price_1 8 rfl rfl)
theorem dX9_price_33 : decode cX9_price 33 = .ok (.iaload, 1) := dk_46 (dk_at dksX9_price_1 9 rfl rfl)
theorem dX9_price_34 : decode cX9_price 34 = .ok (.istore_n 3, 1) := dk_62 (dk_at dksX9_price_1 10 rfl rfl)
theorem dX9_price_35 : decode cX9_price 35 = .ok (.aload_n 0, 1) := dk_42 (dk_at dksX9_price_1 11 rfl rfl)
theorem dX9_price_36 : decode cX9_price 36 = .ok (.getfield 9, 3) := dk_180 0 9 (dk_at dksX9_price_1 12 rfl rfl)
theorem dX9_price_39 : decode cX9_price 39 = .ok (.bipush 30, 2) := dk_16 30 (dk_at dksX9_price_1 15 rfl rfl)
theorem dX9_price_41 : decode cX9_price 41 = .ok (.iload_n 1, 1) := dk_27 (dk_at dksX9_price_1 17 rfl rfl)
theorem dX9_price_42 : decode cX9_price 42 = .ok (.iadd, 1) := dk_96 (dk_at dksX9_price_1 18 rfl rfl)
theorem dX9_price_43 : decode cX9_price 43 = .ok (.iload_n 2, 1) := dk_28 (dk_at dksX9_price_1 19 rfl rfl)
theorem dX9_price_44 : decode cX9_price 44 = .ok (.iastore, 1) := dk_79 (dk_at dksX9_price_1 20 rfl rfl)
theorem dX9_price_45 : decode cX9_price 45 = .ok (.iload_n 3, 1) := dk_29 (dk_at dksX9_price_1 21 rfl rfl)
theorem dX9_price_46 : decode cX9_price 46 = .ok (.ireturn, 1) := dk_172 (dk_at dksX9_price_1 22 rfl rfl)
abbrev cX9_isLaw : ByteArray := prog_33_method_11_code
def yX9_isLaw : MethodName := ⟨RX9, "isLaw", "(I)Z"⟩
def dkwX9_isLaw_0 : List UInt8 := [27, 3, 42, 180, 0, 9, 3, 46, 4, 100, 184, 0, 94, 172]
abbrev dktX9_isLaw_0 : List UInt8 := dkwX9_isLaw_0 ++ []
theorem dksX9_isLaw_0 : cX9_isLaw.data.toList.drop 0 = dktX9_isLaw_0 := by decide +kernel
theorem dX9_isLaw_0 : decode cX9_isLaw 0 = .ok (.iload_n 1, 1) := dk_27 (dk_at dksX9_isLaw_0 0 rfl rfl)
theorem dX9_isLaw_1 : decode cX9_isLaw 1 = .ok (.iconst 0, 1) := dk_3 (dk_at dksX9_isLaw_0 1 rfl rfl)
theorem dX9_isLaw_2 : decode cX9_isLaw 2 = .ok (.aload_n 0, 1) := dk_42 (dk_at dksX9_isLaw_0 2 rfl rfl)
theorem dX9_isLaw_3 : decode cX9_isLaw 3 = .ok (.getfield 9, 3) := dk_180 0 9 (dk_at dksX9_isLaw_0 3 rfl rfl)
theorem dX9_isLaw_6 : decode cX9_isLaw 6 = .ok (.iconst 0, 1) := dk_3 (dk_at dksX9_isLaw_0 6 rfl rfl)
theorem dX9_isLaw_7 : decode cX9_isLaw 7 = .ok (.iaload, 1) := dk_46 (dk_at dksX9_isLaw_0 7 rfl rfl)
theorem dX9_isLaw_8 : decode cX9_isLaw 8 = .ok (.iconst 1, 1) := dk_4 (dk_at dksX9_isLaw_0 8 rfl rfl)
theorem dX9_isLaw_9 : decode cX9_isLaw 9 = .ok (.isub, 1) := dk_100 (dk_at dksX9_isLaw_0 9 rfl rfl)
theorem dX9_isLaw_10 : decode cX9_isLaw 10 = .ok (.invokestatic 94, 3) := dk_184 0 94 (dk_at dksX9_isLaw_0 10 rfl rfl)
theorem dX9_isLaw_13 : decode cX9_isLaw 13 = .ok (.ireturn, 1) := dk_172 (dk_at dksX9_isLaw_0 13 rfl rfl)
abbrev cX9_as : ByteArray := prog_33_method_44_code
def yX9_as : MethodName := ⟨RX9, "as", "(II)I"⟩
def dkwX9_as_2 : List UInt8 := [156, 0, 12, 42, 18, 124, 182, 0, 106, 167, 0, 8, 42, 27, 182, 0, 210, 172]
abbrev dktX9_as_2 : List UInt8 := dkwX9_as_2 ++ []
def dkwX9_as_1 : List UInt8 := [42, 27, 182, 0, 98, 62, 29, 155, 0, 16, 29, 28, 159, 0, 11, 29, 184, 0, 207, 62, 167, 255, 242, 29]
abbrev dktX9_as_1 : List UInt8 := dkwX9_as_1 ++ dktX9_as_2
def dkwX9_as_0 : List UInt8 := [42, 27, 182, 0, 204, 153, 0, 12, 28, 3, 8, 184, 0, 94, 154, 0, 10, 42, 18, 105, 182, 0, 106, 172]
abbrev dktX9_as_0 : List UInt8 := dkwX9_as_0 ++ dktX9_as_1
theorem dksX9_as_0 : cX9_as.data.toList.drop 0 = dktX9_as_0 := by decide +kernel
theorem dksX9_as_1 : cX9_as.data.toList.drop 24 = dktX9_as_1 := dk_seg dksX9_as_0 24 rfl rfl
theorem dksX9_as_2 : cX9_as.data.toList.drop 48 = dktX9_as_2 := dk_seg dksX9_as_1 24 rfl rfl
theorem dX9_as_0 : decode cX9_as 0 = .ok (.aload_n 0, 1) := dk_42 (dk_at dksX9_as_0 0 rfl rfl)
theorem dX9_as_1 : decode cX9_as 1 = .ok (.iload_n 1, 1) := dk_27 (dk_at dksX9_as_0 1 rfl rfl)
theorem dX9_as_2 : decode cX9_as 2 = .ok (.invokevirtual 204, 3) := dk_182 0 204 (dk_at dksX9_as_0 2 rfl rfl)
theorem dX9_as_5 : decode cX9_as 5 = .ok (.ifCond .eq 12, 3) := dk_153 0 12 (dk_at dksX9_as_0 5 rfl rfl)
theorem dX9_as_8 : decode cX9_as 8 = .ok (.iload_n 2, 1) := dk_28 (dk_at dksX9_as_0 8 rfl rfl)
theorem dX9_as_9 : decode cX9_as 9 = .ok (.iconst 0, 1) := dk_3 (dk_at dksX9_as_0 9 rfl rfl)
theorem dX9_as_10 : decode cX9_as 10 = .ok (.iconst 5, 1) := dk_8 (dk_at dksX9_as_0 10 rfl rfl)
theorem dX9_as_11 : decode cX9_as 11 = .ok (.invokestatic 94, 3) := dk_184 0 94 (dk_at dksX9_as_0 11 rfl rfl)
theorem dX9_as_14 : decode cX9_as 14 = .ok (.ifCond .ne 10, 3) := dk_154 0 10 (dk_at dksX9_as_0 14 rfl rfl)
theorem dX9_as_17 : decode cX9_as 17 = .ok (.aload_n 0, 1) := dk_42 (dk_at dksX9_as_0 17 rfl rfl)
theorem dX9_as_18 : decode cX9_as 18 = .ok (.ldc 105, 2) := dk_18 105 (dk_at dksX9_as_0 18 rfl rfl)
theorem dX9_as_20 : decode cX9_as 20 = .ok (.invokevirtual 106, 3) := dk_182 0 106 (dk_at dksX9_as_0 20 rfl rfl)
theorem dX9_as_23 : decode cX9_as 23 = .ok (.ireturn, 1) := dk_172 (dk_at dksX9_as_0 23 rfl rfl)
theorem dX9_as_24 : decode cX9_as 24 = .ok (.aload_n 0, 1) := dk_42 (dk_at dksX9_as_1 0 rfl rfl)
theorem dX9_as_25 : decode cX9_as 25 = .ok (.iload_n 1, 1) := dk_27 (dk_at dksX9_as_1 1 rfl rfl)
theorem dX9_as_26 : decode cX9_as 26 = .ok (.invokevirtual 98, 3) := dk_182 0 98 (dk_at dksX9_as_1 2 rfl rfl)
theorem dX9_as_29 : decode cX9_as 29 = .ok (.istore_n 3, 1) := dk_62 (dk_at dksX9_as_1 5 rfl rfl)
theorem dX9_as_30 : decode cX9_as 30 = .ok (.iload_n 3, 1) := dk_29 (dk_at dksX9_as_1 6 rfl rfl)
theorem dX9_as_31 : decode cX9_as 31 = .ok (.ifCond .lt 16, 3) := dk_155 0 16 (dk_at dksX9_as_1 7 rfl rfl)
theorem dX9_as_34 : decode cX9_as 34 = .ok (.iload_n 3, 1) := dk_29 (dk_at dksX9_as_1 10 rfl rfl)
theorem dX9_as_35 : decode cX9_as 35 = .ok (.iload_n 2, 1) := dk_28 (dk_at dksX9_as_1 11 rfl rfl)
theorem dX9_as_36 : decode cX9_as 36 = .ok (.if_icmp .eq 11, 3) := dk_159 0 11 (dk_at dksX9_as_1 12 rfl rfl)
theorem dX9_as_39 : decode cX9_as 39 = .ok (.iload_n 3, 1) := dk_29 (dk_at dksX9_as_1 15 rfl rfl)
theorem dX9_as_40 : decode cX9_as 40 = .ok (.invokestatic 207, 3) := dk_184 0 207 (dk_at dksX9_as_1 16 rfl rfl)
theorem dX9_as_43 : decode cX9_as 43 = .ok (.istore_n 3, 1) := dk_62 (dk_at dksX9_as_1 19 rfl rfl)
theorem dX9_as_44 : decode cX9_as 44 = .ok (.goto (-14), 3) := dk_167 255 242 (dk_at dksX9_as_1 20 rfl rfl)
theorem dX9_as_47 : decode cX9_as 47 = .ok (.iload_n 3, 1) := dk_29 (dk_at dksX9_as_1 23 rfl rfl)
theorem dX9_as_48 : decode cX9_as 48 = .ok (.ifCond .ge 12, 3) := dk_156 0 12 (dk_at dksX9_as_2 0 rfl rfl)
theorem dX9_as_51 : decode cX9_as 51 = .ok (.aload_n 0, 1) := dk_42 (dk_at dksX9_as_2 3 rfl rfl)
theorem dX9_as_52 : decode cX9_as 52 = .ok (.ldc 124, 2) := dk_18 124 (dk_at dksX9_as_2 4 rfl rfl)
theorem dX9_as_54 : decode cX9_as 54 = .ok (.invokevirtual 106, 3) := dk_182 0 106 (dk_at dksX9_as_2 6 rfl rfl)
theorem dX9_as_57 : decode cX9_as 57 = .ok (.goto 8, 3) := dk_167 0 8 (dk_at dksX9_as_2 9 rfl rfl)
theorem dX9_as_60 : decode cX9_as 60 = .ok (.aload_n 0, 1) := dk_42 (dk_at dksX9_as_2 12 rfl rfl)
theorem dX9_as_61 : decode cX9_as 61 = .ok (.iload_n 1, 1) := dk_27 (dk_at dksX9_as_2 13 rfl rfl)
theorem dX9_as_62 : decode cX9_as 62 = .ok (.invokevirtual 210, 3) := dk_182 0 210 (dk_at dksX9_as_2 14 rfl rfl)
theorem dX9_as_65 : decode cX9_as 65 = .ok (.ireturn, 1) := dk_172 (dk_at dksX9_as_2 17 rfl rfl)
abbrev cX9_kindOf : ByteArray := prog_33_method_14_code
def yX9_kindOf : MethodName := ⟨RX9, "kindOf", "(I)I"⟩
def dkwX9_kindOf_0 : List UInt8 := [42, 180, 0, 9, 16, 22, 27, 96, 46, 172]
abbrev dktX9_kindOf_0 : List UInt8 := dkwX9_kindOf_0 ++ []
theorem dksX9_kindOf_0 : cX9_kindOf.data.toList.drop 0 = dktX9_kindOf_0 := by decide +kernel
theorem dX9_kindOf_0 : decode cX9_kindOf 0 = .ok (.aload_n 0, 1) := dk_42 (dk_at dksX9_kindOf_0 0 rfl rfl)
theorem dX9_kindOf_1 : decode cX9_kindOf 1 = .ok (.getfield 9, 3) := dk_180 0 9 (dk_at dksX9_kindOf_0 1 rfl rfl)
theorem dX9_kindOf_4 : decode cX9_kindOf 4 = .ok (.bipush 22, 2) := dk_16 22 (dk_at dksX9_kindOf_0 4 rfl rfl)
theorem dX9_kindOf_6 : decode cX9_kindOf 6 = .ok (.iload_n 1, 1) := dk_27 (dk_at dksX9_kindOf_0 6 rfl rfl)
theorem dX9_kindOf_7 : decode cX9_kindOf 7 = .ok (.iadd, 1) := dk_96 (dk_at dksX9_kindOf_0 7 rfl rfl)
theorem dX9_kindOf_8 : decode cX9_kindOf 8 = .ok (.iaload, 1) := dk_46 (dk_at dksX9_kindOf_0 8 rfl rfl)
theorem dX9_kindOf_9 : decode cX9_kindOf 9 = .ok (.ireturn, 1) := dk_172 (dk_at dksX9_kindOf_0 9 rfl rfl)
abbrev cX9_above : ByteArray := prog_33_method_43_code
def yX9_above : MethodName := ⟨RX9, "above", "(I)I"⟩
def dkwX9_above_0 : List UInt8 := [26, 154, 0, 7, 2, 167, 0, 18, 26, 4, 159, 0, 8, 26, 8, 160, 0, 7, 3, 167, 0, 4, 4, 172]
abbrev dktX9_above_0 : List UInt8 := dkwX9_above_0 ++ []
theorem dksX9_above_0 : cX9_above.data.toList.drop 0 = dktX9_above_0 := by decide +kernel
theorem dX9_above_0 : decode cX9_above 0 = .ok (.iload_n 0, 1) := dk_26 (dk_at dksX9_above_0 0 rfl rfl)
theorem dX9_above_1 : decode cX9_above 1 = .ok (.ifCond .ne 7, 3) := dk_154 0 7 (dk_at dksX9_above_0 1 rfl rfl)
theorem dX9_above_4 : decode cX9_above 4 = .ok (.iconst (-1), 1) := dk_2 (dk_at dksX9_above_0 4 rfl rfl)
theorem dX9_above_5 : decode cX9_above 5 = .ok (.goto 18, 3) := dk_167 0 18 (dk_at dksX9_above_0 5 rfl rfl)
theorem dX9_above_8 : decode cX9_above 8 = .ok (.iload_n 0, 1) := dk_26 (dk_at dksX9_above_0 8 rfl rfl)
theorem dX9_above_9 : decode cX9_above 9 = .ok (.iconst 1, 1) := dk_4 (dk_at dksX9_above_0 9 rfl rfl)
theorem dX9_above_10 : decode cX9_above 10 = .ok (.if_icmp .eq 8, 3) := dk_159 0 8 (dk_at dksX9_above_0 10 rfl rfl)
theorem dX9_above_13 : decode cX9_above 13 = .ok (.iload_n 0, 1) := dk_26 (dk_at dksX9_above_0 13 rfl rfl)
theorem dX9_above_14 : decode cX9_above 14 = .ok (.iconst 5, 1) := dk_8 (dk_at dksX9_above_0 14 rfl rfl)
theorem dX9_above_15 : decode cX9_above 15 = .ok (.if_icmp .ne 7, 3) := dk_160 0 7 (dk_at dksX9_above_0 15 rfl rfl)
theorem dX9_above_18 : decode cX9_above 18 = .ok (.iconst 0, 1) := dk_3 (dk_at dksX9_above_0 18 rfl rfl)
theorem dX9_above_19 : decode cX9_above 19 = .ok (.goto 4, 3) := dk_167 0 4 (dk_at dksX9_above_0 19 rfl rfl)
theorem dX9_above_22 : decode cX9_above 22 = .ok (.iconst 1, 1) := dk_4 (dk_at dksX9_above_0 22 rfl rfl)
theorem dX9_above_23 : decode cX9_above 23 = .ok (.ireturn, 1) := dk_172 (dk_at dksX9_above_0 23 rfl rfl)
abbrev cX9_casesOf : ByteArray := prog_33_method_15_code
def yX9_casesOf : MethodName := ⟨RX9, "casesOf", "(I)I"⟩
def dkwX9_casesOf_0 : List UInt8 := [42, 180, 0, 19, 42, 27, 182, 0, 98, 4, 96, 46, 42, 180, 0, 19, 42, 27, 182, 0, 98, 46, 100, 172]
abbrev dktX9_casesOf_0 : List UInt8 := dkwX9_casesOf_0 ++ []
theorem dksX9_casesOf_0 : cX9_casesOf.data.toList.drop 0 = dktX9_casesOf_0 := by decide +kernel
theorem dX9_casesOf_0 : decode cX9_casesOf 0 = .ok (.aload_n 0, 1) := dk_42 (dk_at dksX9_casesOf_0 0 rfl rfl)
theorem dX9_casesOf_1 : decode cX9_casesOf 1 = .ok (.getfield 19, 3) := dk_180 0 19 (dk_at dksX9_casesOf_0 1 rfl rfl)
theorem dX9_casesOf_4 : decode cX9_casesOf 4 = .ok (.aload_n 0, 1) := dk_42 (dk_at dksX9_casesOf_0 4 rfl rfl)
theorem dX9_casesOf_5 : decode cX9_casesOf 5 = .ok (.iload_n 1, 1) := dk_27 (dk_at dksX9_casesOf_0 5 rfl rfl)
theorem dX9_casesOf_6 : decode cX9_casesOf 6 = .ok (.invokevirtual 98, 3) := dk_182 0 98 (dk_at dksX9_casesOf_0 6 rfl rfl)
theorem dX9_casesOf_9 : decode cX9_casesOf 9 = .ok (.iconst 1, 1) := dk_4 (dk_at dksX9_casesOf_0 9 rfl rfl)
theorem dX9_casesOf_10 : decode cX9_casesOf 10 = .ok (.iadd, 1) := dk_96 (dk_at dksX9_casesOf_0 10 rfl rfl)
theorem dX9_casesOf_11 : decode cX9_casesOf 11 = .ok (.iaload, 1) := dk_46 (dk_at dksX9_casesOf_0 11 rfl rfl)
theorem dX9_casesOf_12 : decode cX9_casesOf 12 = .ok (.aload_n 0, 1) := dk_42 (dk_at dksX9_casesOf_0 12 rfl rfl)
theorem dX9_casesOf_13 : decode cX9_casesOf 13 = .ok (.getfield 19, 3) := dk_180 0 19 (dk_at dksX9_casesOf_0 13 rfl rfl)
theorem dX9_casesOf_16 : decode cX9_casesOf 16 = .ok (.aload_n 0, 1) := dk_42 (dk_at dksX9_casesOf_0 16 rfl rfl)
theorem dX9_casesOf_17 : decode cX9_casesOf 17 = .ok (.iload_n 1, 1) := dk_27 (dk_at dksX9_casesOf_0 17 rfl rfl)
theorem dX9_casesOf_18 : decode cX9_casesOf 18 = .ok (.invokevirtual 98, 3) := dk_182 0 98 (dk_at dksX9_casesOf_0 18 rfl rfl)
theorem dX9_casesOf_21 : decode cX9_casesOf 21 = .ok (.iaload, 1) := dk_46 (dk_at dksX9_casesOf_0 21 rfl rfl)
theorem dX9_casesOf_22 : decode cX9_casesOf 22 = .ok (.isub, 1) := dk_100 (dk_at dksX9_casesOf_0 22 rfl rfl)
theorem dX9_casesOf_23 : decode cX9_casesOf 23 = .ok (.ireturn, 1) := dk_172 (dk_at dksX9_casesOf_0 23 rfl rfl)
abbrev cX9_part : ByteArray := prog_33_method_48_code
def yX9_part : MethodName := ⟨RX9, "part", "(III)I"⟩
def dkwX9_part_2 : List UInt8 := [182, 0, 223, 167, 0, 9, 42, 18, 112, 182, 0, 106, 172]
abbrev dktX9_part_2 : List UInt8 := dkwX9_part_2 ++ []
def dkwX9_part_1 : List UInt8 := [172, 29, 154, 0, 10, 42, 27, 28, 182, 0, 217, 172, 42, 27, 182, 0, 220, 153, 0, 12, 42, 27, 28]
abbrev dktX9_part_1 : List UInt8 := dkwX9_part_1 ++ dktX9_part_2
def dkwX9_part_0 : List UInt8 := [42, 27, 28, 182, 0, 213, 153, 0, 12, 29, 3, 4, 184, 0, 94, 154, 0, 10, 42, 18, 105, 182, 0, 106]
abbrev dktX9_part_0 : List UInt8 := dkwX9_part_0 ++ dktX9_part_1
theorem dksX9_part_0 : cX9_part.data.toList.drop 0 = dktX9_part_0 := by decide +kernel
theorem dksX9_part_1 : cX9_part.data.toList.drop 24 = dktX9_part_1 := dk_seg dksX9_part_0 24 rfl rfl
theorem dksX9_part_2 : cX9_part.data.toList.drop 47 = dktX9_part_2 := dk_seg dksX9_part_1 23 rfl rfl
theorem dX9_part_0 : decode cX9_part 0 = .ok (.aload_n 0, 1) := dk_42 (dk_at dksX9_part_0 0 rfl rfl)
theorem dX9_part_1 : decode cX9_part 1 = .ok (.iload_n 1, 1) := dk_27 (dk_at dksX9_part_0 1 rfl rfl)
theorem dX9_part_2 : decode cX9_part 2 = .ok (.iload_n 2, 1) := dk_28 (dk_at dksX9_part_0 2 rfl rfl)
theorem dX9_part_3 : decode cX9_part 3 = .ok (.invokevirtual 213, 3) := dk_182 0 213 (dk_at dksX9_part_0 3 rfl rfl)
theorem dX9_part_6 : decode cX9_part 6 = .ok (.ifCond .eq 12, 3) := dk_153 0 12 (dk_at dksX9_part_0 6 rfl rfl)
theorem dX9_part_9 : decode cX9_part 9 = .ok (.iload_n 3, 1) := dk_29 (dk_at dksX9_part_0 9 rfl rfl)
theorem dX9_part_10 : decode cX9_part 10 = .ok (.iconst 0, 1) := dk_3 (dk_at dksX9_part_0 10 rfl rfl)
theorem dX9_part_11 : decode cX9_part 11 = .ok (.iconst 1, 1) := dk_4 (dk_at dksX9_part_0 11 rfl rfl)
theorem dX9_part_12 : decode cX9_part 12 = .ok (.invokestatic 94, 3) := dk_184 0 94 (dk_at dksX9_part_0 12 rfl rfl)
theorem dX9_part_15 : decode cX9_part 15 = .ok (.ifCond .ne 10, 3) := dk_154 0 10 (dk_at dksX9_part_0 15 rfl rfl)
theorem dX9_part_18 : decode cX9_part 18 = .ok (.aload_n 0, 1) := dk_42 (dk_at dksX9_part_0 18 rfl rfl)
theorem dX9_part_19 : decode cX9_part 19 = .ok (.ldc 105, 2) := dk_18 105 (dk_at dksX9_part_0 19 rfl rfl)
theorem dX9_part_21 : decode cX9_part 21 = .ok (.invokevirtual 106, 3) := dk_182 0 106 (dk_at dksX9_part_0 21 rfl rfl)
theorem dX9_part_24 : decode cX9_part 24 = .ok (.ireturn, 1) := dk_172 (dk_at dksX9_part_1 0 rfl rfl)
theorem dX9_part_25 : decode cX9_part 25 = .ok (.iload_n 3, 1) := dk_29 (dk_at dksX9_part_1 1 rfl rfl)
theorem dX9_part_26 : decode cX9_part 26 = .ok (.ifCond .ne 10, 3) := dk_154 0 10 (dk_at dksX9_part_1 2 rfl rfl)
theorem dX9_part_29 : decode cX9_part 29 = .ok (.aload_n 0, 1) := dk_42 (dk_at dksX9_part_1 5 rfl rfl)
theorem dX9_part_30 : decode cX9_part 30 = .ok (.iload_n 1, 1) := dk_27 (dk_at dksX9_part_1 6 rfl rfl)
theorem dX9_part_31 : decode cX9_part 31 = .ok (.iload_n 2, 1) := dk_28 (dk_at dksX9_part_1 7 rfl rfl)
theorem dX9_part_32 : decode cX9_part 32 = .ok (.invokevirtual 217, 3) := dk_182 0 217 (dk_at dksX9_part_1 8 rfl rfl)
theorem dX9_part_35 : decode cX9_part 35 = .ok (.ireturn, 1) := dk_172 (dk_at dksX9_part_1 11 rfl rfl)
theorem dX9_part_36 : decode cX9_part 36 = .ok (.aload_n 0, 1) := dk_42 (dk_at dksX9_part_1 12 rfl rfl)
theorem dX9_part_37 : decode cX9_part 37 = .ok (.iload_n 1, 1) := dk_27 (dk_at dksX9_part_1 13 rfl rfl)
theorem dX9_part_38 : decode cX9_part 38 = .ok (.invokevirtual 220, 3) := dk_182 0 220 (dk_at dksX9_part_1 14 rfl rfl)
theorem dX9_part_41 : decode cX9_part 41 = .ok (.ifCond .eq 12, 3) := dk_153 0 12 (dk_at dksX9_part_1 17 rfl rfl)
theorem dX9_part_44 : decode cX9_part 44 = .ok (.aload_n 0, 1) := dk_42 (dk_at dksX9_part_1 20 rfl rfl)
theorem dX9_part_45 : decode cX9_part 45 = .ok (.iload_n 1, 1) := dk_27 (dk_at dksX9_part_1 21 rfl rfl)
theorem dX9_part_46 : decode cX9_part 46 = .ok (.iload_n 2, 1) := dk_28 (dk_at dksX9_part_1 22 rfl rfl)
theorem dX9_part_47 : decode cX9_part 47 = .ok (.invokevirtual 223, 3) := dk_182 0 223 (dk_at dksX9_part_2 0 rfl rfl)
theorem dX9_part_50 : decode cX9_part 50 = .ok (.goto 9, 3) := dk_167 0 9 (dk_at dksX9_part_2 3 rfl rfl)
theorem dX9_part_53 : decode cX9_part 53 = .ok (.aload_n 0, 1) := dk_42 (dk_at dksX9_part_2 6 rfl rfl)
theorem dX9_part_54 : decode cX9_part 54 = .ok (.ldc 112, 2) := dk_18 112 (dk_at dksX9_part_2 7 rfl rfl)
theorem dX9_part_56 : decode cX9_part 56 = .ok (.invokevirtual 106, 3) := dk_182 0 106 (dk_at dksX9_part_2 9 rfl rfl)
theorem dX9_part_59 : decode cX9_part 59 = .ok (.ireturn, 1) := dk_172 (dk_at dksX9_part_2 12 rfl rfl)
abbrev cX9_isCase : ByteArray := prog_33_method_45_code
def yX9_isCase : MethodName := ⟨RX9, "isCase", "(II)Z"⟩
def dkwX9_isCase_1 : List UInt8 := [167, 0, 4, 3, 172]
abbrev dktX9_isCase_1 : List UInt8 := dkwX9_isCase_1 ++ []
def dkwX9_isCase_0 : List UInt8 := [42, 27, 182, 0, 204, 153, 0, 22, 28, 3, 42, 27, 182, 0, 210, 4, 100, 184, 0, 94, 153, 0, 7, 4]
abbrev dktX9_isCase_0 : List UInt8 := dkwX9_isCase_0 ++ dktX9_isCase_1
theorem dksX9_isCase_0 : cX9_isCase.data.toList.drop 0 = dktX9_isCase_0 := by decide +kernel
theorem dksX9_isCase_1 : cX9_isCase.data.toList.drop 24 = dktX9_isCase_1 := dk_seg dksX9_isCase_0 24 rfl rfl
theorem dX9_isCase_0 : decode cX9_isCase 0 = .ok (.aload_n 0, 1) := dk_42 (dk_at dksX9_isCase_0 0 rfl rfl)
theorem dX9_isCase_1 : decode cX9_isCase 1 = .ok (.iload_n 1, 1) := dk_27 (dk_at dksX9_isCase_0 1 rfl rfl)
theorem dX9_isCase_2 : decode cX9_isCase 2 = .ok (.invokevirtual 204, 3) := dk_182 0 204 (dk_at dksX9_isCase_0 2 rfl rfl)
theorem dX9_isCase_5 : decode cX9_isCase 5 = .ok (.ifCond .eq 22, 3) := dk_153 0 22 (dk_at dksX9_isCase_0 5 rfl rfl)
theorem dX9_isCase_8 : decode cX9_isCase 8 = .ok (.iload_n 2, 1) := dk_28 (dk_at dksX9_isCase_0 8 rfl rfl)
theorem dX9_isCase_9 : decode cX9_isCase 9 = .ok (.iconst 0, 1) := dk_3 (dk_at dksX9_isCase_0 9 rfl rfl)
theorem dX9_isCase_10 : decode cX9_isCase 10 = .ok (.aload_n 0, 1) := dk_42 (dk_at dksX9_isCase_0 10 rfl rfl)
theorem dX9_isCase_11 : decode cX9_isCase 11 = .ok (.iload_n 1, 1) := dk_27 (dk_at dksX9_isCase_0 11 rfl rfl)
theorem dX9_isCase_12 : decode cX9_isCase 12 = .ok (.invokevirtual 210, 3) := dk_182 0 210 (dk_at dksX9_isCase_0 12 rfl rfl)
theorem dX9_isCase_15 : decode cX9_isCase 15 = .ok (.iconst 1, 1) := dk_4 (dk_at dksX9_isCase_0 15 rfl rfl)
theorem dX9_isCase_16 : decode cX9_isCase 16 = .ok (.isub, 1) := dk_100 (dk_at dksX9_isCase_0 16 rfl rfl)
theorem dX9_isCase_17 : decode cX9_isCase 17 = .ok (.invokestatic 94, 3) := dk_184 0 94 (dk_at dksX9_isCase_0 17 rfl rfl)
theorem dX9_isCase_20 : decode cX9_isCase 20 = .ok (.ifCond .eq 7, 3) := dk_153 0 7 (dk_at dksX9_isCase_0 20 rfl rfl)
theorem dX9_isCase_23 : decode cX9_isCase 23 = .ok (.iconst 1, 1) := dk_4 (dk_at dksX9_isCase_0 23 rfl rfl)
theorem dX9_isCase_24 : decode cX9_isCase 24 = .ok (.goto 4, 3) := dk_167 0 4 (dk_at dksX9_isCase_1 0 rfl rfl)
theorem dX9_isCase_27 : decode cX9_isCase 27 = .ok (.iconst 0, 1) := dk_3 (dk_at dksX9_isCase_1 3 rfl rfl)
theorem dX9_isCase_28 : decode cX9_isCase 28 = .ok (.ireturn, 1) := dk_172 (dk_at dksX9_isCase_1 4 rfl rfl)
abbrev cX9_hallOf : ByteArray := prog_33_method_46_code
def yX9_hallOf : MethodName := ⟨RX9, "hallOf", "(II)I"⟩
def dkwX9_hallOf_0 : List UInt8 := [42, 180, 0, 22, 42, 180, 0, 19, 42, 27, 182, 0, 98, 46, 28, 96, 46, 172]
abbrev dktX9_hallOf_0 : List UInt8 := dkwX9_hallOf_0 ++ []
theorem dksX9_hallOf_0 : cX9_hallOf.data.toList.drop 0 = dktX9_hallOf_0 := by decide +kernel
theorem dX9_hallOf_0 : decode cX9_hallOf 0 = .ok (.aload_n 0, 1) := dk_42 (dk_at dksX9_hallOf_0 0 rfl rfl)
theorem dX9_hallOf_1 : decode cX9_hallOf 1 = .ok (.getfield 22, 3) := dk_180 0 22 (dk_at dksX9_hallOf_0 1 rfl rfl)
theorem dX9_hallOf_4 : decode cX9_hallOf 4 = .ok (.aload_n 0, 1) := dk_42 (dk_at dksX9_hallOf_0 4 rfl rfl)
theorem dX9_hallOf_5 : decode cX9_hallOf 5 = .ok (.getfield 19, 3) := dk_180 0 19 (dk_at dksX9_hallOf_0 5 rfl rfl)
theorem dX9_hallOf_8 : decode cX9_hallOf 8 = .ok (.aload_n 0, 1) := dk_42 (dk_at dksX9_hallOf_0 8 rfl rfl)
theorem dX9_hallOf_9 : decode cX9_hallOf 9 = .ok (.iload_n 1, 1) := dk_27 (dk_at dksX9_hallOf_0 9 rfl rfl)
theorem dX9_hallOf_10 : decode cX9_hallOf 10 = .ok (.invokevirtual 98, 3) := dk_182 0 98 (dk_at dksX9_hallOf_0 10 rfl rfl)
theorem dX9_hallOf_13 : decode cX9_hallOf 13 = .ok (.iaload, 1) := dk_46 (dk_at dksX9_hallOf_0 13 rfl rfl)
theorem dX9_hallOf_14 : decode cX9_hallOf 14 = .ok (.iload_n 2, 1) := dk_28 (dk_at dksX9_hallOf_0 14 rfl rfl)
theorem dX9_hallOf_15 : decode cX9_hallOf 15 = .ok (.iadd, 1) := dk_96 (dk_at dksX9_hallOf_0 15 rfl rfl)
theorem dX9_hallOf_16 : decode cX9_hallOf 16 = .ok (.iaload, 1) := dk_46 (dk_at dksX9_hallOf_0 16 rfl rfl)
theorem dX9_hallOf_17 : decode cX9_hallOf 17 = .ok (.ireturn, 1) := dk_172 (dk_at dksX9_hallOf_0 17 rfl rfl)
abbrev cX9_hasOther : ByteArray := prog_33_method_16_code
def yX9_hasOther : MethodName := ⟨RX9, "hasOther", "(I)Z"⟩
def dkwX9_hasOther_0 : List UInt8 := [42, 27, 182, 0, 98, 153, 0, 16, 42, 27, 182, 0, 98, 8, 159, 0, 7, 4, 167, 0, 4, 3, 172]
abbrev dktX9_hasOther_0 : List UInt8 := dkwX9_hasOther_0 ++ []
theorem dksX9_hasOther_0 : cX9_hasOther.data.toList.drop 0 = dktX9_hasOther_0 := by decide +kernel
theorem dX9_hasOther_0 : decode cX9_hasOther 0 = .ok (.aload_n 0, 1) := dk_42 (dk_at dksX9_hasOther_0 0 rfl rfl)
theorem dX9_hasOther_1 : decode cX9_hasOther 1 = .ok (.iload_n 1, 1) := dk_27 (dk_at dksX9_hasOther_0 1 rfl rfl)
theorem dX9_hasOther_2 : decode cX9_hasOther 2 = .ok (.invokevirtual 98, 3) := dk_182 0 98 (dk_at dksX9_hasOther_0 2 rfl rfl)
theorem dX9_hasOther_5 : decode cX9_hasOther 5 = .ok (.ifCond .eq 16, 3) := dk_153 0 16 (dk_at dksX9_hasOther_0 5 rfl rfl)
theorem dX9_hasOther_8 : decode cX9_hasOther 8 = .ok (.aload_n 0, 1) := dk_42 (dk_at dksX9_hasOther_0 8 rfl rfl)
theorem dX9_hasOther_9 : decode cX9_hasOther 9 = .ok (.iload_n 1, 1) := dk_27 (dk_at dksX9_hasOther_0 9 rfl rfl)
theorem dX9_hasOther_10 : decode cX9_hasOther 10 = .ok (.invokevirtual 98, 3) := dk_182 0 98 (dk_at dksX9_hasOther_0 10 rfl rfl)
theorem dX9_hasOther_13 : decode cX9_hasOther 13 = .ok (.iconst 5, 1) := dk_8 (dk_at dksX9_hasOther_0 13 rfl rfl)
theorem dX9_hasOther_14 : decode cX9_hasOther 14 = .ok (.if_icmp .eq 7, 3) := dk_159 0 7 (dk_at dksX9_hasOther_0 14 rfl rfl)
theorem dX9_hasOther_17 : decode cX9_hasOther 17 = .ok (.iconst 1, 1) := dk_4 (dk_at dksX9_hasOther_0 17 rfl rfl)
theorem dX9_hasOther_18 : decode cX9_hasOther 18 = .ok (.goto 4, 3) := dk_167 0 4 (dk_at dksX9_hasOther_0 18 rfl rfl)
theorem dX9_hasOther_21 : decode cX9_hasOther 21 = .ok (.iconst 0, 1) := dk_3 (dk_at dksX9_hasOther_0 21 rfl rfl)
theorem dX9_hasOther_22 : decode cX9_hasOther 22 = .ok (.ireturn, 1) := dk_172 (dk_at dksX9_hasOther_0 22 rfl rfl)
abbrev cX9_otherOf : ByteArray := prog_33_method_47_code
def yX9_otherOf : MethodName := ⟨RX9, "otherOf", "(II)I"⟩
def dkwX9_otherOf_0 : List UInt8 := [42, 180, 0, 25, 42, 180, 0, 19, 42, 27, 182, 0, 98, 46, 28, 96, 46, 172]
abbrev dktX9_otherOf_0 : List UInt8 := dkwX9_otherOf_0 ++ []
theorem dksX9_otherOf_0 : cX9_otherOf.data.toList.drop 0 = dktX9_otherOf_0 := by decide +kernel
theorem dX9_otherOf_0 : decode cX9_otherOf 0 = .ok (.aload_n 0, 1) := dk_42 (dk_at dksX9_otherOf_0 0 rfl rfl)
theorem dX9_otherOf_1 : decode cX9_otherOf 1 = .ok (.getfield 25, 3) := dk_180 0 25 (dk_at dksX9_otherOf_0 1 rfl rfl)
theorem dX9_otherOf_4 : decode cX9_otherOf 4 = .ok (.aload_n 0, 1) := dk_42 (dk_at dksX9_otherOf_0 4 rfl rfl)
theorem dX9_otherOf_5 : decode cX9_otherOf 5 = .ok (.getfield 19, 3) := dk_180 0 19 (dk_at dksX9_otherOf_0 5 rfl rfl)
theorem dX9_otherOf_8 : decode cX9_otherOf 8 = .ok (.aload_n 0, 1) := dk_42 (dk_at dksX9_otherOf_0 8 rfl rfl)
theorem dX9_otherOf_9 : decode cX9_otherOf 9 = .ok (.iload_n 1, 1) := dk_27 (dk_at dksX9_otherOf_0 9 rfl rfl)
theorem dX9_otherOf_10 : decode cX9_otherOf 10 = .ok (.invokevirtual 98, 3) := dk_182 0 98 (dk_at dksX9_otherOf_0 10 rfl rfl)
theorem dX9_otherOf_13 : decode cX9_otherOf 13 = .ok (.iaload, 1) := dk_46 (dk_at dksX9_otherOf_0 13 rfl rfl)
theorem dX9_otherOf_14 : decode cX9_otherOf 14 = .ok (.iload_n 2, 1) := dk_28 (dk_at dksX9_otherOf_0 14 rfl rfl)
theorem dX9_otherOf_15 : decode cX9_otherOf 15 = .ok (.iadd, 1) := dk_96 (dk_at dksX9_otherOf_0 15 rfl rfl)
theorem dX9_otherOf_16 : decode cX9_otherOf 16 = .ok (.iaload, 1) := dk_46 (dk_at dksX9_otherOf_0 16 rfl rfl)
theorem dX9_otherOf_17 : decode cX9_otherOf 17 = .ok (.ireturn, 1) := dk_172 (dk_at dksX9_otherOf_0 17 rfl rfl)
abbrev cX9_so : ByteArray := prog_33_method_50_code
def yX9_so : MethodName := ⟨RX9, "so", "(IIII)I"⟩
def dkwX9_so_2 : List UInt8 := [153, 0, 7, 4, 167, 0, 4, 3, 172]
abbrev dktX9_so_2 : List UInt8 := dkwX9_so_2 ++ []
def dkwX9_so_1 : List UInt8 := [21, 4, 184, 0, 113, 154, 0, 10, 42, 18, 105, 182, 0, 106, 172, 42, 27, 28, 29, 21, 4, 182, 0, 229]
abbrev dktX9_so_1 : List UInt8 := dkwX9_so_1 ++ dktX9_so_2
def dkwX9_so_0 : List UInt8 := [42, 27, 28, 182, 0, 213, 153, 0, 26, 29, 184, 0, 113, 153, 0, 19, 42, 27, 182, 0, 220, 153, 0, 18]
abbrev dktX9_so_0 : List UInt8 := dkwX9_so_0 ++ dktX9_so_1
theorem dksX9_so_0 : cX9_so.data.toList.drop 0 = dktX9_so_0 := by decide +kernel
theorem dksX9_so_1 : cX9_so.data.toList.drop 24 = dktX9_so_1 := dk_seg dksX9_so_0 24 rfl rfl
theorem dksX9_so_2 : cX9_so.data.toList.drop 48 = dktX9_so_2 := dk_seg dksX9_so_1 24 rfl rfl
theorem dX9_so_0 : decode cX9_so 0 = .ok (.aload_n 0, 1) := dk_42 (dk_at dksX9_so_0 0 rfl rfl)
theorem dX9_so_1 : decode cX9_so 1 = .ok (.iload_n 1, 1) := dk_27 (dk_at dksX9_so_0 1 rfl rfl)
theorem dX9_so_2 : decode cX9_so 2 = .ok (.iload_n 2, 1) := dk_28 (dk_at dksX9_so_0 2 rfl rfl)
theorem dX9_so_3 : decode cX9_so 3 = .ok (.invokevirtual 213, 3) := dk_182 0 213 (dk_at dksX9_so_0 3 rfl rfl)
theorem dX9_so_6 : decode cX9_so 6 = .ok (.ifCond .eq 26, 3) := dk_153 0 26 (dk_at dksX9_so_0 6 rfl rfl)
theorem dX9_so_9 : decode cX9_so 9 = .ok (.iload_n 3, 1) := dk_29 (dk_at dksX9_so_0 9 rfl rfl)
theorem dX9_so_10 : decode cX9_so 10 = .ok (.invokestatic 113, 3) := dk_184 0 113 (dk_at dksX9_so_0 10 rfl rfl)
theorem dX9_so_13 : decode cX9_so 13 = .ok (.ifCond .eq 19, 3) := dk_153 0 19 (dk_at dksX9_so_0 13 rfl rfl)
theorem dX9_so_16 : decode cX9_so 16 = .ok (.aload_n 0, 1) := dk_42 (dk_at dksX9_so_0 16 rfl rfl)
theorem dX9_so_17 : decode cX9_so 17 = .ok (.iload_n 1, 1) := dk_27 (dk_at dksX9_so_0 17 rfl rfl)
theorem dX9_so_18 : decode cX9_so 18 = .ok (.invokevirtual 220, 3) := dk_182 0 220 (dk_at dksX9_so_0 18 rfl rfl)
theorem dX9_so_21 : decode cX9_so 21 = .ok (.ifCond .eq 18, 3) := dk_153 0 18 (dk_at dksX9_so_0 21 rfl rfl)
theorem dX9_so_24 : decode cX9_so 24 = .ok (.iload 4, 2) := dk_21 4 (dk_at dksX9_so_1 0 rfl rfl)
theorem dX9_so_26 : decode cX9_so 26 = .ok (.invokestatic 113, 3) := dk_184 0 113 (dk_at dksX9_so_1 2 rfl rfl)
theorem dX9_so_29 : decode cX9_so 29 = .ok (.ifCond .ne 10, 3) := dk_154 0 10 (dk_at dksX9_so_1 5 rfl rfl)
theorem dX9_so_32 : decode cX9_so 32 = .ok (.aload_n 0, 1) := dk_42 (dk_at dksX9_so_1 8 rfl rfl)
theorem dX9_so_33 : decode cX9_so 33 = .ok (.ldc 105, 2) := dk_18 105 (dk_at dksX9_so_1 9 rfl rfl)
theorem dX9_so_35 : decode cX9_so 35 = .ok (.invokevirtual 106, 3) := dk_182 0 106 (dk_at dksX9_so_1 11 rfl rfl)
theorem dX9_so_38 : decode cX9_so 38 = .ok (.ireturn, 1) := dk_172 (dk_at dksX9_so_1 14 rfl rfl)
theorem dX9_so_39 : decode cX9_so 39 = .ok (.aload_n 0, 1) := dk_42 (dk_at dksX9_so_1 15 rfl rfl)
theorem dX9_so_40 : decode cX9_so 40 = .ok (.iload_n 1, 1) := dk_27 (dk_at dksX9_so_1 16 rfl rfl)
theorem dX9_so_41 : decode cX9_so 41 = .ok (.iload_n 2, 1) := dk_28 (dk_at dksX9_so_1 17 rfl rfl)
theorem dX9_so_42 : decode cX9_so 42 = .ok (.iload_n 3, 1) := dk_29 (dk_at dksX9_so_1 18 rfl rfl)
theorem dX9_so_43 : decode cX9_so 43 = .ok (.iload 4, 2) := dk_21 4 (dk_at dksX9_so_1 19 rfl rfl)
theorem dX9_so_45 : decode cX9_so 45 = .ok (.invokevirtual 229, 3) := dk_182 0 229 (dk_at dksX9_so_1 21 rfl rfl)
theorem dX9_so_48 : decode cX9_so 48 = .ok (.ifCond .eq 7, 3) := dk_153 0 7 (dk_at dksX9_so_2 0 rfl rfl)
theorem dX9_so_51 : decode cX9_so 51 = .ok (.iconst 1, 1) := dk_4 (dk_at dksX9_so_2 3 rfl rfl)
theorem dX9_so_52 : decode cX9_so 52 = .ok (.goto 4, 3) := dk_167 0 4 (dk_at dksX9_so_2 4 rfl rfl)
theorem dX9_so_55 : decode cX9_so 55 = .ok (.iconst 0, 1) := dk_3 (dk_at dksX9_so_2 7 rfl rfl)
theorem dX9_so_56 : decode cX9_so 56 = .ok (.ireturn, 1) := dk_172 (dk_at dksX9_so_2 8 rfl rfl)
abbrev cX9_goes : ByteArray := prog_33_method_49_code
def yX9_goes : MethodName := ⟨RX9, "goes", "(IIII)Z"⟩
def dkwX9_goes_2 : List UInt8 := [172]
abbrev dktX9_goes_2 : List UInt8 := dkwX9_goes_2 ++ []
def dkwX9_goes_1 : List UInt8 := [21, 5, 6, 29, 104, 21, 4, 96, 7, 100, 184, 0, 226, 167, 0, 11, 21, 5, 29, 4, 100, 184, 0, 226]
abbrev dktX9_goes_1 : List UInt8 := dkwX9_goes_1 ++ dktX9_goes_2
def dkwX9_goes_0 : List UInt8 := [42, 180, 0, 9, 16, 110, 16, 32, 27, 104, 96, 28, 96, 46, 54, 5, 42, 27, 182, 0, 220, 153, 0, 19]
abbrev dktX9_goes_0 : List UInt8 := dkwX9_goes_0 ++ dktX9_goes_1
theorem dksX9_goes_0 : cX9_goes.data.toList.drop 0 = dktX9_goes_0 := by decide +kernel
theorem dksX9_goes_1 : cX9_goes.data.toList.drop 24 = dktX9_goes_1 := dk_seg dksX9_goes_0 24 rfl rfl
theorem dksX9_goes_2 : cX9_goes.data.toList.drop 48 = dktX9_goes_2 := dk_seg dksX9_goes_1 24 rfl rfl
theorem dX9_goes_0 : decode cX9_goes 0 = .ok (.aload_n 0, 1) := dk_42 (dk_at dksX9_goes_0 0 rfl rfl)
theorem dX9_goes_1 : decode cX9_goes 1 = .ok (.getfield 9, 3) := dk_180 0 9 (dk_at dksX9_goes_0 1 rfl rfl)
theorem dX9_goes_4 : decode cX9_goes 4 = .ok (.bipush 110, 2) := dk_16 110 (dk_at dksX9_goes_0 4 rfl rfl)
theorem dX9_goes_6 : decode cX9_goes 6 = .ok (.bipush 32, 2) := dk_16 32 (dk_at dksX9_goes_0 6 rfl rfl)
theorem dX9_goes_8 : decode cX9_goes 8 = .ok (.iload_n 1, 1) := dk_27 (dk_at dksX9_goes_0 8 rfl rfl)
theorem dX9_goes_9 : decode cX9_goes 9 = .ok (.imul, 1) := dk_104 (dk_at dksX9_goes_0 9 rfl rfl)
theorem dX9_goes_10 : decode cX9_goes 10 = .ok (.iadd, 1) := dk_96 (dk_at dksX9_goes_0 10 rfl rfl)
theorem dX9_goes_11 : decode cX9_goes 11 = .ok (.iload_n 2, 1) := dk_28 (dk_at dksX9_goes_0 11 rfl rfl)
theorem dX9_goes_12 : decode cX9_goes 12 = .ok (.iadd, 1) := dk_96 (dk_at dksX9_goes_0 12 rfl rfl)
theorem dX9_goes_13 : decode cX9_goes 13 = .ok (.iaload, 1) := dk_46 (dk_at dksX9_goes_0 13 rfl rfl)
theorem dX9_goes_14 : decode cX9_goes 14 = .ok (.istore 5, 2) := dk_54 5 (dk_at dksX9_goes_0 14 rfl rfl)
theorem dX9_goes_16 : decode cX9_goes 16 = .ok (.aload_n 0, 1) := dk_42 (dk_at dksX9_goes_0 16 rfl rfl)
theorem dX9_goes_17 : decode cX9_goes 17 = .ok (.iload_n 1, 1) := dk_27 (dk_at dksX9_goes_0 17 rfl rfl)
theorem dX9_goes_18 : decode cX9_goes 18 = .ok (.invokevirtual 220, 3) := dk_182 0 220 (dk_at dksX9_goes_0 18 rfl rfl)
theorem dX9_goes_21 : decode cX9_goes 21 = .ok (.ifCond .eq 19, 3) := dk_153 0 19 (dk_at dksX9_goes_0 21 rfl rfl)
theorem dX9_goes_24 : decode cX9_goes 24 = .ok (.iload 5, 2) := dk_21 5 (dk_at dksX9_goes_1 0 rfl rfl)
theorem dX9_goes_26 : decode cX9_goes 26 = .ok (.iconst 3, 1) := dk_6 (dk_at dksX9_goes_1 2 rfl rfl)
theorem dX9_goes_27 : decode cX9_goes 27 = .ok (.iload_n 3, 1) := dk_29 (dk_at dksX9_goes_1 3 rfl rfl)
theorem dX9_goes_28 : decode cX9_goes 28 = .ok (.imul, 1) := dk_104 (dk_at dksX9_goes_1 4 rfl rfl)
theorem dX9_goes_29 : decode cX9_goes 29 = .ok (.iload 4, 2) := dk_21 4 (dk_at dksX9_goes_1 5 rfl rfl)
theorem dX9_goes_31 : decode cX9_goes 31 = .ok (.iadd, 1) := dk_96 (dk_at dksX9_goes_1 7 rfl rfl)
theorem dX9_goes_32 : decode cX9_goes 32 = .ok (.iconst 4, 1) := dk_7 (dk_at dksX9_goes_1 8 rfl rfl)
theorem dX9_goes_33 : decode cX9_goes 33 = .ok (.isub, 1) := dk_100 (dk_at dksX9_goes_1 9 rfl rfl)
theorem dX9_goes_34 : decode cX9_goes 34 = .ok (.invokestatic 226, 3) := dk_184 0 226 (dk_at dksX9_goes_1 10 rfl rfl)
theorem dX9_goes_37 : decode cX9_goes 37 = .ok (.goto 11, 3) := dk_167 0 11 (dk_at dksX9_goes_1 13 rfl rfl)
theorem dX9_goes_40 : decode cX9_goes 40 = .ok (.iload 5, 2) := dk_21 5 (dk_at dksX9_goes_1 16 rfl rfl)
theorem dX9_goes_42 : decode cX9_goes 42 = .ok (.iload_n 3, 1) := dk_29 (dk_at dksX9_goes_1 18 rfl rfl)
theorem dX9_goes_43 : decode cX9_goes 43 = .ok (.iconst 1, 1) := dk_4 (dk_at dksX9_goes_1 19 rfl rfl)
theorem dX9_goes_44 : decode cX9_goes 44 = .ok (.isub, 1) := dk_100 (dk_at dksX9_goes_1 20 rfl rfl)
theorem dX9_goes_45 : decode cX9_goes 45 = .ok (.invokestatic 226, 3) := dk_184 0 226 (dk_at dksX9_goes_1 21 rfl rfl)
theorem dX9_goes_48 : decode cX9_goes 48 = .ok (.ireturn, 1) := dk_172 (dk_at dksX9_goes_2 0 rfl rfl)
abbrev cX9_has : ByteArray := prog_33_method_13_code
def yX9_has : MethodName := ⟨RX9, "has", "(II)Z"⟩
def dkwX9_has_0 : List UInt8 := [26, 27, 122, 4, 126, 4, 160, 0, 7, 4, 167, 0, 4, 3, 172]
abbrev dktX9_has_0 : List UInt8 := dkwX9_has_0 ++ []
theorem dksX9_has_0 : cX9_has.data.toList.drop 0 = dktX9_has_0 := by decide +kernel
theorem dX9_has_0 : decode cX9_has 0 = .ok (.iload_n 0, 1) := dk_26 (dk_at dksX9_has_0 0 rfl rfl)
theorem dX9_has_1 : decode cX9_has 1 = .ok (.iload_n 1, 1) := dk_27 (dk_at dksX9_has_0 1 rfl rfl)
theorem dX9_has_2 : decode cX9_has 2 = .ok (.ishr, 1) := dk_122 (dk_at dksX9_has_0 2 rfl rfl)
theorem dX9_has_3 : decode cX9_has 3 = .ok (.iconst 1, 1) := dk_4 (dk_at dksX9_has_0 3 rfl rfl)
theorem dX9_has_4 : decode cX9_has 4 = .ok (.iand, 1) := dk_126 (dk_at dksX9_has_0 4 rfl rfl)
theorem dX9_has_5 : decode cX9_has 5 = .ok (.iconst 1, 1) := dk_4 (dk_at dksX9_has_0 5 rfl rfl)
theorem dX9_has_6 : decode cX9_has 6 = .ok (.if_icmp .ne 7, 3) := dk_160 0 7 (dk_at dksX9_has_0 6 rfl rfl)
theorem dX9_has_9 : decode cX9_has 9 = .ok (.iconst 1, 1) := dk_4 (dk_at dksX9_has_0 9 rfl rfl)
theorem dX9_has_10 : decode cX9_has 10 = .ok (.goto 4, 3) := dk_167 0 4 (dk_at dksX9_has_0 10 rfl rfl)
theorem dX9_has_13 : decode cX9_has 13 = .ok (.iconst 0, 1) := dk_3 (dk_at dksX9_has_0 13 rfl rfl)
theorem dX9_has_14 : decode cX9_has 14 = .ok (.ireturn, 1) := dk_172 (dk_at dksX9_has_0 14 rfl rfl)
abbrev cX9_breach : ByteArray := prog_33_method_52_code
def yX9_breach : MethodName := ⟨RX9, "breach", "(I)I"⟩
def dkwX9_breach_1 : List UInt8 := [182, 0, 233, 61, 28, 156, 0, 12, 42, 18, 112, 182, 0, 106, 167, 0, 4, 28, 172]
abbrev dktX9_breach_1 : List UInt8 := dkwX9_breach_1 ++ []
def dkwX9_breach_0 : List UInt8 := [42, 27, 182, 0, 204, 154, 0, 10, 42, 18, 105, 182, 0, 106, 172, 42, 27, 42, 180, 0, 9, 16, 10]
abbrev dktX9_breach_0 : List UInt8 := dkwX9_breach_0 ++ dktX9_breach_1
theorem dksX9_breach_0 : cX9_breach.data.toList.drop 0 = dktX9_breach_0 := by decide +kernel
theorem dksX9_breach_1 : cX9_breach.data.toList.drop 23 = dktX9_breach_1 := dk_seg dksX9_breach_0 23 rfl rfl
theorem dX9_breach_0 : decode cX9_breach 0 = .ok (.aload_n 0, 1) := dk_42 (dk_at dksX9_breach_0 0 rfl rfl)
theorem dX9_breach_1 : decode cX9_breach 1 = .ok (.iload_n 1, 1) := dk_27 (dk_at dksX9_breach_0 1 rfl rfl)
theorem dX9_breach_2 : decode cX9_breach 2 = .ok (.invokevirtual 204, 3) := dk_182 0 204 (dk_at dksX9_breach_0 2 rfl rfl)
theorem dX9_breach_5 : decode cX9_breach 5 = .ok (.ifCond .ne 10, 3) := dk_154 0 10 (dk_at dksX9_breach_0 5 rfl rfl)
theorem dX9_breach_8 : decode cX9_breach 8 = .ok (.aload_n 0, 1) := dk_42 (dk_at dksX9_breach_0 8 rfl rfl)
theorem dX9_breach_9 : decode cX9_breach 9 = .ok (.ldc 105, 2) := dk_18 105 (dk_at dksX9_breach_0 9 rfl rfl)
theorem dX9_breach_11 : decode cX9_breach 11 = .ok (.invokevirtual 106, 3) := dk_182 0 106 (dk_at dksX9_breach_0 11 rfl rfl)
theorem dX9_breach_14 : decode cX9_breach 14 = .ok (.ireturn, 1) := dk_172 (dk_at dksX9_breach_0 14 rfl rfl)
theorem dX9_breach_15 : decode cX9_breach 15 = .ok (.aload_n 0, 1) := dk_42 (dk_at dksX9_breach_0 15 rfl rfl)
theorem dX9_breach_16 : decode cX9_breach 16 = .ok (.iload_n 1, 1) := dk_27 (dk_at dksX9_breach_0 16 rfl rfl)
theorem dX9_breach_17 : decode cX9_breach 17 = .ok (.aload_n 0, 1) := dk_42 (dk_at dksX9_breach_0 17 rfl rfl)
theorem dX9_breach_18 : decode cX9_breach 18 = .ok (.getfield 9, 3) := dk_180 0 9 (dk_at dksX9_breach_0 18 rfl rfl)
theorem dX9_breach_21 : decode cX9_breach 21 = .ok (.bipush 10, 2) := dk_16 10 (dk_at dksX9_breach_0 21 rfl rfl)
theorem dX9_breach_23 : decode cX9_breach 23 = .ok (.invokevirtual 233, 3) := dk_182 0 233 (dk_at dksX9_breach_1 0 rfl rfl)
theorem dX9_breach_26 : decode cX9_breach 26 = .ok (.istore_n 2, 1) := dk_61 (dk_at dksX9_breach_1 3 rfl rfl)
theorem dX9_breach_27 : decode cX9_breach 27 = .ok (.iload_n 2, 1) := dk_28 (dk_at dksX9_breach_1 4 rfl rfl)
theorem dX9_breach_28 : decode cX9_breach 28 = .ok (.ifCond .ge 12, 3) := dk_156 0 12 (dk_at dksX9_breach_1 5 rfl rfl)
theorem dX9_breach_31 : decode cX9_breach 31 = .ok (.aload_n 0, 1) := dk_42 (dk_at dksX9_breach_1 8 rfl rfl)
theorem dX9_breach_32 : decode cX9_breach 32 = .ok (.ldc 112, 2) := dk_18 112 (dk_at dksX9_breach_1 9 rfl rfl)
theorem dX9_breach_34 : decode cX9_breach 34 = .ok (.invokevirtual 106, 3) := dk_182 0 106 (dk_at dksX9_breach_1 11 rfl rfl)
theorem dX9_breach_37 : decode cX9_breach 37 = .ok (.goto 4, 3) := dk_167 0 4 (dk_at dksX9_breach_1 14 rfl rfl)
theorem dX9_breach_40 : decode cX9_breach 40 = .ok (.iload_n 2, 1) := dk_28 (dk_at dksX9_breach_1 17 rfl rfl)
theorem dX9_breach_41 : decode cX9_breach 41 = .ok (.ireturn, 1) := dk_172 (dk_at dksX9_breach_1 18 rfl rfl)
abbrev cX9_broken : ByteArray := prog_33_method_51_code
def yX9_broken : MethodName := ⟨RX9, "broken", "(I[II)I"⟩
def dkwX9_broken_2 : List UInt8 := [21, 5, 96, 46, 182, 0, 229, 154, 0, 6, 21, 4, 172, 132, 4, 1, 167, 255, 195, 2, 172]
abbrev dktX9_broken_2 : List UInt8 := dkwX9_broken_2 ++ []
def dkwX9_broken_1 : List UInt8 := [21, 4, 44, 29, 42, 27, 21, 4, 182, 0, 217, 96, 46, 21, 5, 156, 0, 7, 3, 167, 0, 9, 44, 29]
abbrev dktX9_broken_1 : List UInt8 := dkwX9_broken_1 ++ dktX9_broken_2
def dkwX9_broken_0 : List UInt8 := [3, 54, 4, 21, 4, 42, 27, 182, 0, 210, 162, 0, 57, 42, 27, 21, 4, 182, 0, 223, 54, 5, 42, 27]
abbrev dktX9_broken_0 : List UInt8 := dkwX9_broken_0 ++ dktX9_broken_1
theorem dksX9_broken_0 : cX9_broken.data.toList.drop 0 = dktX9_broken_0 := by decide +kernel
theorem dksX9_broken_1 : cX9_broken.data.toList.drop 24 = dktX9_broken_1 := dk_seg dksX9_broken_0 24 rfl rfl
theorem dksX9_broken_2 : cX9_broken.data.toList.drop 48 = dktX9_broken_2 := dk_seg dksX9_broken_1 24 rfl rfl
theorem dX9_broken_0 : decode cX9_broken 0 = .ok (.iconst 0, 1) := dk_3 (dk_at dksX9_broken_0 0 rfl rfl)
theorem dX9_broken_1 : decode cX9_broken 1 = .ok (.istore 4, 2) := dk_54 4 (dk_at dksX9_broken_0 1 rfl rfl)
theorem dX9_broken_3 : decode cX9_broken 3 = .ok (.iload 4, 2) := dk_21 4 (dk_at dksX9_broken_0 3 rfl rfl)
theorem dX9_broken_5 : decode cX9_broken 5 = .ok (.aload_n 0, 1) := dk_42 (dk_at dksX9_broken_0 5 rfl rfl)
theorem dX9_broken_6 : decode cX9_broken 6 = .ok (.iload_n 1, 1) := dk_27 (dk_at dksX9_broken_0 6 rfl rfl)
theorem dX9_broken_7 : decode cX9_broken 7 = .ok (.invokevirtual 210, 3) := dk_182 0 210 (dk_at dksX9_broken_0 7 rfl rfl)
theorem dX9_broken_10 : decode cX9_broken 10 = .ok (.if_icmp .ge 57, 3) := dk_162 0 57 (dk_at dksX9_broken_0 10 rfl rfl)
theorem dX9_broken_13 : decode cX9_broken 13 = .ok (.aload_n 0, 1) := dk_42 (dk_at dksX9_broken_0 13 rfl rfl)
theorem dX9_broken_14 : decode cX9_broken 14 = .ok (.iload_n 1, 1) := dk_27 (dk_at dksX9_broken_0 14 rfl rfl)
theorem dX9_broken_15 : decode cX9_broken 15 = .ok (.iload 4, 2) := dk_21 4 (dk_at dksX9_broken_0 15 rfl rfl)
theorem dX9_broken_17 : decode cX9_broken 17 = .ok (.invokevirtual 223, 3) := dk_182 0 223 (dk_at dksX9_broken_0 17 rfl rfl)
theorem dX9_broken_20 : decode cX9_broken 20 = .ok (.istore 5, 2) := dk_54 5 (dk_at dksX9_broken_0 20 rfl rfl)
theorem dX9_broken_22 : decode cX9_broken 22 = .ok (.aload_n 0, 1) := dk_42 (dk_at dksX9_broken_0 22 rfl rfl)
theorem dX9_broken_23 : decode cX9_broken 23 = .ok (.iload_n 1, 1) := dk_27 (dk_at dksX9_broken_0 23 rfl rfl)
theorem dX9_broken_24 : decode cX9_broken 24 = .ok (.iload 4, 2) := dk_21 4 (dk_at dksX9_broken_1 0 rfl rfl)
theorem dX9_broken_26 : decode cX9_broken 26 = .ok (.aload_n 2, 1) := dk_44 (dk_at dksX9_broken_1 2 rfl rfl)
theorem dX9_broken_27 : decode cX9_broken 27 = .ok (.iload_n 3, 1) := dk_29 (dk_at dksX9_broken_1 3 rfl rfl)
theorem dX9_broken_28 : decode cX9_broken 28 = .ok (.aload_n 0, 1) := dk_42 (dk_at dksX9_broken_1 4 rfl rfl)
theorem dX9_broken_29 : decode cX9_broken 29 = .ok (.iload_n 1, 1) := dk_27 (dk_at dksX9_broken_1 5 rfl rfl)
theorem dX9_broken_30 : decode cX9_broken 30 = .ok (.iload 4, 2) := dk_21 4 (dk_at dksX9_broken_1 6 rfl rfl)
theorem dX9_broken_32 : decode cX9_broken 32 = .ok (.invokevirtual 217, 3) := dk_182 0 217 (dk_at dksX9_broken_1 8 rfl rfl)
theorem dX9_broken_35 : decode cX9_broken 35 = .ok (.iadd, 1) := dk_96 (dk_at dksX9_broken_1 11 rfl rfl)
theorem dX9_broken_36 : decode cX9_broken 36 = .ok (.iaload, 1) := dk_46 (dk_at dksX9_broken_1 12 rfl rfl)
theorem dX9_broken_37 : decode cX9_broken 37 = .ok (.iload 5, 2) := dk_21 5 (dk_at dksX9_broken_1 13 rfl rfl)
theorem dX9_broken_39 : decode cX9_broken 39 = .ok (.ifCond .ge 7, 3) := dk_156 0 7 (dk_at dksX9_broken_1 15 rfl rfl)
theorem dX9_broken_42 : decode cX9_broken 42 = .ok (.iconst 0, 1) := dk_3 (dk_at dksX9_broken_1 18 rfl rfl)
theorem dX9_broken_43 : decode cX9_broken 43 = .ok (.goto 9, 3) := dk_167 0 9 (dk_at dksX9_broken_1 19 rfl rfl)
theorem dX9_broken_46 : decode cX9_broken 46 = .ok (.aload_n 2, 1) := dk_44 (dk_at dksX9_broken_1 22 rfl rfl)
theorem dX9_broken_47 : decode cX9_broken 47 = .ok (.iload_n 3, 1) := dk_29 (dk_at dksX9_broken_1 23 rfl rfl)
theorem dX9_broken_48 : decode cX9_broken 48 = .ok (.iload 5, 2) := dk_21 5 (dk_at dksX9_broken_2 0 rfl rfl)
theorem dX9_broken_50 : decode cX9_broken 50 = .ok (.iadd, 1) := dk_96 (dk_at dksX9_broken_2 2 rfl rfl)
theorem dX9_broken_51 : decode cX9_broken 51 = .ok (.iaload, 1) := dk_46 (dk_at dksX9_broken_2 3 rfl rfl)
theorem dX9_broken_52 : decode cX9_broken 52 = .ok (.invokevirtual 229, 3) := dk_182 0 229 (dk_at dksX9_broken_2 4 rfl rfl)
theorem dX9_broken_55 : decode cX9_broken 55 = .ok (.ifCond .ne 6, 3) := dk_154 0 6 (dk_at dksX9_broken_2 7 rfl rfl)
theorem dX9_broken_58 : decode cX9_broken 58 = .ok (.iload 4, 2) := dk_21 4 (dk_at dksX9_broken_2 10 rfl rfl)
theorem dX9_broken_60 : decode cX9_broken 60 = .ok (.ireturn, 1) := dk_172 (dk_at dksX9_broken_2 12 rfl rfl)
theorem dX9_broken_61 : decode cX9_broken 61 = .ok (.iinc 4 1, 3) := dk_132 4 1 (dk_at dksX9_broken_2 13 rfl rfl)
theorem dX9_broken_64 : decode cX9_broken 64 = .ok (.goto (-61), 3) := dk_167 255 195 (dk_at dksX9_broken_2 16 rfl rfl)
theorem dX9_broken_67 : decode cX9_broken 67 = .ok (.iconst (-1), 1) := dk_2 (dk_at dksX9_broken_2 19 rfl rfl)
theorem dX9_broken_68 : decode cX9_broken 68 = .ok (.ireturn, 1) := dk_172 (dk_at dksX9_broken_2 20 rfl rfl)
abbrev cX9_kept : ByteArray := prog_33_method_53_code
def yX9_kept : MethodName := ⟨RX9, "kept", "()I"⟩
def dkwX9_kept_1 : List UInt8 := [182, 0, 233, 156, 0, 9, 4, 28, 120, 167, 0, 4, 3, 128, 60, 132, 2, 1, 167, 255, 219, 27, 172]
abbrev dktX9_kept_1 : List UInt8 := dkwX9_kept_1 ++ []
def dkwX9_kept_0 : List UInt8 := [3, 60, 3, 61, 28, 42, 180, 0, 9, 3, 46, 162, 0, 33, 27, 42, 28, 42, 180, 0, 9, 16, 10]
abbrev dktX9_kept_0 : List UInt8 := dkwX9_kept_0 ++ dktX9_kept_1
theorem dksX9_kept_0 : cX9_kept.data.toList.drop 0 = dktX9_kept_0 := by decide +kernel
theorem dksX9_kept_1 : cX9_kept.data.toList.drop 23 = dktX9_kept_1 := dk_seg dksX9_kept_0 23 rfl rfl
theorem dX9_kept_0 : decode cX9_kept 0 = .ok (.iconst 0, 1) := dk_3 (dk_at dksX9_kept_0 0 rfl rfl)
theorem dX9_kept_1 : decode cX9_kept 1 = .ok (.istore_n 1, 1) := dk_60 (dk_at dksX9_kept_0 1 rfl rfl)
theorem dX9_kept_2 : decode cX9_kept 2 = .ok (.iconst 0, 1) := dk_3 (dk_at dksX9_kept_0 2 rfl rfl)
theorem dX9_kept_3 : decode cX9_kept 3 = .ok (.istore_n 2, 1) := dk_61 (dk_at dksX9_kept_0 3 rfl rfl)
theorem dX9_kept_4 : decode cX9_kept 4 = .ok (.iload_n 2, 1) := dk_28 (dk_at dksX9_kept_0 4 rfl rfl)
theorem dX9_kept_5 : decode cX9_kept 5 = .ok (.aload_n 0, 1) := dk_42 (dk_at dksX9_kept_0 5 rfl rfl)
theorem dX9_kept_6 : decode cX9_kept 6 = .ok (.getfield 9, 3) := dk_180 0 9 (dk_at dksX9_kept_0 6 rfl rfl)
theorem dX9_kept_9 : decode cX9_kept 9 = .ok (.iconst 0, 1) := dk_3 (dk_at dksX9_kept_0 9 rfl rfl)
theorem dX9_kept_10 : decode cX9_kept 10 = .ok (.iaload, 1) := dk_46 (dk_at dksX9_kept_0 10 rfl rfl)
theorem dX9_kept_11 : decode cX9_kept 11 = .ok (.if_icmp .ge 33, 3) := dk_162 0 33 (dk_at dksX9_kept_0 11 rfl rfl)
theorem dX9_kept_14 : decode cX9_kept 14 = .ok (.iload_n 1, 1) := dk_27 (dk_at dksX9_kept_0 14 rfl rfl)
theorem dX9_kept_15 : decode cX9_kept 15 = .ok (.aload_n 0, 1) := dk_42 (dk_at dksX9_kept_0 15 rfl rfl)
theorem dX9_kept_16 : decode cX9_kept 16 = .ok (.iload_n 2, 1) := dk_28 (dk_at dksX9_kept_0 16 rfl rfl)
theorem dX9_kept_17 : decode cX9_kept 17 = .ok (.aload_n 0, 1) := dk_42 (dk_at dksX9_kept_0 17 rfl rfl)
theorem dX9_kept_18 : decode cX9_kept 18 = .ok (.getfield 9, 3) := dk_180 0 9 (dk_at dksX9_kept_0 18 rfl rfl)
theorem dX9_kept_21 : decode cX9_kept 21 = .ok (.bipush 10, 2) := dk_16 10 (dk_at dksX9_kept_0 21 rfl rfl)
theorem dX9_kept_23 : decode cX9_kept 23 = .ok (.invokevirtual 233, 3) := dk_182 0 233 (dk_at dksX9_kept_1 0 rfl rfl)
theorem dX9_kept_26 : decode cX9_kept 26 = .ok (.ifCond .ge 9, 3) := dk_156 0 9 (dk_at dksX9_kept_1 3 rfl rfl)
theorem dX9_kept_29 : decode cX9_kept 29 = .ok (.iconst 1, 1) := dk_4 (dk_at dksX9_kept_1 6 rfl rfl)
theorem dX9_kept_30 : decode cX9_kept 30 = .ok (.iload_n 2, 1) := dk_28 (dk_at dksX9_kept_1 7 rfl rfl)
theorem dX9_kept_31 : decode cX9_kept 31 = .ok (.ishl, 1) := dk_120 (dk_at dksX9_kept_1 8 rfl rfl)
theorem dX9_kept_32 : decode cX9_kept 32 = .ok (.goto 4, 3) := dk_167 0 4 (dk_at dksX9_kept_1 9 rfl rfl)
theorem dX9_kept_35 : decode cX9_kept 35 = .ok (.iconst 0, 1) := dk_3 (dk_at dksX9_kept_1 12 rfl rfl)
theorem dX9_kept_36 : decode cX9_kept 36 = .ok (.ior, 1) := dk_128 (dk_at dksX9_kept_1 13 rfl rfl)
theorem dX9_kept_37 : decode cX9_kept 37 = .ok (.istore_n 1, 1) := dk_60 (dk_at dksX9_kept_1 14 rfl rfl)
theorem dX9_kept_38 : decode cX9_kept 38 = .ok (.iinc 2 1, 3) := dk_132 2 1 (dk_at dksX9_kept_1 15 rfl rfl)
theorem dX9_kept_41 : decode cX9_kept 41 = .ok (.goto (-37), 3) := dk_167 255 219 (dk_at dksX9_kept_1 18 rfl rfl)
theorem dX9_kept_44 : decode cX9_kept 44 = .ok (.iload_n 1, 1) := dk_27 (dk_at dksX9_kept_1 21 rfl rfl)
theorem dX9_kept_45 : decode cX9_kept 45 = .ok (.ireturn, 1) := dk_172 (dk_at dksX9_kept_1 22 rfl rfl)
abbrev cX9_find : ByteArray := prog_33_method_59_code
def yX9_find : MethodName := ⟨RX9, "find", "(II)I"⟩
def dkwX9_find_1 : List UInt8 := [182, 0, 252, 153, 0, 12, 42, 180, 0, 43, 28, 46, 167, 0, 9, 42, 18, 112, 182, 0, 106, 172]
abbrev dktX9_find_1 : List UInt8 := dkwX9_find_1 ++ []
def dkwX9_find_0 : List UInt8 := [42, 27, 182, 0, 249, 153, 0, 10, 28, 184, 0, 101, 154, 0, 10, 42, 18, 105, 182, 0, 106, 172, 42, 27]
abbrev dktX9_find_0 : List UInt8 := dkwX9_find_0 ++ dktX9_find_1
theorem dksX9_find_0 : cX9_find.data.toList.drop 0 = dktX9_find_0 := by decide +kernel
theorem dksX9_find_1 : cX9_find.data.toList.drop 24 = dktX9_find_1 := dk_seg dksX9_find_0 24 rfl rfl
theorem dX9_find_0 : decode cX9_find 0 = .ok (.aload_n 0, 1) := dk_42 (dk_at dksX9_find_0 0 rfl rfl)
theorem dX9_find_1 : decode cX9_find 1 = .ok (.iload_n 1, 1) := dk_27 (dk_at dksX9_find_0 1 rfl rfl)
theorem dX9_find_2 : decode cX9_find 2 = .ok (.invokevirtual 249, 3) := dk_182 0 249 (dk_at dksX9_find_0 2 rfl rfl)
theorem dX9_find_5 : decode cX9_find 5 = .ok (.ifCond .eq 10, 3) := dk_153 0 10 (dk_at dksX9_find_0 5 rfl rfl)
theorem dX9_find_8 : decode cX9_find 8 = .ok (.iload_n 2, 1) := dk_28 (dk_at dksX9_find_0 8 rfl rfl)
theorem dX9_find_9 : decode cX9_find 9 = .ok (.invokestatic 101, 3) := dk_184 0 101 (dk_at dksX9_find_0 9 rfl rfl)
theorem dX9_find_12 : decode cX9_find 12 = .ok (.ifCond .ne 10, 3) := dk_154 0 10 (dk_at dksX9_find_0 12 rfl rfl)
theorem dX9_find_15 : decode cX9_find 15 = .ok (.aload_n 0, 1) := dk_42 (dk_at dksX9_find_0 15 rfl rfl)
theorem dX9_find_16 : decode cX9_find 16 = .ok (.ldc 105, 2) := dk_18 105 (dk_at dksX9_find_0 16 rfl rfl)
theorem dX9_find_18 : decode cX9_find 18 = .ok (.invokevirtual 106, 3) := dk_182 0 106 (dk_at dksX9_find_0 18 rfl rfl)
theorem dX9_find_21 : decode cX9_find 21 = .ok (.ireturn, 1) := dk_172 (dk_at dksX9_find_0 21 rfl rfl)
theorem dX9_find_22 : decode cX9_find 22 = .ok (.aload_n 0, 1) := dk_42 (dk_at dksX9_find_0 22 rfl rfl)
theorem dX9_find_23 : decode cX9_find 23 = .ok (.iload_n 1, 1) := dk_27 (dk_at dksX9_find_0 23 rfl rfl)
theorem dX9_find_24 : decode cX9_find 24 = .ok (.invokevirtual 252, 3) := dk_182 0 252 (dk_at dksX9_find_1 0 rfl rfl)
theorem dX9_find_27 : decode cX9_find 27 = .ok (.ifCond .eq 12, 3) := dk_153 0 12 (dk_at dksX9_find_1 3 rfl rfl)
theorem dX9_find_30 : decode cX9_find 30 = .ok (.aload_n 0, 1) := dk_42 (dk_at dksX9_find_1 6 rfl rfl)
theorem dX9_find_31 : decode cX9_find 31 = .ok (.getfield 43, 3) := dk_180 0 43 (dk_at dksX9_find_1 7 rfl rfl)
theorem dX9_find_34 : decode cX9_find 34 = .ok (.iload_n 2, 1) := dk_28 (dk_at dksX9_find_1 10 rfl rfl)
theorem dX9_find_35 : decode cX9_find 35 = .ok (.iaload, 1) := dk_46 (dk_at dksX9_find_1 11 rfl rfl)
theorem dX9_find_36 : decode cX9_find 36 = .ok (.goto 9, 3) := dk_167 0 9 (dk_at dksX9_find_1 12 rfl rfl)
theorem dX9_find_39 : decode cX9_find 39 = .ok (.aload_n 0, 1) := dk_42 (dk_at dksX9_find_1 15 rfl rfl)
theorem dX9_find_40 : decode cX9_find 40 = .ok (.ldc 112, 2) := dk_18 112 (dk_at dksX9_find_1 16 rfl rfl)
theorem dX9_find_42 : decode cX9_find 42 = .ok (.invokevirtual 106, 3) := dk_182 0 106 (dk_at dksX9_find_1 18 rfl rfl)
theorem dX9_find_45 : decode cX9_find 45 = .ok (.ireturn, 1) := dk_172 (dk_at dksX9_find_1 21 rfl rfl)
abbrev cX9_isSet : ByteArray := prog_33_method_12_code
def yX9_isSet : MethodName := ⟨RX9, "isSet", "(I)Z"⟩
def dkwX9_isSet_0 : List UInt8 := [27, 3, 4, 42, 180, 0, 9, 3, 46, 120, 4, 100, 184, 0, 94, 172]
abbrev dktX9_isSet_0 : List UInt8 := dkwX9_isSet_0 ++ []
theorem dksX9_isSet_0 : cX9_isSet.data.toList.drop 0 = dktX9_isSet_0 := by decide +kernel
theorem dX9_isSet_0 : decode cX9_isSet 0 = .ok (.iload_n 1, 1) := dk_27 (dk_at dksX9_isSet_0 0 rfl rfl)
theorem dX9_isSet_1 : decode cX9_isSet 1 = .ok (.iconst 0, 1) := dk_3 (dk_at dksX9_isSet_0 1 rfl rfl)
theorem dX9_isSet_2 : decode cX9_isSet 2 = .ok (.iconst 1, 1) := dk_4 (dk_at dksX9_isSet_0 2 rfl rfl)
theorem dX9_isSet_3 : decode cX9_isSet 3 = .ok (.aload_n 0, 1) := dk_42 (dk_at dksX9_isSet_0 3 rfl rfl)
theorem dX9_isSet_4 : decode cX9_isSet 4 = .ok (.getfield 9, 3) := dk_180 0 9 (dk_at dksX9_isSet_0 4 rfl rfl)
theorem dX9_isSet_7 : decode cX9_isSet 7 = .ok (.iconst 0, 1) := dk_3 (dk_at dksX9_isSet_0 7 rfl rfl)
theorem dX9_isSet_8 : decode cX9_isSet 8 = .ok (.iaload, 1) := dk_46 (dk_at dksX9_isSet_0 8 rfl rfl)
theorem dX9_isSet_9 : decode cX9_isSet 9 = .ok (.ishl, 1) := dk_120 (dk_at dksX9_isSet_0 9 rfl rfl)
theorem dX9_isSet_10 : decode cX9_isSet 10 = .ok (.iconst 1, 1) := dk_4 (dk_at dksX9_isSet_0 10 rfl rfl)
theorem dX9_isSet_11 : decode cX9_isSet 11 = .ok (.isub, 1) := dk_100 (dk_at dksX9_isSet_0 11 rfl rfl)
theorem dX9_isSet_12 : decode cX9_isSet 12 = .ok (.invokestatic 94, 3) := dk_184 0 94 (dk_at dksX9_isSet_0 12 rfl rfl)
theorem dX9_isSet_15 : decode cX9_isSet 15 = .ok (.ireturn, 1) := dk_172 (dk_at dksX9_isSet_0 15 rfl rfl)
abbrev cX9_fitsSome : ByteArray := prog_33_method_58_code
def yX9_fitsSome : MethodName := ⟨RX9, "fitsSome", "(I)Z"⟩
def dkwX9_fitsSome_0 : List UInt8 := [42, 27, 182, 0, 246, 42, 3, 17, 15, 255, 182, 0, 240, 172]
abbrev dktX9_fitsSome_0 : List UInt8 := dkwX9_fitsSome_0 ++ []
theorem dksX9_fitsSome_0 : cX9_fitsSome.data.toList.drop 0 = dktX9_fitsSome_0 := by decide +kernel
theorem dX9_fitsSome_0 : decode cX9_fitsSome 0 = .ok (.aload_n 0, 1) := dk_42 (dk_at dksX9_fitsSome_0 0 rfl rfl)
theorem dX9_fitsSome_1 : decode cX9_fitsSome 1 = .ok (.iload_n 1, 1) := dk_27 (dk_at dksX9_fitsSome_0 1 rfl rfl)
theorem dX9_fitsSome_2 : decode cX9_fitsSome 2 = .ok (.invokevirtual 246, 3) := dk_182 0 246 (dk_at dksX9_fitsSome_0 2 rfl rfl)
theorem dX9_fitsSome_5 : decode cX9_fitsSome 5 = .ok (.aload_n 0, 1) := dk_42 (dk_at dksX9_fitsSome_0 5 rfl rfl)
theorem dX9_fitsSome_6 : decode cX9_fitsSome 6 = .ok (.iconst 0, 1) := dk_3 (dk_at dksX9_fitsSome_0 6 rfl rfl)
theorem dX9_fitsSome_7 : decode cX9_fitsSome 7 = .ok (.sipush 4095, 3) := dk_17 15 255 (dk_at dksX9_fitsSome_0 7 rfl rfl)
theorem dX9_fitsSome_10 : decode cX9_fitsSome 10 = .ok (.invokevirtual 240, 3) := dk_182 0 240 (dk_at dksX9_fitsSome_0 10 rfl rfl)
theorem dX9_fitsSome_13 : decode cX9_fitsSome 13 = .ok (.ireturn, 1) := dk_172 (dk_at dksX9_fitsSome_0 13 rfl rfl)
abbrev cX9_gather : ByteArray := prog_33_method_55_code
def yX9_gather : MethodName := ⟨RX9, "gather", "(I)V"⟩
def dkwX9_gather_7 : List UInt8 := [184, 0, 237, 126, 79, 132, 3, 1, 167, 255, 135, 132, 2, 1, 167, 255, 117, 177]
abbrev dktX9_gather_7 : List UInt8 := dkwX9_gather_7 ++ []
def dkwX9_gather_6 : List UInt8 := [21, 6, 126, 79, 167, 0, 24, 42, 180, 0, 40, 16, 12, 21, 5, 104, 21, 4, 96, 92, 46, 21, 6]
abbrev dktX9_gather_6 : List UInt8 := dkwX9_gather_6 ++ dktX9_gather_7
def dkwX9_gather_5 : List UInt8 := [167, 0, 52, 21, 4, 21, 5, 162, 0, 24, 42, 180, 0, 40, 16, 12, 21, 4, 104, 21, 5, 96, 92, 46]
abbrev dktX9_gather_5 : List UInt8 := dkwX9_gather_5 ++ dktX9_gather_6
def dkwX9_gather_4 : List UInt8 := [29, 96, 46, 54, 6, 21, 5, 156, 0, 18, 42, 180, 0, 37, 21, 4, 92, 46, 21, 6, 126, 79]
abbrev dktX9_gather_4 : List UInt8 := dkwX9_gather_4 ++ dktX9_gather_5
def dkwX9_gather_3 : List UInt8 := [182, 0, 217, 54, 4, 42, 28, 29, 182, 0, 223, 54, 5, 42, 180, 0, 9, 16, 110, 16, 32, 28, 104, 96]
abbrev dktX9_gather_3 : List UInt8 := dkwX9_gather_3 ++ dktX9_gather_4
def dkwX9_gather_2 : List UInt8 := [3, 62, 27, 28, 184, 0, 226, 153, 0, 119, 29, 42, 28, 182, 0, 210, 162, 0, 110, 42, 28, 29]
abbrev dktX9_gather_2 : List UInt8 := dkwX9_gather_2 ++ dktX9_gather_3
def dkwX9_gather_1 : List UInt8 := [16, 12, 108, 16, 7, 79, 132, 2, 1, 167, 255, 226, 3, 61, 28, 42, 180, 0, 9, 3, 46, 162, 0, 135]
abbrev dktX9_gather_1 : List UInt8 := dkwX9_gather_1 ++ dktX9_gather_2
def dkwX9_gather_0 : List UInt8 := [3, 61, 28, 17, 0, 144, 162, 0, 29, 42, 180, 0, 40, 28, 17, 1, 255, 79, 42, 180, 0, 37, 28]
abbrev dktX9_gather_0 : List UInt8 := dkwX9_gather_0 ++ dktX9_gather_1
theorem dksX9_gather_0 : cX9_gather.data.toList.drop 0 = dktX9_gather_0 := by decide +kernel
theorem dksX9_gather_1 : cX9_gather.data.toList.drop 23 = dktX9_gather_1 := dk_seg dksX9_gather_0 23 rfl rfl
theorem dksX9_gather_2 : cX9_gather.data.toList.drop 47 = dktX9_gather_2 := dk_seg dksX9_gather_1 24 rfl rfl
theorem dksX9_gather_3 : cX9_gather.data.toList.drop 69 = dktX9_gather_3 := dk_seg dksX9_gather_2 22 rfl rfl
theorem dksX9_gather_4 : cX9_gather.data.toList.drop 93 = dktX9_gather_4 := dk_seg dksX9_gather_3 24 rfl rfl
theorem dksX9_gather_5 : cX9_gather.data.toList.drop 115 = dktX9_gather_5 := dk_seg dksX9_gather_4 22 rfl rfl
theorem dksX9_gather_6 : cX9_gather.data.toList.drop 139 = dktX9_gather_6 := dk_seg dksX9_gather_5 24 rfl rfl
theorem dksX9_gather_7 : cX9_gather.data.toList.drop 162 = dktX9_gather_7 := dk_seg dksX9_gather_6 23 rfl rfl
theorem dX9_gather_0 : decode cX9_gather 0 = .ok (.iconst 0, 1) := dk_3 (dk_at dksX9_gather_0 0 rfl rfl)
theorem dX9_gather_1 : decode cX9_gather 1 = .ok (.istore_n 2, 1) := dk_61 (dk_at dksX9_gather_0 1 rfl rfl)
theorem dX9_gather_2 : decode cX9_gather 2 = .ok (.iload_n 2, 1) := dk_28 (dk_at dksX9_gather_0 2 rfl rfl)
theorem dX9_gather_3 : decode cX9_gather 3 = .ok (.sipush 144, 3) := dk_17 0 144 (dk_at dksX9_gather_0 3 rfl rfl)
theorem dX9_gather_6 : decode cX9_gather 6 = .ok (.if_icmp .ge 29, 3) := dk_162 0 29 (dk_at dksX9_gather_0 6 rfl rfl)
theorem dX9_gather_9 : decode cX9_gather 9 = .ok (.aload_n 0, 1) := dk_42 (dk_at dksX9_gather_0 9 rfl rfl)
theorem dX9_gather_10 : decode cX9_gather 10 = .ok (.getfield 40, 3) := dk_180 0 40 (dk_at dksX9_gather_0 10 rfl rfl)
theorem dX9_gather_13 : decode cX9_gather 13 = .ok (.iload_n 2, 1) := dk_28 (dk_at dksX9_gather_0 13 rfl rfl)
theorem dX9_gather_14 : decode cX9_gather 14 = .ok (.sipush 511, 3) := dk_17 1 255 (dk_at dksX9_gather_0 14 rfl rfl)
theorem dX9_gather_17 : decode cX9_gather 17 = .ok (.iastore, 1) := dk_79 (dk_at dksX9_gather_0 17 rfl rfl)
theorem dX9_gather_18 : decode cX9_gather 18 = .ok (.aload_n 0, 1) := dk_42 (dk_at dksX9_gather_0 18 rfl rfl)
theorem dX9_gather_19 : decode cX9_gather 19 = .ok (.getfield 37, 3) := dk_180 0 37 (dk_at dksX9_gather_0 19 rfl rfl)
theorem dX9_gather_22 : decode cX9_gather 22 = .ok (.iload_n 2, 1) := dk_28 (dk_at dksX9_gather_0 22 rfl rfl)
theorem dX9_gather_23 : decode cX9_gather 23 = .ok (.bipush 12, 2) := dk_16 12 (dk_at dksX9_gather_1 0 rfl rfl)
theorem dX9_gather_25 : decode cX9_gather 25 = .ok (.idiv, 1) := dk_108 (dk_at dksX9_gather_1 2 rfl rfl)
theorem dX9_gather_26 : decode cX9_gather 26 = .ok (.bipush 7, 2) := dk_16 7 (dk_at dksX9_gather_1 3 rfl rfl)
theorem dX9_gather_28 : decode cX9_gather 28 = .ok (.iastore, 1) := dk_79 (dk_at dksX9_gather_1 5 rfl rfl)
theorem dX9_gather_29 : decode cX9_gather 29 = .ok (.iinc 2 1, 3) := dk_132 2 1 (dk_at dksX9_gather_1 6 rfl rfl)
theorem dX9_gather_32 : decode cX9_gather 32 = .ok (.goto (-30), 3) := dk_167 255 226 (dk_at dksX9_gather_1 9 rfl rfl)
theorem dX9_gather_35 : decode cX9_gather 35 = .ok (.iconst 0, 1) := dk_3 (dk_at dksX9_gather_1 12 rfl rfl)
theorem dX9_gather_36 : decode cX9_gather 36 = .ok (.istore_n 2, 1) := dk_61 (dk_at dksX9_gather_1 13 rfl rfl)
theorem dX9_gather_37 : decode cX9_gather 37 = .ok (.iload_n 2, 1) := dk_28 (dk_at dksX9_gather_1 14 rfl rfl)
theorem dX9_gather_38 : decode cX9_gather 38 = .ok (.aload_n 0, 1) := dk_42 (dk_at dksX9_gather_1 15 rfl rfl)
theorem dX9_gather_39 : decode cX9_gather 39 = .ok (.getfield 9, 3) := dk_180 0 9 (dk_at dksX9_gather_1 16 rfl rfl)
theorem dX9_gather_42 : decode cX9_gather 42 = .ok (.iconst 0, 1) := dk_3 (dk_at dksX9_gather_1 19 rfl rfl)
theorem dX9_gather_43 : decode cX9_gather 43 = .ok (.iaload, 1) := dk_46 (dk_at dksX9_gather_1 20 rfl rfl)
theorem dX9_gather_44 : decode cX9_gather 44 = .ok (.if_icmp .ge 135, 3) := dk_162 0 135 (dk_at dksX9_gather_1 21 rfl rfl)
theorem dX9_gather_47 : decode cX9_gather 47 = .ok (.iconst 0, 1) := dk_3 (dk_at dksX9_gather_2 0 rfl rfl)
theorem dX9_gather_48 : decode cX9_gather 48 = .ok (.istore_n 3, 1) := dk_62 (dk_at dksX9_gather_2 1 rfl rfl)
theorem dX9_gather_49 : decode cX9_gather 49 = .ok (.iload_n 1, 1) := dk_27 (dk_at dksX9_gather_2 2 rfl rfl)
theorem dX9_gather_50 : decode cX9_gather 50 = .ok (.iload_n 2, 1) := dk_28 (dk_at dksX9_gather_2 3 rfl rfl)
theorem dX9_gather_51 : decode cX9_gather 51 = .ok (.invokestatic 226, 3) := dk_184 0 226 (dk_at dksX9_gather_2 4 rfl rfl)
theorem dX9_gather_54 : decode cX9_gather 54 = .ok (.ifCond .eq 119, 3) := dk_153 0 119 (dk_at dksX9_gather_2 7 rfl rfl)
theorem dX9_gather_57 : decode cX9_gather 57 = .ok (.iload_n 3, 1) := dk_29 (dk_at dksX9_gather_2 10 rfl rfl)
theorem dX9_gather_58 : decode cX9_gather 58 = .ok (.aload_n 0, 1) := dk_42 (dk_at dksX9_gather_2 11 rfl rfl)
theorem dX9_gather_59 : decode cX9_gather 59 = .ok (.iload_n 2, 1) := dk_28 (dk_at dksX9_gather_2 12 rfl rfl)
theorem dX9_gather_60 : decode cX9_gather 60 = .ok (.invokevirtual 210, 3) := dk_182 0 210 (dk_at dksX9_gather_2 13 rfl rfl)
theorem dX9_gather_63 : decode cX9_gather 63 = .ok (.if_icmp .ge 110, 3) := dk_162 0 110 (dk_at dksX9_gather_2 16 rfl rfl)
theorem dX9_gather_66 : decode cX9_gather 66 = .ok (.aload_n 0, 1) := dk_42 (dk_at dksX9_gather_2 19 rfl rfl)
theorem dX9_gather_67 : decode cX9_gather 67 = .ok (.iload_n 2, 1) := dk_28 (dk_at dksX9_gather_2 20 rfl rfl)
theorem dX9_gather_68 : decode cX9_gather 68 = .ok (.iload_n 3, 1) := dk_29 (dk_at dksX9_gather_2 21 rfl rfl)
theorem dX9_gather_69 : decode cX9_gather 69 = .ok (.invokevirtual 217, 3) := dk_182 0 217 (dk_at dksX9_gather_3 0 rfl rfl)
theorem dX9_gather_72 : decode cX9_gather 72 = .ok (.istore 4, 2) := dk_54 4 (dk_at dksX9_gather_3 3 rfl rfl)
theorem dX9_gather_74 : decode cX9_gather 74 = .ok (.aload_n 0, 1) := dk_42 (dk_at dksX9_gather_3 5 rfl rfl)
theorem dX9_gather_75 : decode cX9_gather 75 = .ok (.iload_n 2, 1) := dk_28 (dk_at dksX9_gather_3 6 rfl rfl)
theorem dX9_gather_76 : decode cX9_gather 76 = .ok (.iload_n 3, 1) := dk_29 (dk_at dksX9_gather_3 7 rfl rfl)
theorem dX9_gather_77 : decode cX9_gather 77 = .ok (.invokevirtual 223, 3) := dk_182 0 223 (dk_at dksX9_gather_3 8 rfl rfl)
theorem dX9_gather_80 : decode cX9_gather 80 = .ok (.istore 5, 2) := dk_54 5 (dk_at dksX9_gather_3 11 rfl rfl)
theorem dX9_gather_82 : decode cX9_gather 82 = .ok (.aload_n 0, 1) := dk_42 (dk_at dksX9_gather_3 13 rfl rfl)
theorem dX9_gather_83 : decode cX9_gather 83 = .ok (.getfield 9, 3) := dk_180 0 9 (dk_at dksX9_gather_3 14 rfl rfl)
theorem dX9_gather_86 : decode cX9_gather 86 = .ok (.bipush 110, 2) := dk_16 110 (dk_at dksX9_gather_3 17 rfl rfl)
theorem dX9_gather_88 : decode cX9_gather 88 = .ok (.bipush 32, 2) := dk_16 32 (dk_at dksX9_gather_3 19 rfl rfl)
theorem dX9_gather_90 : decode cX9_gather 90 = .ok (.iload_n 2, 1) := dk_28 (dk_at dksX9_gather_3 21 rfl rfl)
theorem dX9_gather_91 : decode cX9_gather 91 = .ok (.imul, 1) := dk_104 (dk_at dksX9_gather_3 22 rfl rfl)
theorem dX9_gather_92 : decode cX9_gather 92 = .ok (.iadd, 1) := dk_96 (dk_at dksX9_gather_3 23 rfl rfl)
theorem dX9_gather_93 : decode cX9_gather 93 = .ok (.iload_n 3, 1) := dk_29 (dk_at dksX9_gather_4 0 rfl rfl)
theorem dX9_gather_94 : decode cX9_gather 94 = .ok (.iadd, 1) := dk_96 (dk_at dksX9_gather_4 1 rfl rfl)
theorem dX9_gather_95 : decode cX9_gather 95 = .ok (.iaload, 1) := dk_46 (dk_at dksX9_gather_4 2 rfl rfl)
theorem dX9_gather_96 : decode cX9_gather 96 = .ok (.istore 6, 2) := dk_54 6 (dk_at dksX9_gather_4 3 rfl rfl)
theorem dX9_gather_98 : decode cX9_gather 98 = .ok (.iload 5, 2) := dk_21 5 (dk_at dksX9_gather_4 5 rfl rfl)
theorem dX9_gather_100 : decode cX9_gather 100 = .ok (.ifCond .ge 18, 3) := dk_156 0 18 (dk_at dksX9_gather_4 7 rfl rfl)
theorem dX9_gather_103 : decode cX9_gather 103 = .ok (.aload_n 0, 1) := dk_42 (dk_at dksX9_gather_4 10 rfl rfl)
theorem dX9_gather_104 : decode cX9_gather 104 = .ok (.getfield 37, 3) := dk_180 0 37 (dk_at dksX9_gather_4 11 rfl rfl)
theorem dX9_gather_107 : decode cX9_gather 107 = .ok (.iload 4, 2) := dk_21 4 (dk_at dksX9_gather_4 14 rfl rfl)
theorem dX9_gather_109 : decode cX9_gather 109 = .ok (.dup2, 1) := dk_92 (dk_at dksX9_gather_4 16 rfl rfl)
theorem dX9_gather_110 : decode cX9_gather 110 = .ok (.iaload, 1) := dk_46 (dk_at dksX9_gather_4 17 rfl rfl)
theorem dX9_gather_111 : decode cX9_gather 111 = .ok (.iload 6, 2) := dk_21 6 (dk_at dksX9_gather_4 18 rfl rfl)
theorem dX9_gather_113 : decode cX9_gather 113 = .ok (.iand, 1) := dk_126 (dk_at dksX9_gather_4 20 rfl rfl)
theorem dX9_gather_114 : decode cX9_gather 114 = .ok (.iastore, 1) := dk_79 (dk_at dksX9_gather_4 21 rfl rfl)
theorem dX9_gather_115 : decode cX9_gather 115 = .ok (.goto 52, 3) := dk_167 0 52 (dk_at dksX9_gather_5 0 rfl rfl)
theorem dX9_gather_118 : decode cX9_gather 118 = .ok (.iload 4, 2) := dk_21 4 (dk_at dksX9_gather_5 3 rfl rfl)
theorem dX9_gather_120 : decode cX9_gather 120 = .ok (.iload 5, 2) := dk_21 5 (dk_at dksX9_gather_5 5 rfl rfl)
theorem dX9_gather_122 : decode cX9_gather 122 = .ok (.if_icmp .ge 24, 3) := dk_162 0 24 (dk_at dksX9_gather_5 7 rfl rfl)
theorem dX9_gather_125 : decode cX9_gather 125 = .ok (.aload_n 0, 1) := dk_42 (dk_at dksX9_gather_5 10 rfl rfl)
theorem dX9_gather_126 : decode cX9_gather 126 = .ok (.getfield 40, 3) := dk_180 0 40 (dk_at dksX9_gather_5 11 rfl rfl)
theorem dX9_gather_129 : decode cX9_gather 129 = .ok (.bipush 12, 2) := dk_16 12 (dk_at dksX9_gather_5 14 rfl rfl)
theorem dX9_gather_131 : decode cX9_gather 131 = .ok (.iload 4, 2) := dk_21 4 (dk_at dksX9_gather_5 16 rfl rfl)
theorem dX9_gather_133 : decode cX9_gather 133 = .ok (.imul, 1) := dk_104 (dk_at dksX9_gather_5 18 rfl rfl)
theorem dX9_gather_134 : decode cX9_gather 134 = .ok (.iload 5, 2) := dk_21 5 (dk_at dksX9_gather_5 19 rfl rfl)
theorem dX9_gather_136 : decode cX9_gather 136 = .ok (.iadd, 1) := dk_96 (dk_at dksX9_gather_5 21 rfl rfl)
theorem dX9_gather_137 : decode cX9_gather 137 = .ok (.dup2, 1) := dk_92 (dk_at dksX9_gather_5 22 rfl rfl)
theorem dX9_gather_138 : decode cX9_gather 138 = .ok (.iaload, 1) := dk_46 (dk_at dksX9_gather_5 23 rfl rfl)
theorem dX9_gather_139 : decode cX9_gather 139 = .ok (.iload 6, 2) := dk_21 6 (dk_at dksX9_gather_6 0 rfl rfl)
theorem dX9_gather_141 : decode cX9_gather 141 = .ok (.iand, 1) := dk_126 (dk_at dksX9_gather_6 2 rfl rfl)
theorem dX9_gather_142 : decode cX9_gather 142 = .ok (.iastore, 1) := dk_79 (dk_at dksX9_gather_6 3 rfl rfl)
theorem dX9_gather_143 : decode cX9_gather 143 = .ok (.goto 24, 3) := dk_167 0 24 (dk_at dksX9_gather_6 4 rfl rfl)
theorem dX9_gather_146 : decode cX9_gather 146 = .ok (.aload_n 0, 1) := dk_42 (dk_at dksX9_gather_6 7 rfl rfl)
theorem dX9_gather_147 : decode cX9_gather 147 = .ok (.getfield 40, 3) := dk_180 0 40 (dk_at dksX9_gather_6 8 rfl rfl)
theorem dX9_gather_150 : decode cX9_gather 150 = .ok (.bipush 12, 2) := dk_16 12 (dk_at dksX9_gather_6 11 rfl rfl)
theorem dX9_gather_152 : decode cX9_gather 152 = .ok (.iload 5, 2) := dk_21 5 (dk_at dksX9_gather_6 13 rfl rfl)
theorem dX9_gather_154 : decode cX9_gather 154 = .ok (.imul, 1) := dk_104 (dk_at dksX9_gather_6 15 rfl rfl)
theorem dX9_gather_155 : decode cX9_gather 155 = .ok (.iload 4, 2) := dk_21 4 (dk_at dksX9_gather_6 16 rfl rfl)
theorem dX9_gather_157 : decode cX9_gather 157 = .ok (.iadd, 1) := dk_96 (dk_at dksX9_gather_6 18 rfl rfl)
theorem dX9_gather_158 : decode cX9_gather 158 = .ok (.dup2, 1) := dk_92 (dk_at dksX9_gather_6 19 rfl rfl)
theorem dX9_gather_159 : decode cX9_gather 159 = .ok (.iaload, 1) := dk_46 (dk_at dksX9_gather_6 20 rfl rfl)
theorem dX9_gather_160 : decode cX9_gather 160 = .ok (.iload 6, 2) := dk_21 6 (dk_at dksX9_gather_6 21 rfl rfl)
theorem dX9_gather_162 : decode cX9_gather 162 = .ok (.invokestatic 237, 3) := dk_184 0 237 (dk_at dksX9_gather_7 0 rfl rfl)
theorem dX9_gather_165 : decode cX9_gather 165 = .ok (.iand, 1) := dk_126 (dk_at dksX9_gather_7 3 rfl rfl)
theorem dX9_gather_166 : decode cX9_gather 166 = .ok (.iastore, 1) := dk_79 (dk_at dksX9_gather_7 4 rfl rfl)
theorem dX9_gather_167 : decode cX9_gather 167 = .ok (.iinc 3 1, 3) := dk_132 3 1 (dk_at dksX9_gather_7 5 rfl rfl)
theorem dX9_gather_170 : decode cX9_gather 170 = .ok (.goto (-121), 3) := dk_167 255 135 (dk_at dksX9_gather_7 8 rfl rfl)
theorem dX9_gather_173 : decode cX9_gather 173 = .ok (.iinc 2 1, 3) := dk_132 2 1 (dk_at dksX9_gather_7 11 rfl rfl)
theorem dX9_gather_176 : decode cX9_gather 176 = .ok (.goto (-139), 3) := dk_167 255 117 (dk_at dksX9_gather_7 14 rfl rfl)
theorem dX9_gather_179 : decode cX9_gather 179 = .ok (.return_, 1) := dk_177 (dk_at dksX9_gather_7 17 rfl rfl)
abbrev cX9_flipped : ByteArray := prog_33_method_54_code
def yX9_flipped : MethodName := ⟨RX9, "flipped", "(I)I"⟩
def dkwX9_flipped_2 : List UInt8 := [167, 255, 222, 132, 2, 1, 167, 255, 209, 27, 172]
abbrev dktX9_flipped_2 : List UInt8 := dkwX9_flipped_2 ++ []
def dkwX9_flipped_1 : List UInt8 := [184, 0, 226, 153, 0, 13, 4, 6, 29, 104, 28, 96, 120, 167, 0, 4, 3, 128, 60, 132, 3, 1]
abbrev dktX9_flipped_1 : List UInt8 := dkwX9_flipped_1 ++ dktX9_flipped_2
def dkwX9_flipped_0 : List UInt8 := [3, 60, 3, 61, 28, 6, 162, 0, 48, 3, 62, 29, 6, 162, 0, 35, 27, 26, 6, 28, 104, 29, 96]
abbrev dktX9_flipped_0 : List UInt8 := dkwX9_flipped_0 ++ dktX9_flipped_1
theorem dksX9_flipped_0 : cX9_flipped.data.toList.drop 0 = dktX9_flipped_0 := by decide +kernel
theorem dksX9_flipped_1 : cX9_flipped.data.toList.drop 23 = dktX9_flipped_1 := dk_seg dksX9_flipped_0 23 rfl rfl
theorem dksX9_flipped_2 : cX9_flipped.data.toList.drop 45 = dktX9_flipped_2 := dk_seg dksX9_flipped_1 22 rfl rfl
theorem dX9_flipped_0 : decode cX9_flipped 0 = .ok (.iconst 0, 1) := dk_3 (dk_at dksX9_flipped_0 0 rfl rfl)
theorem dX9_flipped_1 : decode cX9_flipped 1 = .ok (.istore_n 1, 1) := dk_60 (dk_at dksX9_flipped_0 1 rfl rfl)
theorem dX9_flipped_2 : decode cX9_flipped 2 = .ok (.iconst 0, 1) := dk_3 (dk_at dksX9_flipped_0 2 rfl rfl)
theorem dX9_flipped_3 : decode cX9_flipped 3 = .ok (.istore_n 2, 1) := dk_61 (dk_at dksX9_flipped_0 3 rfl rfl)
theorem dX9_flipped_4 : decode cX9_flipped 4 = .ok (.iload_n 2, 1) := dk_28 (dk_at dksX9_flipped_0 4 rfl rfl)
theorem dX9_flipped_5 : decode cX9_flipped 5 = .ok (.iconst 3, 1) := dk_6 (dk_at dksX9_flipped_0 5 rfl rfl)
theorem dX9_flipped_6 : decode cX9_flipped 6 = .ok (.if_icmp .ge 48, 3) := dk_162 0 48 (dk_at dksX9_flipped_0 6 rfl rfl)
theorem dX9_flipped_9 : decode cX9_flipped 9 = .ok (.iconst 0, 1) := dk_3 (dk_at dksX9_flipped_0 9 rfl rfl)
theorem dX9_flipped_10 : decode cX9_flipped 10 = .ok (.istore_n 3, 1) := dk_62 (dk_at dksX9_flipped_0 10 rfl rfl)
theorem dX9_flipped_11 : decode cX9_flipped 11 = .ok (.iload_n 3, 1) := dk_29 (dk_at dksX9_flipped_0 11 rfl rfl)
theorem dX9_flipped_12 : decode cX9_flipped 12 = .ok (.iconst 3, 1) := dk_6 (dk_at dksX9_flipped_0 12 rfl rfl)
theorem dX9_flipped_13 : decode cX9_flipped 13 = .ok (.if_icmp .ge 35, 3) := dk_162 0 35 (dk_at dksX9_flipped_0 13 rfl rfl)
theorem dX9_flipped_16 : decode cX9_flipped 16 = .ok (.iload_n 1, 1) := dk_27 (dk_at dksX9_flipped_0 16 rfl rfl)
theorem dX9_flipped_17 : decode cX9_flipped 17 = .ok (.iload_n 0, 1) := dk_26 (dk_at dksX9_flipped_0 17 rfl rfl)
theorem dX9_flipped_18 : decode cX9_flipped 18 = .ok (.iconst 3, 1) := dk_6 (dk_at dksX9_flipped_0 18 rfl rfl)
theorem dX9_flipped_19 : decode cX9_flipped 19 = .ok (.iload_n 2, 1) := dk_28 (dk_at dksX9_flipped_0 19 rfl rfl)
theorem dX9_flipped_20 : decode cX9_flipped 20 = .ok (.imul, 1) := dk_104 (dk_at dksX9_flipped_0 20 rfl rfl)
theorem dX9_flipped_21 : decode cX9_flipped 21 = .ok (.iload_n 3, 1) := dk_29 (dk_at dksX9_flipped_0 21 rfl rfl)
theorem dX9_flipped_22 : decode cX9_flipped 22 = .ok (.iadd, 1) := dk_96 (dk_at dksX9_flipped_0 22 rfl rfl)
theorem dX9_flipped_23 : decode cX9_flipped 23 = .ok (.invokestatic 226, 3) := dk_184 0 226 (dk_at dksX9_flipped_1 0 rfl rfl)
theorem dX9_flipped_26 : decode cX9_flipped 26 = .ok (.ifCond .eq 13, 3) := dk_153 0 13 (dk_at dksX9_flipped_1 3 rfl rfl)
theorem dX9_flipped_29 : decode cX9_flipped 29 = .ok (.iconst 1, 1) := dk_4 (dk_at dksX9_flipped_1 6 rfl rfl)
theorem dX9_flipped_30 : decode cX9_flipped 30 = .ok (.iconst 3, 1) := dk_6 (dk_at dksX9_flipped_1 7 rfl rfl)
theorem dX9_flipped_31 : decode cX9_flipped 31 = .ok (.iload_n 3, 1) := dk_29 (dk_at dksX9_flipped_1 8 rfl rfl)
theorem dX9_flipped_32 : decode cX9_flipped 32 = .ok (.imul, 1) := dk_104 (dk_at dksX9_flipped_1 9 rfl rfl)
theorem dX9_flipped_33 : decode cX9_flipped 33 = .ok (.iload_n 2, 1) := dk_28 (dk_at dksX9_flipped_1 10 rfl rfl)
theorem dX9_flipped_34 : decode cX9_flipped 34 = .ok (.iadd, 1) := dk_96 (dk_at dksX9_flipped_1 11 rfl rfl)
theorem dX9_flipped_35 : decode cX9_flipped 35 = .ok (.ishl, 1) := dk_120 (dk_at dksX9_flipped_1 12 rfl rfl)
theorem dX9_flipped_36 : decode cX9_flipped 36 = .ok (.goto 4, 3) := dk_167 0 4 (dk_at dksX9_flipped_1 13 rfl rfl)
theorem dX9_flipped_39 : decode cX9_flipped 39 = .ok (.iconst 0, 1) := dk_3 (dk_at dksX9_flipped_1 16 rfl rfl)
theorem dX9_flipped_40 : decode cX9_flipped 40 = .ok (.ior, 1) := dk_128 (dk_at dksX9_flipped_1 17 rfl rfl)
theorem dX9_flipped_41 : decode cX9_flipped 41 = .ok (.istore_n 1, 1) := dk_60 (dk_at dksX9_flipped_1 18 rfl rfl)
theorem dX9_flipped_42 : decode cX9_flipped 42 = .ok (.iinc 3 1, 3) := dk_132 3 1 (dk_at dksX9_flipped_1 19 rfl rfl)
theorem dX9_flipped_45 : decode cX9_flipped 45 = .ok (.goto (-34), 3) := dk_167 255 222 (dk_at dksX9_flipped_2 0 rfl rfl)
theorem dX9_flipped_48 : decode cX9_flipped 48 = .ok (.iinc 2 1, 3) := dk_132 2 1 (dk_at dksX9_flipped_2 3 rfl rfl)
theorem dX9_flipped_51 : decode cX9_flipped 51 = .ok (.goto (-47), 3) := dk_167 255 209 (dk_at dksX9_flipped_2 6 rfl rfl)
theorem dX9_flipped_54 : decode cX9_flipped 54 = .ok (.iload_n 1, 1) := dk_27 (dk_at dksX9_flipped_2 9 rfl rfl)
theorem dX9_flipped_55 : decode cX9_flipped 55 = .ok (.ireturn, 1) := dk_172 (dk_at dksX9_flipped_2 10 rfl rfl)
abbrev cX9_seek : ByteArray := prog_33_method_57_code
def yX9_seek : MethodName := ⟨RX9, "seek", "(II)Z"⟩
def dkwX9_seek_2 : List UInt8 := [79, 42, 27, 4, 96, 28, 182, 0, 240, 153, 0, 5, 4, 172, 132, 3, 1, 167, 255, 218, 3, 172]
abbrev dktX9_seek_2 : List UInt8 := dkwX9_seek_2 ++ []
def dkwX9_seek_1 : List UInt8 := [172, 4, 62, 29, 6, 163, 0, 39, 42, 27, 29, 28, 182, 0, 243, 153, 0, 23, 42, 180, 0, 43, 27, 29]
abbrev dktX9_seek_1 : List UInt8 := dkwX9_seek_1 ++ dktX9_seek_2
def dkwX9_seek_0 : List UInt8 := [27, 16, 12, 160, 0, 5, 4, 172, 28, 27, 184, 0, 226, 154, 0, 12, 42, 27, 4, 96, 28, 182, 0, 240]
abbrev dktX9_seek_0 : List UInt8 := dkwX9_seek_0 ++ dktX9_seek_1
theorem dksX9_seek_0 : cX9_seek.data.toList.drop 0 = dktX9_seek_0 := by decide +kernel
theorem dksX9_seek_1 : cX9_seek.data.toList.drop 24 = dktX9_seek_1 := dk_seg dksX9_seek_0 24 rfl rfl
theorem dksX9_seek_2 : cX9_seek.data.toList.drop 48 = dktX9_seek_2 := dk_seg dksX9_seek_1 24 rfl rfl
theorem dX9_seek_0 : decode cX9_seek 0 = .ok (.iload_n 1, 1) := dk_27 (dk_at dksX9_seek_0 0 rfl rfl)
theorem dX9_seek_1 : decode cX9_seek 1 = .ok (.bipush 12, 2) := dk_16 12 (dk_at dksX9_seek_0 1 rfl rfl)
theorem dX9_seek_3 : decode cX9_seek 3 = .ok (.if_icmp .ne 5, 3) := dk_160 0 5 (dk_at dksX9_seek_0 3 rfl rfl)
theorem dX9_seek_6 : decode cX9_seek 6 = .ok (.iconst 1, 1) := dk_4 (dk_at dksX9_seek_0 6 rfl rfl)
theorem dX9_seek_7 : decode cX9_seek 7 = .ok (.ireturn, 1) := dk_172 (dk_at dksX9_seek_0 7 rfl rfl)
theorem dX9_seek_8 : decode cX9_seek 8 = .ok (.iload_n 2, 1) := dk_28 (dk_at dksX9_seek_0 8 rfl rfl)
theorem dX9_seek_9 : decode cX9_seek 9 = .ok (.iload_n 1, 1) := dk_27 (dk_at dksX9_seek_0 9 rfl rfl)
theorem dX9_seek_10 : decode cX9_seek 10 = .ok (.invokestatic 226, 3) := dk_184 0 226 (dk_at dksX9_seek_0 10 rfl rfl)
theorem dX9_seek_13 : decode cX9_seek 13 = .ok (.ifCond .ne 12, 3) := dk_154 0 12 (dk_at dksX9_seek_0 13 rfl rfl)
theorem dX9_seek_16 : decode cX9_seek 16 = .ok (.aload_n 0, 1) := dk_42 (dk_at dksX9_seek_0 16 rfl rfl)
theorem dX9_seek_17 : decode cX9_seek 17 = .ok (.iload_n 1, 1) := dk_27 (dk_at dksX9_seek_0 17 rfl rfl)
theorem dX9_seek_18 : decode cX9_seek 18 = .ok (.iconst 1, 1) := dk_4 (dk_at dksX9_seek_0 18 rfl rfl)
theorem dX9_seek_19 : decode cX9_seek 19 = .ok (.iadd, 1) := dk_96 (dk_at dksX9_seek_0 19 rfl rfl)
theorem dX9_seek_20 : decode cX9_seek 20 = .ok (.iload_n 2, 1) := dk_28 (dk_at dksX9_seek_0 20 rfl rfl)
theorem dX9_seek_21 : decode cX9_seek 21 = .ok (.invokevirtual 240, 3) := dk_182 0 240 (dk_at dksX9_seek_0 21 rfl rfl)
theorem dX9_seek_24 : decode cX9_seek 24 = .ok (.ireturn, 1) := dk_172 (dk_at dksX9_seek_1 0 rfl rfl)
theorem dX9_seek_25 : decode cX9_seek 25 = .ok (.iconst 1, 1) := dk_4 (dk_at dksX9_seek_1 1 rfl rfl)
theorem dX9_seek_26 : decode cX9_seek 26 = .ok (.istore_n 3, 1) := dk_62 (dk_at dksX9_seek_1 2 rfl rfl)
theorem dX9_seek_27 : decode cX9_seek 27 = .ok (.iload_n 3, 1) := dk_29 (dk_at dksX9_seek_1 3 rfl rfl)
theorem dX9_seek_28 : decode cX9_seek 28 = .ok (.iconst 3, 1) := dk_6 (dk_at dksX9_seek_1 4 rfl rfl)
theorem dX9_seek_29 : decode cX9_seek 29 = .ok (.if_icmp .gt 39, 3) := dk_163 0 39 (dk_at dksX9_seek_1 5 rfl rfl)
theorem dX9_seek_32 : decode cX9_seek 32 = .ok (.aload_n 0, 1) := dk_42 (dk_at dksX9_seek_1 8 rfl rfl)
theorem dX9_seek_33 : decode cX9_seek 33 = .ok (.iload_n 1, 1) := dk_27 (dk_at dksX9_seek_1 9 rfl rfl)
theorem dX9_seek_34 : decode cX9_seek 34 = .ok (.iload_n 3, 1) := dk_29 (dk_at dksX9_seek_1 10 rfl rfl)
theorem dX9_seek_35 : decode cX9_seek 35 = .ok (.iload_n 2, 1) := dk_28 (dk_at dksX9_seek_1 11 rfl rfl)
theorem dX9_seek_36 : decode cX9_seek 36 = .ok (.invokevirtual 243, 3) := dk_182 0 243 (dk_at dksX9_seek_1 12 rfl rfl)
theorem dX9_seek_39 : decode cX9_seek 39 = .ok (.ifCond .eq 23, 3) := dk_153 0 23 (dk_at dksX9_seek_1 15 rfl rfl)
theorem dX9_seek_42 : decode cX9_seek 42 = .ok (.aload_n 0, 1) := dk_42 (dk_at dksX9_seek_1 18 rfl rfl)
theorem dX9_seek_43 : decode cX9_seek 43 = .ok (.getfield 43, 3) := dk_180 0 43 (dk_at dksX9_seek_1 19 rfl rfl)
theorem dX9_seek_46 : decode cX9_seek 46 = .ok (.iload_n 1, 1) := dk_27 (dk_at dksX9_seek_1 22 rfl rfl)
theorem dX9_seek_47 : decode cX9_seek 47 = .ok (.iload_n 3, 1) := dk_29 (dk_at dksX9_seek_1 23 rfl rfl)
theorem dX9_seek_48 : decode cX9_seek 48 = .ok (.iastore, 1) := dk_79 (dk_at dksX9_seek_2 0 rfl rfl)
theorem dX9_seek_49 : decode cX9_seek 49 = .ok (.aload_n 0, 1) := dk_42 (dk_at dksX9_seek_2 1 rfl rfl)
theorem dX9_seek_50 : decode cX9_seek 50 = .ok (.iload_n 1, 1) := dk_27 (dk_at dksX9_seek_2 2 rfl rfl)
theorem dX9_seek_51 : decode cX9_seek 51 = .ok (.iconst 1, 1) := dk_4 (dk_at dksX9_seek_2 3 rfl rfl)
theorem dX9_seek_52 : decode cX9_seek 52 = .ok (.iadd, 1) := dk_96 (dk_at dksX9_seek_2 4 rfl rfl)
theorem dX9_seek_53 : decode cX9_seek 53 = .ok (.iload_n 2, 1) := dk_28 (dk_at dksX9_seek_2 5 rfl rfl)
theorem dX9_seek_54 : decode cX9_seek 54 = .ok (.invokevirtual 240, 3) := dk_182 0 240 (dk_at dksX9_seek_2 6 rfl rfl)
theorem dX9_seek_57 : decode cX9_seek 57 = .ok (.ifCond .eq 5, 3) := dk_153 0 5 (dk_at dksX9_seek_2 9 rfl rfl)
theorem dX9_seek_60 : decode cX9_seek 60 = .ok (.iconst 1, 1) := dk_4 (dk_at dksX9_seek_2 12 rfl rfl)
theorem dX9_seek_61 : decode cX9_seek 61 = .ok (.ireturn, 1) := dk_172 (dk_at dksX9_seek_2 13 rfl rfl)
theorem dX9_seek_62 : decode cX9_seek 62 = .ok (.iinc 3 1, 3) := dk_132 3 1 (dk_at dksX9_seek_2 14 rfl rfl)
theorem dX9_seek_65 : decode cX9_seek 65 = .ok (.goto (-38), 3) := dk_167 255 218 (dk_at dksX9_seek_2 17 rfl rfl)
theorem dX9_seek_68 : decode cX9_seek 68 = .ok (.iconst 0, 1) := dk_3 (dk_at dksX9_seek_2 20 rfl rfl)
theorem dX9_seek_69 : decode cX9_seek 69 = .ok (.ireturn, 1) := dk_172 (dk_at dksX9_seek_2 21 rfl rfl)
abbrev cX9_fitsAhead : ByteArray := prog_33_method_56_code
def yX9_fitsAhead : MethodName := ⟨RX9, "fitsAhead", "(III)Z"⟩
def dkwX9_fitsAhead_3 : List UInt8 := [167, 0, 4, 3, 54, 4, 132, 5, 1, 167, 255, 195, 21, 4, 172]
abbrev dktX9_fitsAhead_3 : List UInt8 := dkwX9_fitsAhead_3 ++ []
def dkwX9_fitsAhead_2 : List UInt8 := [96, 46, 6, 42, 180, 0, 43, 21, 5, 46, 104, 28, 96, 7, 100, 184, 0, 226, 153, 0, 7, 4]
abbrev dktX9_fitsAhead_2 : List UInt8 := dkwX9_fitsAhead_2 ++ dktX9_fitsAhead_3
def dkwX9_fitsAhead_1 : List UInt8 := [21, 4, 153, 0, 56, 29, 21, 5, 184, 0, 226, 153, 0, 34, 42, 180, 0, 40, 16, 12, 21, 5, 104, 27]
abbrev dktX9_fitsAhead_1 : List UInt8 := dkwX9_fitsAhead_1 ++ dktX9_fitsAhead_2
def dkwX9_fitsAhead_0 : List UInt8 := [42, 180, 0, 37, 27, 46, 28, 4, 100, 184, 0, 226, 54, 4, 3, 54, 5, 21, 5, 27, 162, 0, 61]
abbrev dktX9_fitsAhead_0 : List UInt8 := dkwX9_fitsAhead_0 ++ dktX9_fitsAhead_1
theorem dksX9_fitsAhead_0 : cX9_fitsAhead.data.toList.drop 0 = dktX9_fitsAhead_0 := by decide +kernel
theorem dksX9_fitsAhead_1 : cX9_fitsAhead.data.toList.drop 23 = dktX9_fitsAhead_1 := dk_seg dksX9_fitsAhead_0 23 rfl rfl
theorem dksX9_fitsAhead_2 : cX9_fitsAhead.data.toList.drop 47 = dktX9_fitsAhead_2 := dk_seg dksX9_fitsAhead_1 24 rfl rfl
theorem dksX9_fitsAhead_3 : cX9_fitsAhead.data.toList.drop 69 = dktX9_fitsAhead_3 := dk_seg dksX9_fitsAhead_2 22 rfl rfl
theorem dX9_fitsAhead_0 : decode cX9_fitsAhead 0 = .ok (.aload_n 0, 1) := dk_42 (dk_at dksX9_fitsAhead_0 0 rfl rfl)
theorem dX9_fitsAhead_1 : decode cX9_fitsAhead 1 = .ok (.getfield 37, 3) := dk_180 0 37 (dk_at dksX9_fitsAhead_0 1 rfl rfl)
theorem dX9_fitsAhead_4 : decode cX9_fitsAhead 4 = .ok (.iload_n 1, 1) := dk_27 (dk_at dksX9_fitsAhead_0 4 rfl rfl)
theorem dX9_fitsAhead_5 : decode cX9_fitsAhead 5 = .ok (.iaload, 1) := dk_46 (dk_at dksX9_fitsAhead_0 5 rfl rfl)
theorem dX9_fitsAhead_6 : decode cX9_fitsAhead 6 = .ok (.iload_n 2, 1) := dk_28 (dk_at dksX9_fitsAhead_0 6 rfl rfl)
theorem dX9_fitsAhead_7 : decode cX9_fitsAhead 7 = .ok (.iconst 1, 1) := dk_4 (dk_at dksX9_fitsAhead_0 7 rfl rfl)
theorem dX9_fitsAhead_8 : decode cX9_fitsAhead 8 = .ok (.isub, 1) := dk_100 (dk_at dksX9_fitsAhead_0 8 rfl rfl)
theorem dX9_fitsAhead_9 : decode cX9_fitsAhead 9 = .ok (.invokestatic 226, 3) := dk_184 0 226 (dk_at dksX9_fitsAhead_0 9 rfl rfl)
theorem dX9_fitsAhead_12 : decode cX9_fitsAhead 12 = .ok (.istore 4, 2) := dk_54 4 (dk_at dksX9_fitsAhead_0 12 rfl rfl)
theorem dX9_fitsAhead_14 : decode cX9_fitsAhead 14 = .ok (.iconst 0, 1) := dk_3 (dk_at dksX9_fitsAhead_0 14 rfl rfl)
theorem dX9_fitsAhead_15 : decode cX9_fitsAhead 15 = .ok (.istore 5, 2) := dk_54 5 (dk_at dksX9_fitsAhead_0 15 rfl rfl)
theorem dX9_fitsAhead_17 : decode cX9_fitsAhead 17 = .ok (.iload 5, 2) := dk_21 5 (dk_at dksX9_fitsAhead_0 17 rfl rfl)
theorem dX9_fitsAhead_19 : decode cX9_fitsAhead 19 = .ok (.iload_n 1, 1) := dk_27 (dk_at dksX9_fitsAhead_0 19 rfl rfl)
theorem dX9_fitsAhead_20 : decode cX9_fitsAhead 20 = .ok (.if_icmp .ge 61, 3) := dk_162 0 61 (dk_at dksX9_fitsAhead_0 20 rfl rfl)
theorem dX9_fitsAhead_23 : decode cX9_fitsAhead 23 = .ok (.iload 4, 2) := dk_21 4 (dk_at dksX9_fitsAhead_1 0 rfl rfl)
theorem dX9_fitsAhead_25 : decode cX9_fitsAhead 25 = .ok (.ifCond .eq 56, 3) := dk_153 0 56 (dk_at dksX9_fitsAhead_1 2 rfl rfl)
theorem dX9_fitsAhead_28 : decode cX9_fitsAhead 28 = .ok (.iload_n 3, 1) := dk_29 (dk_at dksX9_fitsAhead_1 5 rfl rfl)
theorem dX9_fitsAhead_29 : decode cX9_fitsAhead 29 = .ok (.iload 5, 2) := dk_21 5 (dk_at dksX9_fitsAhead_1 6 rfl rfl)
theorem dX9_fitsAhead_31 : decode cX9_fitsAhead 31 = .ok (.invokestatic 226, 3) := dk_184 0 226 (dk_at dksX9_fitsAhead_1 8 rfl rfl)
theorem dX9_fitsAhead_34 : decode cX9_fitsAhead 34 = .ok (.ifCond .eq 34, 3) := dk_153 0 34 (dk_at dksX9_fitsAhead_1 11 rfl rfl)
theorem dX9_fitsAhead_37 : decode cX9_fitsAhead 37 = .ok (.aload_n 0, 1) := dk_42 (dk_at dksX9_fitsAhead_1 14 rfl rfl)
theorem dX9_fitsAhead_38 : decode cX9_fitsAhead 38 = .ok (.getfield 40, 3) := dk_180 0 40 (dk_at dksX9_fitsAhead_1 15 rfl rfl)
theorem dX9_fitsAhead_41 : decode cX9_fitsAhead 41 = .ok (.bipush 12, 2) := dk_16 12 (dk_at dksX9_fitsAhead_1 18 rfl rfl)
theorem dX9_fitsAhead_43 : decode cX9_fitsAhead 43 = .ok (.iload 5, 2) := dk_21 5 (dk_at dksX9_fitsAhead_1 20 rfl rfl)
theorem dX9_fitsAhead_45 : decode cX9_fitsAhead 45 = .ok (.imul, 1) := dk_104 (dk_at dksX9_fitsAhead_1 22 rfl rfl)
theorem dX9_fitsAhead_46 : decode cX9_fitsAhead 46 = .ok (.iload_n 1, 1) := dk_27 (dk_at dksX9_fitsAhead_1 23 rfl rfl)
theorem dX9_fitsAhead_47 : decode cX9_fitsAhead 47 = .ok (.iadd, 1) := dk_96 (dk_at dksX9_fitsAhead_2 0 rfl rfl)
theorem dX9_fitsAhead_48 : decode cX9_fitsAhead 48 = .ok (.iaload, 1) := dk_46 (dk_at dksX9_fitsAhead_2 1 rfl rfl)
theorem dX9_fitsAhead_49 : decode cX9_fitsAhead 49 = .ok (.iconst 3, 1) := dk_6 (dk_at dksX9_fitsAhead_2 2 rfl rfl)
theorem dX9_fitsAhead_50 : decode cX9_fitsAhead 50 = .ok (.aload_n 0, 1) := dk_42 (dk_at dksX9_fitsAhead_2 3 rfl rfl)
theorem dX9_fitsAhead_51 : decode cX9_fitsAhead 51 = .ok (.getfield 43, 3) := dk_180 0 43 (dk_at dksX9_fitsAhead_2 4 rfl rfl)
theorem dX9_fitsAhead_54 : decode cX9_fitsAhead 54 = .ok (.iload 5, 2) := dk_21 5 (dk_at dksX9_fitsAhead_2 7 rfl rfl)
theorem dX9_fitsAhead_56 : decode cX9_fitsAhead 56 = .ok (.iaload, 1) := dk_46 (dk_at dksX9_fitsAhead_2 9 rfl rfl)
theorem dX9_fitsAhead_57 : decode cX9_fitsAhead 57 = .ok (.imul, 1) := dk_104 (dk_at dksX9_fitsAhead_2 10 rfl rfl)
theorem dX9_fitsAhead_58 : decode cX9_fitsAhead 58 = .ok (.iload_n 2, 1) := dk_28 (dk_at dksX9_fitsAhead_2 11 rfl rfl)
theorem dX9_fitsAhead_59 : decode cX9_fitsAhead 59 = .ok (.iadd, 1) := dk_96 (dk_at dksX9_fitsAhead_2 12 rfl rfl)
theorem dX9_fitsAhead_60 : decode cX9_fitsAhead 60 = .ok (.iconst 4, 1) := dk_7 (dk_at dksX9_fitsAhead_2 13 rfl rfl)
theorem dX9_fitsAhead_61 : decode cX9_fitsAhead 61 = .ok (.isub, 1) := dk_100 (dk_at dksX9_fitsAhead_2 14 rfl rfl)
theorem dX9_fitsAhead_62 : decode cX9_fitsAhead 62 = .ok (.invokestatic 226, 3) := dk_184 0 226 (dk_at dksX9_fitsAhead_2 15 rfl rfl)
theorem dX9_fitsAhead_65 : decode cX9_fitsAhead 65 = .ok (.ifCond .eq 7, 3) := dk_153 0 7 (dk_at dksX9_fitsAhead_2 18 rfl rfl)
theorem dX9_fitsAhead_68 : decode cX9_fitsAhead 68 = .ok (.iconst 1, 1) := dk_4 (dk_at dksX9_fitsAhead_2 21 rfl rfl)
theorem dX9_fitsAhead_69 : decode cX9_fitsAhead 69 = .ok (.goto 4, 3) := dk_167 0 4 (dk_at dksX9_fitsAhead_3 0 rfl rfl)
theorem dX9_fitsAhead_72 : decode cX9_fitsAhead 72 = .ok (.iconst 0, 1) := dk_3 (dk_at dksX9_fitsAhead_3 3 rfl rfl)
theorem dX9_fitsAhead_73 : decode cX9_fitsAhead 73 = .ok (.istore 4, 2) := dk_54 4 (dk_at dksX9_fitsAhead_3 4 rfl rfl)
theorem dX9_fitsAhead_75 : decode cX9_fitsAhead 75 = .ok (.iinc 5 1, 3) := dk_132 5 1 (dk_at dksX9_fitsAhead_3 6 rfl rfl)
theorem dX9_fitsAhead_78 : decode cX9_fitsAhead 78 = .ok (.goto (-61), 3) := dk_167 255 195 (dk_at dksX9_fitsAhead_3 9 rfl rfl)
theorem dX9_fitsAhead_81 : decode cX9_fitsAhead 81 = .ok (.iload 4, 2) := dk_21 4 (dk_at dksX9_fitsAhead_3 12 rfl rfl)
theorem dX9_fitsAhead_83 : decode cX9_fitsAhead 83 = .ok (.ireturn, 1) := dk_172 (dk_at dksX9_fitsAhead_3 14 rfl rfl)
abbrev cX9_write : ByteArray := prog_33_method_60_code
def yX9_write : MethodName := ⟨RX9, "write", "(I)I"⟩
def dkwX9_write_3 : List UInt8 := [61, 132, 3, 1, 167, 255, 214, 28, 172]
abbrev dktX9_write_3 : List UInt8 := dkwX9_write_3 ++ []
def dkwX9_write_2 : List UInt8 := [42, 180, 0, 43, 29, 46, 79, 28, 42, 180, 0, 43, 29, 46, 6, 160, 0, 7, 4, 167, 0, 4, 3, 96]
abbrev dktX9_write_2 : List UInt8 := dkwX9_write_2 ++ dktX9_write_3
def dkwX9_write_1 : List UInt8 := [18, 112, 182, 0, 106, 172, 3, 61, 3, 62, 29, 16, 12, 162, 0, 42, 42, 180, 0, 9, 16, 10, 29, 96]
abbrev dktX9_write_1 : List UInt8 := dkwX9_write_1 ++ dktX9_write_2
def dkwX9_write_0 : List UInt8 := [42, 27, 182, 0, 249, 154, 0, 10, 42, 18, 105, 182, 0, 106, 172, 42, 27, 182, 0, 252, 154, 0, 10, 42]
abbrev dktX9_write_0 : List UInt8 := dkwX9_write_0 ++ dktX9_write_1
theorem dksX9_write_0 : cX9_write.data.toList.drop 0 = dktX9_write_0 := by decide +kernel
theorem dksX9_write_1 : cX9_write.data.toList.drop 24 = dktX9_write_1 := dk_seg dksX9_write_0 24 rfl rfl
theorem dksX9_write_2 : cX9_write.data.toList.drop 48 = dktX9_write_2 := dk_seg dksX9_write_1 24 rfl rfl
theorem dksX9_write_3 : cX9_write.data.toList.drop 72 = dktX9_write_3 := dk_seg dksX9_write_2 24 rfl rfl
theorem dX9_write_0 : decode cX9_write 0 = .ok (.aload_n 0, 1) := dk_42 (dk_at dksX9_write_0 0 rfl rfl)
theorem dX9_write_1 : decode cX9_write 1 = .ok (.iload_n 1, 1) := dk_27 (dk_at dksX9_write_0 1 rfl rfl)
theorem dX9_write_2 : decode cX9_write 2 = .ok (.invokevirtual 249, 3) := dk_182 0 249 (dk_at dksX9_write_0 2 rfl rfl)
theorem dX9_write_5 : decode cX9_write 5 = .ok (.ifCond .ne 10, 3) := dk_154 0 10 (dk_at dksX9_write_0 5 rfl rfl)
theorem dX9_write_8 : decode cX9_write 8 = .ok (.aload_n 0, 1) := dk_42 (dk_at dksX9_write_0 8 rfl rfl)
theorem dX9_write_9 : decode cX9_write 9 = .ok (.ldc 105, 2) := dk_18 105 (dk_at dksX9_write_0 9 rfl rfl)
theorem dX9_write_11 : decode cX9_write 11 = .ok (.invokevirtual 106, 3) := dk_182 0 106 (dk_at dksX9_write_0 11 rfl rfl)
theorem dX9_write_14 : decode cX9_write 14 = .ok (.ireturn, 1) := dk_172 (dk_at dksX9_write_0 14 rfl rfl)
theorem dX9_write_15 : decode cX9_write 15 = .ok (.aload_n 0, 1) := dk_42 (dk_at dksX9_write_0 15 rfl rfl)
theorem dX9_write_16 : decode cX9_write 16 = .ok (.iload_n 1, 1) := dk_27 (dk_at dksX9_write_0 16 rfl rfl)
theorem dX9_write_17 : decode cX9_write 17 = .ok (.invokevirtual 252, 3) := dk_182 0 252 (dk_at dksX9_write_0 17 rfl rfl)
theorem dX9_write_20 : decode cX9_write 20 = .ok (.ifCond .ne 10, 3) := dk_154 0 10 (dk_at dksX9_write_0 20 rfl rfl)
theorem dX9_write_23 : decode cX9_write 23 = .ok (.aload_n 0, 1) := dk_42 (dk_at dksX9_write_0 23 rfl rfl)
theorem dX9_write_24 : decode cX9_write 24 = .ok (.ldc 112, 2) := dk_18 112 (dk_at dksX9_write_1 0 rfl rfl)
theorem dX9_write_26 : decode cX9_write 26 = .ok (.invokevirtual 106, 3) := dk_182 0 106 (dk_at dksX9_write_1 2 rfl rfl)
theorem dX9_write_29 : decode cX9_write 29 = .ok (.ireturn, 1) := dk_172 (dk_at dksX9_write_1 5 rfl rfl)
theorem dX9_write_30 : decode cX9_write 30 = .ok (.iconst 0, 1) := dk_3 (dk_at dksX9_write_1 6 rfl rfl)
theorem dX9_write_31 : decode cX9_write 31 = .ok (.istore_n 2, 1) := dk_61 (dk_at dksX9_write_1 7 rfl rfl)
theorem dX9_write_32 : decode cX9_write 32 = .ok (.iconst 0, 1) := dk_3 (dk_at dksX9_write_1 8 rfl rfl)
theorem dX9_write_33 : decode cX9_write 33 = .ok (.istore_n 3, 1) := dk_62 (dk_at dksX9_write_1 9 rfl rfl)
theorem dX9_write_34 : decode cX9_write 34 = .ok (.iload_n 3, 1) := dk_29 (dk_at dksX9_write_1 10 rfl rfl)
theorem dX9_write_35 : decode cX9_write 35 = .ok (.bipush 12, 2) := dk_16 12 (dk_at dksX9_write_1 11 rfl rfl)
theorem dX9_write_37 : decode cX9_write 37 = .ok (.if_icmp .ge 42, 3) := dk_162 0 42 (dk_at dksX9_write_1 13 rfl rfl)
theorem dX9_write_40 : decode cX9_write 40 = .ok (.aload_n 0, 1) := dk_42 (dk_at dksX9_write_1 16 rfl rfl)
theorem dX9_write_41 : decode cX9_write 41 = .ok (.getfield 9, 3) := dk_180 0 9 (dk_at dksX9_write_1 17 rfl rfl)
theorem dX9_write_44 : decode cX9_write 44 = .ok (.bipush 10, 2) := dk_16 10 (dk_at dksX9_write_1 20 rfl rfl)
theorem dX9_write_46 : decode cX9_write 46 = .ok (.iload_n 3, 1) := dk_29 (dk_at dksX9_write_1 22 rfl rfl)
theorem dX9_write_47 : decode cX9_write 47 = .ok (.iadd, 1) := dk_96 (dk_at dksX9_write_1 23 rfl rfl)
theorem dX9_write_48 : decode cX9_write 48 = .ok (.aload_n 0, 1) := dk_42 (dk_at dksX9_write_2 0 rfl rfl)
theorem dX9_write_49 : decode cX9_write 49 = .ok (.getfield 43, 3) := dk_180 0 43 (dk_at dksX9_write_2 1 rfl rfl)
theorem dX9_write_52 : decode cX9_write 52 = .ok (.iload_n 3, 1) := dk_29 (dk_at dksX9_write_2 4 rfl rfl)
theorem dX9_write_53 : decode cX9_write 53 = .ok (.iaload, 1) := dk_46 (dk_at dksX9_write_2 5 rfl rfl)
theorem dX9_write_54 : decode cX9_write 54 = .ok (.iastore, 1) := dk_79 (dk_at dksX9_write_2 6 rfl rfl)
theorem dX9_write_55 : decode cX9_write 55 = .ok (.iload_n 2, 1) := dk_28 (dk_at dksX9_write_2 7 rfl rfl)
theorem dX9_write_56 : decode cX9_write 56 = .ok (.aload_n 0, 1) := dk_42 (dk_at dksX9_write_2 8 rfl rfl)
theorem dX9_write_57 : decode cX9_write 57 = .ok (.getfield 43, 3) := dk_180 0 43 (dk_at dksX9_write_2 9 rfl rfl)
theorem dX9_write_60 : decode cX9_write 60 = .ok (.iload_n 3, 1) := dk_29 (dk_at dksX9_write_2 12 rfl rfl)
theorem dX9_write_61 : decode cX9_write 61 = .ok (.iaload, 1) := dk_46 (dk_at dksX9_write_2 13 rfl rfl)
theorem dX9_write_62 : decode cX9_write 62 = .ok (.iconst 3, 1) := dk_6 (dk_at dksX9_write_2 14 rfl rfl)
theorem dX9_write_63 : decode cX9_write 63 = .ok (.if_icmp .ne 7, 3) := dk_160 0 7 (dk_at dksX9_write_2 15 rfl rfl)
theorem dX9_write_66 : decode cX9_write 66 = .ok (.iconst 1, 1) := dk_4 (dk_at dksX9_write_2 18 rfl rfl)
theorem dX9_write_67 : decode cX9_write 67 = .ok (.goto 4, 3) := dk_167 0 4 (dk_at dksX9_write_2 19 rfl rfl)
theorem dX9_write_70 : decode cX9_write 70 = .ok (.iconst 0, 1) := dk_3 (dk_at dksX9_write_2 22 rfl rfl)
theorem dX9_write_71 : decode cX9_write 71 = .ok (.iadd, 1) := dk_96 (dk_at dksX9_write_2 23 rfl rfl)
theorem dX9_write_72 : decode cX9_write 72 = .ok (.istore_n 2, 1) := dk_61 (dk_at dksX9_write_3 0 rfl rfl)
theorem dX9_write_73 : decode cX9_write 73 = .ok (.iinc 3 1, 3) := dk_132 3 1 (dk_at dksX9_write_3 1 rfl rfl)
theorem dX9_write_76 : decode cX9_write 76 = .ok (.goto (-42), 3) := dk_167 255 214 (dk_at dksX9_write_3 4 rfl rfl)
theorem dX9_write_79 : decode cX9_write 79 = .ok (.iload_n 2, 1) := dk_28 (dk_at dksX9_write_3 7 rfl rfl)
theorem dX9_write_80 : decode cX9_write 80 = .ok (.ireturn, 1) := dk_172 (dk_at dksX9_write_3 8 rfl rfl)
abbrev cX9_rules : ByteArray := prog_33_method_63_code
def yX9_rules : MethodName := ⟨RX9, "rules", "(I)J"⟩
def dkwX9_rules_2 : List UInt8 := [173]
abbrev dktX9_rules_2 : List UInt8 := dkwX9_rules_2 ++ []
def dkwX9_rules_1 : List UInt8 := [17, 16, 0, 162, 0, 16, 42, 180, 0, 46, 28, 2, 79, 132, 2, 1, 167, 255, 239, 42, 7, 182, 1, 2]
abbrev dktX9_rules_1 : List UInt8 := dkwX9_rules_1 ++ dktX9_rules_2
def dkwX9_rules_0 : List UInt8 := [42, 27, 182, 0, 249, 154, 0, 11, 42, 18, 105, 182, 0, 106, 133, 173, 42, 27, 182, 0, 246, 3, 61, 28]
abbrev dktX9_rules_0 : List UInt8 := dkwX9_rules_0 ++ dktX9_rules_1
theorem dksX9_rules_0 : cX9_rules.data.toList.drop 0 = dktX9_rules_0 := by decide +kernel
theorem dksX9_rules_1 : cX9_rules.data.toList.drop 24 = dktX9_rules_1 := dk_seg dksX9_rules_0 24 rfl rfl
theorem dksX9_rules_2 : cX9_rules.data.toList.drop 48 = dktX9_rules_2 := dk_seg dksX9_rules_1 24 rfl rfl
theorem dX9_rules_0 : decode cX9_rules 0 = .ok (.aload_n 0, 1) := dk_42 (dk_at dksX9_rules_0 0 rfl rfl)
theorem dX9_rules_1 : decode cX9_rules 1 = .ok (.iload_n 1, 1) := dk_27 (dk_at dksX9_rules_0 1 rfl rfl)
theorem dX9_rules_2 : decode cX9_rules 2 = .ok (.invokevirtual 249, 3) := dk_182 0 249 (dk_at dksX9_rules_0 2 rfl rfl)
theorem dX9_rules_5 : decode cX9_rules 5 = .ok (.ifCond .ne 11, 3) := dk_154 0 11 (dk_at dksX9_rules_0 5 rfl rfl)
theorem dX9_rules_8 : decode cX9_rules 8 = .ok (.aload_n 0, 1) := dk_42 (dk_at dksX9_rules_0 8 rfl rfl)
theorem dX9_rules_9 : decode cX9_rules 9 = .ok (.ldc 105, 2) := dk_18 105 (dk_at dksX9_rules_0 9 rfl rfl)
theorem dX9_rules_11 : decode cX9_rules 11 = .ok (.invokevirtual 106, 3) := dk_182 0 106 (dk_at dksX9_rules_0 11 rfl rfl)
theorem dX9_rules_14 : decode cX9_rules 14 = .ok (.i2l, 1) := dk_133 (dk_at dksX9_rules_0 14 rfl rfl)
theorem dX9_rules_15 : decode cX9_rules 15 = .ok (.lreturn, 1) := dk_173 (dk_at dksX9_rules_0 15 rfl rfl)
theorem dX9_rules_16 : decode cX9_rules 16 = .ok (.aload_n 0, 1) := dk_42 (dk_at dksX9_rules_0 16 rfl rfl)
theorem dX9_rules_17 : decode cX9_rules 17 = .ok (.iload_n 1, 1) := dk_27 (dk_at dksX9_rules_0 17 rfl rfl)
theorem dX9_rules_18 : decode cX9_rules 18 = .ok (.invokevirtual 246, 3) := dk_182 0 246 (dk_at dksX9_rules_0 18 rfl rfl)
theorem dX9_rules_21 : decode cX9_rules 21 = .ok (.iconst 0, 1) := dk_3 (dk_at dksX9_rules_0 21 rfl rfl)
theorem dX9_rules_22 : decode cX9_rules 22 = .ok (.istore_n 2, 1) := dk_61 (dk_at dksX9_rules_0 22 rfl rfl)
theorem dX9_rules_23 : decode cX9_rules 23 = .ok (.iload_n 2, 1) := dk_28 (dk_at dksX9_rules_0 23 rfl rfl)
theorem dX9_rules_24 : decode cX9_rules 24 = .ok (.sipush 4096, 3) := dk_17 16 0 (dk_at dksX9_rules_1 0 rfl rfl)
theorem dX9_rules_27 : decode cX9_rules 27 = .ok (.if_icmp .ge 16, 3) := dk_162 0 16 (dk_at dksX9_rules_1 3 rfl rfl)
theorem dX9_rules_30 : decode cX9_rules 30 = .ok (.aload_n 0, 1) := dk_42 (dk_at dksX9_rules_1 6 rfl rfl)
theorem dX9_rules_31 : decode cX9_rules 31 = .ok (.getfield 46, 3) := dk_180 0 46 (dk_at dksX9_rules_1 7 rfl rfl)
theorem dX9_rules_34 : decode cX9_rules 34 = .ok (.iload_n 2, 1) := dk_28 (dk_at dksX9_rules_1 10 rfl rfl)
theorem dX9_rules_35 : decode cX9_rules 35 = .ok (.iconst (-1), 1) := dk_2 (dk_at dksX9_rules_1 11 rfl rfl)
theorem dX9_rules_36 : decode cX9_rules 36 = .ok (.iastore, 1) := dk_79 (dk_at dksX9_rules_1 12 rfl rfl)
theorem dX9_rules_37 : decode cX9_rules 37 = .ok (.iinc 2 1, 3) := dk_132 2 1 (dk_at dksX9_rules_1 13 rfl rfl)
theorem dX9_rules_40 : decode cX9_rules 40 = .ok (.goto (-17), 3) := dk_167 255 239 (dk_at dksX9_rules_1 16 rfl rfl)
theorem dX9_rules_43 : decode cX9_rules 43 = .ok (.aload_n 0, 1) := dk_42 (dk_at dksX9_rules_1 19 rfl rfl)
theorem dX9_rules_44 : decode cX9_rules 44 = .ok (.iconst 4, 1) := dk_7 (dk_at dksX9_rules_1 20 rfl rfl)
theorem dX9_rules_45 : decode cX9_rules 45 = .ok (.invokevirtual 258, 3) := dk_182 1 2 (dk_at dksX9_rules_1 21 rfl rfl)
theorem dX9_rules_48 : decode cX9_rules 48 = .ok (.lreturn, 1) := dk_173 (dk_at dksX9_rules_2 0 rfl rfl)
abbrev cX9_countFrom : ByteArray := prog_33_method_62_code
def yX9_countFrom : MethodName := ⟨RX9, "countFrom", "(I)J"⟩
def dkwX9_countFrom_7 : List UInt8 := [167, 255, 216, 32, 173]
abbrev dktX9_countFrom_7 : List UInt8 := dkwX9_countFrom_7 ++ []
def dkwX9_countFrom_6 : List UInt8 := [153, 0, 21, 42, 180, 0, 43, 27, 21, 4, 79, 32, 42, 27, 4, 96, 182, 1, 2, 97, 65, 132, 4, 1]
abbrev dktX9_countFrom_6 : List UInt8 := dkwX9_countFrom_6 ++ dktX9_countFrom_7
def dkwX9_countFrom_5 : List UInt8 := [173, 9, 65, 4, 54, 4, 21, 4, 6, 163, 0, 40, 42, 27, 21, 4, 17, 15, 240, 182, 0, 243]
abbrev dktX9_countFrom_5 : List UInt8 := dkwX9_countFrom_5 ++ dktX9_countFrom_6
def dkwX9_countFrom_4 : List UInt8 := [167, 0, 4, 3, 128, 61, 132, 4, 1, 167, 255, 170, 132, 3, 1, 167, 255, 156, 42, 28, 182, 0, 255, 133]
abbrev dktX9_countFrom_4 : List UInt8 := dkwX9_countFrom_4 ++ dktX9_countFrom_5
def dkwX9_countFrom_3 : List UInt8 := [54, 5, 132, 6, 1, 167, 255, 210, 28, 21, 5, 153, 0, 16, 4, 6, 29, 104, 21, 4, 96, 4, 100, 120]
abbrev dktX9_countFrom_3 : List UInt8 := dkwX9_countFrom_3 ++ dktX9_countFrom_4
def dkwX9_countFrom_2 : List UInt8 := [29, 104, 21, 6, 96, 46, 6, 21, 4, 104, 42, 180, 0, 43, 21, 6, 46, 96, 7, 100, 184, 0, 226]
abbrev dktX9_countFrom_2 : List UInt8 := dkwX9_countFrom_2 ++ dktX9_countFrom_3
def dkwX9_countFrom_1 : List UInt8 := [4, 54, 5, 7, 54, 6, 21, 6, 16, 12, 162, 0, 45, 21, 5, 153, 0, 40, 42, 180, 0, 40, 16, 12]
abbrev dktX9_countFrom_1 : List UInt8 := dkwX9_countFrom_1 ++ dktX9_countFrom_2
def dkwX9_countFrom_0 : List UInt8 := [27, 16, 12, 160, 0, 117, 3, 61, 3, 62, 29, 7, 162, 0, 101, 4, 54, 4, 21, 4, 6, 163, 0, 86]
abbrev dktX9_countFrom_0 : List UInt8 := dkwX9_countFrom_0 ++ dktX9_countFrom_1
theorem dksX9_countFrom_0 : cX9_countFrom.data.toList.drop 0 = dktX9_countFrom_0 := by decide +kernel
theorem dksX9_countFrom_1 : cX9_countFrom.data.toList.drop 24 = dktX9_countFrom_1 := dk_seg dksX9_countFrom_0 24 rfl rfl
theorem dksX9_countFrom_2 : cX9_countFrom.data.toList.drop 48 = dktX9_countFrom_2 := dk_seg dksX9_countFrom_1 24 rfl rfl
theorem dksX9_countFrom_3 : cX9_countFrom.data.toList.drop 71 = dktX9_countFrom_3 := dk_seg dksX9_countFrom_2 23 rfl rfl
theorem dksX9_countFrom_4 : cX9_countFrom.data.toList.drop 95 = dktX9_countFrom_4 := dk_seg dksX9_countFrom_3 24 rfl rfl
theorem dksX9_countFrom_5 : cX9_countFrom.data.toList.drop 119 = dktX9_countFrom_5 := dk_seg dksX9_countFrom_4 24 rfl rfl
theorem dksX9_countFrom_6 : cX9_countFrom.data.toList.drop 141 = dktX9_countFrom_6 := dk_seg dksX9_countFrom_5 22 rfl rfl
theorem dksX9_countFrom_7 : cX9_countFrom.data.toList.drop 165 = dktX9_countFrom_7 := dk_seg dksX9_countFrom_6 24 rfl rfl
theorem dX9_countFrom_0 : decode cX9_countFrom 0 = .ok (.iload_n 1, 1) := dk_27 (dk_at dksX9_countFrom_0 0 rfl rfl)
theorem dX9_countFrom_1 : decode cX9_countFrom 1 = .ok (.bipush 12, 2) := dk_16 12 (dk_at dksX9_countFrom_0 1 rfl rfl)
theorem dX9_countFrom_3 : decode cX9_countFrom 3 = .ok (.if_icmp .ne 117, 3) := dk_160 0 117 (dk_at dksX9_countFrom_0 3 rfl rfl)
theorem dX9_countFrom_6 : decode cX9_countFrom 6 = .ok (.iconst 0, 1) := dk_3 (dk_at dksX9_countFrom_0 6 rfl rfl)
theorem dX9_countFrom_7 : decode cX9_countFrom 7 = .ok (.istore_n 2, 1) := dk_61 (dk_at dksX9_countFrom_0 7 rfl rfl)
theorem dX9_countFrom_8 : decode cX9_countFrom 8 = .ok (.iconst 0, 1) := dk_3 (dk_at dksX9_countFrom_0 8 rfl rfl)
theorem dX9_countFrom_9 : decode cX9_countFrom 9 = .ok (.istore_n 3, 1) := dk_62 (dk_at dksX9_countFrom_0 9 rfl rfl)
theorem dX9_countFrom_10 : decode cX9_countFrom 10 = .ok (.iload_n 3, 1) := dk_29 (dk_at dksX9_countFrom_0 10 rfl rfl)
theorem dX9_countFrom_11 : decode cX9_countFrom 11 = .ok (.iconst 4, 1) := dk_7 (dk_at dksX9_countFrom_0 11 rfl rfl)
theorem dX9_countFrom_12 : decode cX9_countFrom 12 = .ok (.if_icmp .ge 101, 3) := dk_162 0 101 (dk_at dksX9_countFrom_0 12 rfl rfl)
theorem dX9_countFrom_15 : decode cX9_countFrom 15 = .ok (.iconst 1, 1) := dk_4 (dk_at dksX9_countFrom_0 15 rfl rfl)
theorem dX9_countFrom_16 : decode cX9_countFrom 16 = .ok (.istore 4, 2) := dk_54 4 (dk_at dksX9_countFrom_0 16 rfl rfl)
theorem dX9_countFrom_18 : decode cX9_countFrom 18 = .ok (.iload 4, 2) := dk_21 4 (dk_at dksX9_countFrom_0 18 rfl rfl)
theorem dX9_countFrom_20 : decode cX9_countFrom 20 = .ok (.iconst 3, 1) := dk_6 (dk_at dksX9_countFrom_0 20 rfl rfl)
theorem dX9_countFrom_21 : decode cX9_countFrom 21 = .ok (.if_icmp .gt 86, 3) := dk_163 0 86 (dk_at dksX9_countFrom_0 21 rfl rfl)
theorem dX9_countFrom_24 : decode cX9_countFrom 24 = .ok (.iconst 1, 1) := dk_4 (dk_at dksX9_countFrom_1 0 rfl rfl)
theorem dX9_countFrom_25 : decode cX9_countFrom 25 = .ok (.istore 5, 2) := dk_54 5 (dk_at dksX9_countFrom_1 1 rfl rfl)
theorem dX9_countFrom_27 : decode cX9_countFrom 27 = .ok (.iconst 4, 1) := dk_7 (dk_at dksX9_countFrom_1 3 rfl rfl)
theorem dX9_countFrom_28 : decode cX9_countFrom 28 = .ok (.istore 6, 2) := dk_54 6 (dk_at dksX9_countFrom_1 4 rfl rfl)
theorem dX9_countFrom_30 : decode cX9_countFrom 30 = .ok (.iload 6, 2) := dk_21 6 (dk_at dksX9_countFrom_1 6 rfl rfl)
theorem dX9_countFrom_32 : decode cX9_countFrom 32 = .ok (.bipush 12, 2) := dk_16 12 (dk_at dksX9_countFrom_1 8 rfl rfl)
theorem dX9_countFrom_34 : decode cX9_countFrom 34 = .ok (.if_icmp .ge 45, 3) := dk_162 0 45 (dk_at dksX9_countFrom_1 10 rfl rfl)
theorem dX9_countFrom_37 : decode cX9_countFrom 37 = .ok (.iload 5, 2) := dk_21 5 (dk_at dksX9_countFrom_1 13 rfl rfl)
theorem dX9_countFrom_39 : decode cX9_countFrom 39 = .ok (.ifCond .eq 40, 3) := dk_153 0 40 (dk_at dksX9_countFrom_1 15 rfl rfl)
theorem dX9_countFrom_42 : decode cX9_countFrom 42 = .ok (.aload_n 0, 1) := dk_42 (dk_at dksX9_countFrom_1 18 rfl rfl)
theorem dX9_countFrom_43 : decode cX9_countFrom 43 = .ok (.getfield 40, 3) := dk_180 0 40 (dk_at dksX9_countFrom_1 19 rfl rfl)
theorem dX9_countFrom_46 : decode cX9_countFrom 46 = .ok (.bipush 12, 2) := dk_16 12 (dk_at dksX9_countFrom_1 22 rfl rfl)
theorem dX9_countFrom_48 : decode cX9_countFrom 48 = .ok (.iload_n 3, 1) := dk_29 (dk_at dksX9_countFrom_2 0 rfl rfl)
theorem dX9_countFrom_49 : decode cX9_countFrom 49 = .ok (.imul, 1) := dk_104 (dk_at dksX9_countFrom_2 1 rfl rfl)
theorem dX9_countFrom_50 : decode cX9_countFrom 50 = .ok (.iload 6, 2) := dk_21 6 (dk_at dksX9_countFrom_2 2 rfl rfl)
theorem dX9_countFrom_52 : decode cX9_countFrom 52 = .ok (.iadd, 1) := dk_96 (dk_at dksX9_countFrom_2 4 rfl rfl)
theorem dX9_countFrom_53 : decode cX9_countFrom 53 = .ok (.iaload, 1) := dk_46 (dk_at dksX9_countFrom_2 5 rfl rfl)
theorem dX9_countFrom_54 : decode cX9_countFrom 54 = .ok (.iconst 3, 1) := dk_6 (dk_at dksX9_countFrom_2 6 rfl rfl)
theorem dX9_countFrom_55 : decode cX9_countFrom 55 = .ok (.iload 4, 2) := dk_21 4 (dk_at dksX9_countFrom_2 7 rfl rfl)
theorem dX9_countFrom_57 : decode cX9_countFrom 57 = .ok (.imul, 1) := dk_104 (dk_at dksX9_countFrom_2 9 rfl rfl)
theorem dX9_countFrom_58 : decode cX9_countFrom 58 = .ok (.aload_n 0, 1) := dk_42 (dk_at dksX9_countFrom_2 10 rfl rfl)
theorem dX9_countFrom_59 : decode cX9_countFrom 59 = .ok (.getfield 43, 3) := dk_180 0 43 (dk_at dksX9_countFrom_2 11 rfl rfl)
theorem dX9_countFrom_62 : decode cX9_countFrom 62 = .ok (.iload 6, 2) := dk_21 6 (dk_at dksX9_countFrom_2 14 rfl rfl)
theorem dX9_countFrom_64 : decode cX9_countFrom 64 = .ok (.iaload, 1) := dk_46 (dk_at dksX9_countFrom_2 16 rfl rfl)
theorem dX9_countFrom_65 : decode cX9_countFrom 65 = .ok (.iadd, 1) := dk_96 (dk_at dksX9_countFrom_2 17 rfl rfl)
theorem dX9_countFrom_66 : decode cX9_countFrom 66 = .ok (.iconst 4, 1) := dk_7 (dk_at dksX9_countFrom_2 18 rfl rfl)
theorem dX9_countFrom_67 : decode cX9_countFrom 67 = .ok (.isub, 1) := dk_100 (dk_at dksX9_countFrom_2 19 rfl rfl)
theorem dX9_countFrom_68 : decode cX9_countFrom 68 = .ok (.invokestatic 226, 3) := dk_184 0 226 (dk_at dksX9_countFrom_2 20 rfl rfl)
theorem dX9_countFrom_71 : decode cX9_countFrom 71 = .ok (.istore 5, 2) := dk_54 5 (dk_at dksX9_countFrom_3 0 rfl rfl)
theorem dX9_countFrom_73 : decode cX9_countFrom 73 = .ok (.iinc 6 1, 3) := dk_132 6 1 (dk_at dksX9_countFrom_3 2 rfl rfl)
theorem dX9_countFrom_76 : decode cX9_countFrom 76 = .ok (.goto (-46), 3) := dk_167 255 210 (dk_at dksX9_countFrom_3 5 rfl rfl)
theorem dX9_countFrom_79 : decode cX9_countFrom 79 = .ok (.iload_n 2, 1) := dk_28 (dk_at dksX9_countFrom_3 8 rfl rfl)
theorem dX9_countFrom_80 : decode cX9_countFrom 80 = .ok (.iload 5, 2) := dk_21 5 (dk_at dksX9_countFrom_3 9 rfl rfl)
theorem dX9_countFrom_82 : decode cX9_countFrom 82 = .ok (.ifCond .eq 16, 3) := dk_153 0 16 (dk_at dksX9_countFrom_3 11 rfl rfl)
theorem dX9_countFrom_85 : decode cX9_countFrom 85 = .ok (.iconst 1, 1) := dk_4 (dk_at dksX9_countFrom_3 14 rfl rfl)
theorem dX9_countFrom_86 : decode cX9_countFrom 86 = .ok (.iconst 3, 1) := dk_6 (dk_at dksX9_countFrom_3 15 rfl rfl)
theorem dX9_countFrom_87 : decode cX9_countFrom 87 = .ok (.iload_n 3, 1) := dk_29 (dk_at dksX9_countFrom_3 16 rfl rfl)
theorem dX9_countFrom_88 : decode cX9_countFrom 88 = .ok (.imul, 1) := dk_104 (dk_at dksX9_countFrom_3 17 rfl rfl)
theorem dX9_countFrom_89 : decode cX9_countFrom 89 = .ok (.iload 4, 2) := dk_21 4 (dk_at dksX9_countFrom_3 18 rfl rfl)
theorem dX9_countFrom_91 : decode cX9_countFrom 91 = .ok (.iadd, 1) := dk_96 (dk_at dksX9_countFrom_3 20 rfl rfl)
theorem dX9_countFrom_92 : decode cX9_countFrom 92 = .ok (.iconst 1, 1) := dk_4 (dk_at dksX9_countFrom_3 21 rfl rfl)
theorem dX9_countFrom_93 : decode cX9_countFrom 93 = .ok (.isub, 1) := dk_100 (dk_at dksX9_countFrom_3 22 rfl rfl)
theorem dX9_countFrom_94 : decode cX9_countFrom 94 = .ok (.ishl, 1) := dk_120 (dk_at dksX9_countFrom_3 23 rfl rfl)
theorem dX9_countFrom_95 : decode cX9_countFrom 95 = .ok (.goto 4, 3) := dk_167 0 4 (dk_at dksX9_countFrom_4 0 rfl rfl)
theorem dX9_countFrom_98 : decode cX9_countFrom 98 = .ok (.iconst 0, 1) := dk_3 (dk_at dksX9_countFrom_4 3 rfl rfl)
theorem dX9_countFrom_99 : decode cX9_countFrom 99 = .ok (.ior, 1) := dk_128 (dk_at dksX9_countFrom_4 4 rfl rfl)
theorem dX9_countFrom_100 : decode cX9_countFrom 100 = .ok (.istore_n 2, 1) := dk_61 (dk_at dksX9_countFrom_4 5 rfl rfl)
theorem dX9_countFrom_101 : decode cX9_countFrom 101 = .ok (.iinc 4 1, 3) := dk_132 4 1 (dk_at dksX9_countFrom_4 6 rfl rfl)
theorem dX9_countFrom_104 : decode cX9_countFrom 104 = .ok (.goto (-86), 3) := dk_167 255 170 (dk_at dksX9_countFrom_4 9 rfl rfl)
theorem dX9_countFrom_107 : decode cX9_countFrom 107 = .ok (.iinc 3 1, 3) := dk_132 3 1 (dk_at dksX9_countFrom_4 12 rfl rfl)
theorem dX9_countFrom_110 : decode cX9_countFrom 110 = .ok (.goto (-100), 3) := dk_167 255 156 (dk_at dksX9_countFrom_4 15 rfl rfl)
theorem dX9_countFrom_113 : decode cX9_countFrom 113 = .ok (.aload_n 0, 1) := dk_42 (dk_at dksX9_countFrom_4 18 rfl rfl)
theorem dX9_countFrom_114 : decode cX9_countFrom 114 = .ok (.iload_n 2, 1) := dk_28 (dk_at dksX9_countFrom_4 19 rfl rfl)
theorem dX9_countFrom_115 : decode cX9_countFrom 115 = .ok (.invokevirtual 255, 3) := dk_182 0 255 (dk_at dksX9_countFrom_4 20 rfl rfl)
theorem dX9_countFrom_118 : decode cX9_countFrom 118 = .ok (.i2l, 1) := dk_133 (dk_at dksX9_countFrom_4 23 rfl rfl)
theorem dX9_countFrom_119 : decode cX9_countFrom 119 = .ok (.lreturn, 1) := dk_173 (dk_at dksX9_countFrom_5 0 rfl rfl)
theorem dX9_countFrom_120 : decode cX9_countFrom 120 = .ok (.lconst 0, 1) := dk_9 (dk_at dksX9_countFrom_5 1 rfl rfl)
theorem dX9_countFrom_121 : decode cX9_countFrom 121 = .ok (.lstore_n 2, 1) := dk_65 (dk_at dksX9_countFrom_5 2 rfl rfl)
theorem dX9_countFrom_122 : decode cX9_countFrom 122 = .ok (.iconst 1, 1) := dk_4 (dk_at dksX9_countFrom_5 3 rfl rfl)
theorem dX9_countFrom_123 : decode cX9_countFrom 123 = .ok (.istore 4, 2) := dk_54 4 (dk_at dksX9_countFrom_5 4 rfl rfl)
theorem dX9_countFrom_125 : decode cX9_countFrom 125 = .ok (.iload 4, 2) := dk_21 4 (dk_at dksX9_countFrom_5 6 rfl rfl)
theorem dX9_countFrom_127 : decode cX9_countFrom 127 = .ok (.iconst 3, 1) := dk_6 (dk_at dksX9_countFrom_5 8 rfl rfl)
theorem dX9_countFrom_128 : decode cX9_countFrom 128 = .ok (.if_icmp .gt 40, 3) := dk_163 0 40 (dk_at dksX9_countFrom_5 9 rfl rfl)
theorem dX9_countFrom_131 : decode cX9_countFrom 131 = .ok (.aload_n 0, 1) := dk_42 (dk_at dksX9_countFrom_5 12 rfl rfl)
theorem dX9_countFrom_132 : decode cX9_countFrom 132 = .ok (.iload_n 1, 1) := dk_27 (dk_at dksX9_countFrom_5 13 rfl rfl)
theorem dX9_countFrom_133 : decode cX9_countFrom 133 = .ok (.iload 4, 2) := dk_21 4 (dk_at dksX9_countFrom_5 14 rfl rfl)
theorem dX9_countFrom_135 : decode cX9_countFrom 135 = .ok (.sipush 4080, 3) := dk_17 15 240 (dk_at dksX9_countFrom_5 16 rfl rfl)
theorem dX9_countFrom_138 : decode cX9_countFrom 138 = .ok (.invokevirtual 243, 3) := dk_182 0 243 (dk_at dksX9_countFrom_5 19 rfl rfl)
theorem dX9_countFrom_141 : decode cX9_countFrom 141 = .ok (.ifCond .eq 21, 3) := dk_153 0 21 (dk_at dksX9_countFrom_6 0 rfl rfl)
theorem dX9_countFrom_144 : decode cX9_countFrom 144 = .ok (.aload_n 0, 1) := dk_42 (dk_at dksX9_countFrom_6 3 rfl rfl)
theorem dX9_countFrom_145 : decode cX9_countFrom 145 = .ok (.getfield 43, 3) := dk_180 0 43 (dk_at dksX9_countFrom_6 4 rfl rfl)
theorem dX9_countFrom_148 : decode cX9_countFrom 148 = .ok (.iload_n 1, 1) := dk_27 (dk_at dksX9_countFrom_6 7 rfl rfl)
theorem dX9_countFrom_149 : decode cX9_countFrom 149 = .ok (.iload 4, 2) := dk_21 4 (dk_at dksX9_countFrom_6 8 rfl rfl)
theorem dX9_countFrom_151 : decode cX9_countFrom 151 = .ok (.iastore, 1) := dk_79 (dk_at dksX9_countFrom_6 10 rfl rfl)
theorem dX9_countFrom_152 : decode cX9_countFrom 152 = .ok (.lload_n 2, 1) := dk_32 (dk_at dksX9_countFrom_6 11 rfl rfl)
theorem dX9_countFrom_153 : decode cX9_countFrom 153 = .ok (.aload_n 0, 1) := dk_42 (dk_at dksX9_countFrom_6 12 rfl rfl)
theorem dX9_countFrom_154 : decode cX9_countFrom 154 = .ok (.iload_n 1, 1) := dk_27 (dk_at dksX9_countFrom_6 13 rfl rfl)
theorem dX9_countFrom_155 : decode cX9_countFrom 155 = .ok (.iconst 1, 1) := dk_4 (dk_at dksX9_countFrom_6 14 rfl rfl)
theorem dX9_countFrom_156 : decode cX9_countFrom 156 = .ok (.iadd, 1) := dk_96 (dk_at dksX9_countFrom_6 15 rfl rfl)
theorem dX9_countFrom_157 : decode cX9_countFrom 157 = .ok (.invokevirtual 258, 3) := dk_182 1 2 (dk_at dksX9_countFrom_6 16 rfl rfl)
theorem dX9_countFrom_160 : decode cX9_countFrom 160 = .ok (.ladd, 1) := dk_97 (dk_at dksX9_countFrom_6 19 rfl rfl)
theorem dX9_countFrom_161 : decode cX9_countFrom 161 = .ok (.lstore_n 2, 1) := dk_65 (dk_at dksX9_countFrom_6 20 rfl rfl)
theorem dX9_countFrom_162 : decode cX9_countFrom 162 = .ok (.iinc 4 1, 3) := dk_132 4 1 (dk_at dksX9_countFrom_6 21 rfl rfl)
theorem dX9_countFrom_165 : decode cX9_countFrom 165 = .ok (.goto (-40), 3) := dk_167 255 216 (dk_at dksX9_countFrom_7 0 rfl rfl)
theorem dX9_countFrom_168 : decode cX9_countFrom 168 = .ok (.lload_n 2, 1) := dk_32 (dk_at dksX9_countFrom_7 3 rfl rfl)
theorem dX9_countFrom_169 : decode cX9_countFrom 169 = .ok (.lreturn, 1) := dk_173 (dk_at dksX9_countFrom_7 4 rfl rfl)
abbrev cX9_waysBy : ByteArray := prog_33_method_61_code
def yX9_waysBy : MethodName := ⟨RX9, "waysBy", "(I)I"⟩
def dkwX9_waysBy_6 : List UInt8 := [46, 172]
abbrev dktX9_waysBy_6 : List UInt8 := dkwX9_waysBy_6 ++ []
def dkwX9_waysBy_5 : List UInt8 := [167, 0, 4, 3, 96, 61, 132, 3, 1, 167, 255, 143, 42, 180, 0, 46, 27, 28, 79, 42, 180, 0, 46, 27]
abbrev dktX9_waysBy_5 : List UInt8 := dkwX9_waysBy_5 ++ dktX9_waysBy_6
def dkwX9_waysBy_4 : List UInt8 := [153, 0, 7, 4, 167, 0, 4, 3, 54, 4, 132, 6, 1, 167, 255, 177, 28, 21, 4, 153, 0, 7, 4]
abbrev dktX9_waysBy_4 : List UInt8 := dkwX9_waysBy_4 ++ dktX9_waysBy_5
def dkwX9_waysBy_3 : List UInt8 := [4, 100, 184, 0, 226, 153, 0, 25, 42, 21, 6, 42, 180, 0, 43, 21, 6, 46, 16, 15, 182, 0, 243]
abbrev dktX9_waysBy_3 : List UInt8 := dkwX9_waysBy_3 ++ dktX9_waysBy_4
def dkwX9_waysBy_2 : List UInt8 := [21, 5, 6, 108, 54, 5, 21, 4, 153, 0, 46, 27, 6, 21, 6, 104, 42, 180, 0, 43, 21, 6, 46, 96]
abbrev dktX9_waysBy_2 : List UInt8 := dkwX9_waysBy_2 ++ dktX9_waysBy_3
def dkwX9_waysBy_1 : List UInt8 := [54, 5, 3, 54, 6, 21, 6, 7, 162, 0, 79, 42, 180, 0, 43, 21, 6, 21, 5, 6, 112, 4, 96, 79]
abbrev dktX9_waysBy_1 : List UInt8 := dkwX9_waysBy_1 ++ dktX9_waysBy_2
def dkwX9_waysBy_0 : List UInt8 := [42, 180, 0, 46, 27, 46, 156, 0, 130, 3, 61, 3, 62, 29, 16, 81, 162, 0, 113, 4, 54, 4, 29]
abbrev dktX9_waysBy_0 : List UInt8 := dkwX9_waysBy_0 ++ dktX9_waysBy_1
theorem dksX9_waysBy_0 : cX9_waysBy.data.toList.drop 0 = dktX9_waysBy_0 := by decide +kernel
theorem dksX9_waysBy_1 : cX9_waysBy.data.toList.drop 23 = dktX9_waysBy_1 := dk_seg dksX9_waysBy_0 23 rfl rfl
theorem dksX9_waysBy_2 : cX9_waysBy.data.toList.drop 47 = dktX9_waysBy_2 := dk_seg dksX9_waysBy_1 24 rfl rfl
theorem dksX9_waysBy_3 : cX9_waysBy.data.toList.drop 71 = dktX9_waysBy_3 := dk_seg dksX9_waysBy_2 24 rfl rfl
theorem dksX9_waysBy_4 : cX9_waysBy.data.toList.drop 94 = dktX9_waysBy_4 := dk_seg dksX9_waysBy_3 23 rfl rfl
theorem dksX9_waysBy_5 : cX9_waysBy.data.toList.drop 117 = dktX9_waysBy_5 := dk_seg dksX9_waysBy_4 23 rfl rfl
theorem dksX9_waysBy_6 : cX9_waysBy.data.toList.drop 141 = dktX9_waysBy_6 := dk_seg dksX9_waysBy_5 24 rfl rfl
theorem dX9_waysBy_0 : decode cX9_waysBy 0 = .ok (.aload_n 0, 1) := dk_42 (dk_at dksX9_waysBy_0 0 rfl rfl)
theorem dX9_waysBy_1 : decode cX9_waysBy 1 = .ok (.getfield 46, 3) := dk_180 0 46 (dk_at dksX9_waysBy_0 1 rfl rfl)
theorem dX9_waysBy_4 : decode cX9_waysBy 4 = .ok (.iload_n 1, 1) := dk_27 (dk_at dksX9_waysBy_0 4 rfl rfl)
theorem dX9_waysBy_5 : decode cX9_waysBy 5 = .ok (.iaload, 1) := dk_46 (dk_at dksX9_waysBy_0 5 rfl rfl)
theorem dX9_waysBy_6 : decode cX9_waysBy 6 = .ok (.ifCond .ge 130, 3) := dk_156 0 130 (dk_at dksX9_waysBy_0 6 rfl rfl)
theorem dX9_waysBy_9 : decode cX9_waysBy 9 = .ok (.iconst 0, 1) := dk_3 (dk_at dksX9_waysBy_0 9 rfl rfl)
theorem dX9_waysBy_10 : decode cX9_waysBy 10 = .ok (.istore_n 2, 1) := dk_61 (dk_at dksX9_waysBy_0 10 rfl rfl)
theorem dX9_waysBy_11 : decode cX9_waysBy 11 = .ok (.iconst 0, 1) := dk_3 (dk_at dksX9_waysBy_0 11 rfl rfl)
theorem dX9_waysBy_12 : decode cX9_waysBy 12 = .ok (.istore_n 3, 1) := dk_62 (dk_at dksX9_waysBy_0 12 rfl rfl)
theorem dX9_waysBy_13 : decode cX9_waysBy 13 = .ok (.iload_n 3, 1) := dk_29 (dk_at dksX9_waysBy_0 13 rfl rfl)
theorem dX9_waysBy_14 : decode cX9_waysBy 14 = .ok (.bipush 81, 2) := dk_16 81 (dk_at dksX9_waysBy_0 14 rfl rfl)
theorem dX9_waysBy_16 : decode cX9_waysBy 16 = .ok (.if_icmp .ge 113, 3) := dk_162 0 113 (dk_at dksX9_waysBy_0 16 rfl rfl)
theorem dX9_waysBy_19 : decode cX9_waysBy 19 = .ok (.iconst 1, 1) := dk_4 (dk_at dksX9_waysBy_0 19 rfl rfl)
theorem dX9_waysBy_20 : decode cX9_waysBy 20 = .ok (.istore 4, 2) := dk_54 4 (dk_at dksX9_waysBy_0 20 rfl rfl)
theorem dX9_waysBy_22 : decode cX9_waysBy 22 = .ok (.iload_n 3, 1) := dk_29 (dk_at dksX9_waysBy_0 22 rfl rfl)
theorem dX9_waysBy_23 : decode cX9_waysBy 23 = .ok (.istore 5, 2) := dk_54 5 (dk_at dksX9_waysBy_1 0 rfl rfl)
theorem dX9_waysBy_25 : decode cX9_waysBy 25 = .ok (.iconst 0, 1) := dk_3 (dk_at dksX9_waysBy_1 2 rfl rfl)
theorem dX9_waysBy_26 : decode cX9_waysBy 26 = .ok (.istore 6, 2) := dk_54 6 (dk_at dksX9_waysBy_1 3 rfl rfl)
theorem dX9_waysBy_28 : decode cX9_waysBy 28 = .ok (.iload 6, 2) := dk_21 6 (dk_at dksX9_waysBy_1 5 rfl rfl)
theorem dX9_waysBy_30 : decode cX9_waysBy 30 = .ok (.iconst 4, 1) := dk_7 (dk_at dksX9_waysBy_1 7 rfl rfl)
theorem dX9_waysBy_31 : decode cX9_waysBy 31 = .ok (.if_icmp .ge 79, 3) := dk_162 0 79 (dk_at dksX9_waysBy_1 8 rfl rfl)
theorem dX9_waysBy_34 : decode cX9_waysBy 34 = .ok (.aload_n 0, 1) := dk_42 (dk_at dksX9_waysBy_1 11 rfl rfl)
theorem dX9_waysBy_35 : decode cX9_waysBy 35 = .ok (.getfield 43, 3) := dk_180 0 43 (dk_at dksX9_waysBy_1 12 rfl rfl)
theorem dX9_waysBy_38 : decode cX9_waysBy 38 = .ok (.iload 6, 2) := dk_21 6 (dk_at dksX9_waysBy_1 15 rfl rfl)
theorem dX9_waysBy_40 : decode cX9_waysBy 40 = .ok (.iload 5, 2) := dk_21 5 (dk_at dksX9_waysBy_1 17 rfl rfl)
theorem dX9_waysBy_42 : decode cX9_waysBy 42 = .ok (.iconst 3, 1) := dk_6 (dk_at dksX9_waysBy_1 19 rfl rfl)
theorem dX9_waysBy_43 : decode cX9_waysBy 43 = .ok (.irem, 1) := dk_112 (dk_at dksX9_waysBy_1 20 rfl rfl)
theorem dX9_waysBy_44 : decode cX9_waysBy 44 = .ok (.iconst 1, 1) := dk_4 (dk_at dksX9_waysBy_1 21 rfl rfl)
theorem dX9_waysBy_45 : decode cX9_waysBy 45 = .ok (.iadd, 1) := dk_96 (dk_at dksX9_waysBy_1 22 rfl rfl)
theorem dX9_waysBy_46 : decode cX9_waysBy 46 = .ok (.iastore, 1) := dk_79 (dk_at dksX9_waysBy_1 23 rfl rfl)
theorem dX9_waysBy_47 : decode cX9_waysBy 47 = .ok (.iload 5, 2) := dk_21 5 (dk_at dksX9_waysBy_2 0 rfl rfl)
theorem dX9_waysBy_49 : decode cX9_waysBy 49 = .ok (.iconst 3, 1) := dk_6 (dk_at dksX9_waysBy_2 2 rfl rfl)
theorem dX9_waysBy_50 : decode cX9_waysBy 50 = .ok (.idiv, 1) := dk_108 (dk_at dksX9_waysBy_2 3 rfl rfl)
theorem dX9_waysBy_51 : decode cX9_waysBy 51 = .ok (.istore 5, 2) := dk_54 5 (dk_at dksX9_waysBy_2 4 rfl rfl)
theorem dX9_waysBy_53 : decode cX9_waysBy 53 = .ok (.iload 4, 2) := dk_21 4 (dk_at dksX9_waysBy_2 6 rfl rfl)
theorem dX9_waysBy_55 : decode cX9_waysBy 55 = .ok (.ifCond .eq 46, 3) := dk_153 0 46 (dk_at dksX9_waysBy_2 8 rfl rfl)
theorem dX9_waysBy_58 : decode cX9_waysBy 58 = .ok (.iload_n 1, 1) := dk_27 (dk_at dksX9_waysBy_2 11 rfl rfl)
theorem dX9_waysBy_59 : decode cX9_waysBy 59 = .ok (.iconst 3, 1) := dk_6 (dk_at dksX9_waysBy_2 12 rfl rfl)
theorem dX9_waysBy_60 : decode cX9_waysBy 60 = .ok (.iload 6, 2) := dk_21 6 (dk_at dksX9_waysBy_2 13 rfl rfl)
theorem dX9_waysBy_62 : decode cX9_waysBy 62 = .ok (.imul, 1) := dk_104 (dk_at dksX9_waysBy_2 15 rfl rfl)
theorem dX9_waysBy_63 : decode cX9_waysBy 63 = .ok (.aload_n 0, 1) := dk_42 (dk_at dksX9_waysBy_2 16 rfl rfl)
theorem dX9_waysBy_64 : decode cX9_waysBy 64 = .ok (.getfield 43, 3) := dk_180 0 43 (dk_at dksX9_waysBy_2 17 rfl rfl)
theorem dX9_waysBy_67 : decode cX9_waysBy 67 = .ok (.iload 6, 2) := dk_21 6 (dk_at dksX9_waysBy_2 20 rfl rfl)
theorem dX9_waysBy_69 : decode cX9_waysBy 69 = .ok (.iaload, 1) := dk_46 (dk_at dksX9_waysBy_2 22 rfl rfl)
theorem dX9_waysBy_70 : decode cX9_waysBy 70 = .ok (.iadd, 1) := dk_96 (dk_at dksX9_waysBy_2 23 rfl rfl)
theorem dX9_waysBy_71 : decode cX9_waysBy 71 = .ok (.iconst 1, 1) := dk_4 (dk_at dksX9_waysBy_3 0 rfl rfl)
theorem dX9_waysBy_72 : decode cX9_waysBy 72 = .ok (.isub, 1) := dk_100 (dk_at dksX9_waysBy_3 1 rfl rfl)
theorem dX9_waysBy_73 : decode cX9_waysBy 73 = .ok (.invokestatic 226, 3) := dk_184 0 226 (dk_at dksX9_waysBy_3 2 rfl rfl)
theorem dX9_waysBy_76 : decode cX9_waysBy 76 = .ok (.ifCond .eq 25, 3) := dk_153 0 25 (dk_at dksX9_waysBy_3 5 rfl rfl)
theorem dX9_waysBy_79 : decode cX9_waysBy 79 = .ok (.aload_n 0, 1) := dk_42 (dk_at dksX9_waysBy_3 8 rfl rfl)
theorem dX9_waysBy_80 : decode cX9_waysBy 80 = .ok (.iload 6, 2) := dk_21 6 (dk_at dksX9_waysBy_3 9 rfl rfl)
theorem dX9_waysBy_82 : decode cX9_waysBy 82 = .ok (.aload_n 0, 1) := dk_42 (dk_at dksX9_waysBy_3 11 rfl rfl)
theorem dX9_waysBy_83 : decode cX9_waysBy 83 = .ok (.getfield 43, 3) := dk_180 0 43 (dk_at dksX9_waysBy_3 12 rfl rfl)
theorem dX9_waysBy_86 : decode cX9_waysBy 86 = .ok (.iload 6, 2) := dk_21 6 (dk_at dksX9_waysBy_3 15 rfl rfl)
theorem dX9_waysBy_88 : decode cX9_waysBy 88 = .ok (.iaload, 1) := dk_46 (dk_at dksX9_waysBy_3 17 rfl rfl)
theorem dX9_waysBy_89 : decode cX9_waysBy 89 = .ok (.bipush 15, 2) := dk_16 15 (dk_at dksX9_waysBy_3 18 rfl rfl)
theorem dX9_waysBy_91 : decode cX9_waysBy 91 = .ok (.invokevirtual 243, 3) := dk_182 0 243 (dk_at dksX9_waysBy_3 20 rfl rfl)
theorem dX9_waysBy_94 : decode cX9_waysBy 94 = .ok (.ifCond .eq 7, 3) := dk_153 0 7 (dk_at dksX9_waysBy_4 0 rfl rfl)
theorem dX9_waysBy_97 : decode cX9_waysBy 97 = .ok (.iconst 1, 1) := dk_4 (dk_at dksX9_waysBy_4 3 rfl rfl)
theorem dX9_waysBy_98 : decode cX9_waysBy 98 = .ok (.goto 4, 3) := dk_167 0 4 (dk_at dksX9_waysBy_4 4 rfl rfl)
theorem dX9_waysBy_101 : decode cX9_waysBy 101 = .ok (.iconst 0, 1) := dk_3 (dk_at dksX9_waysBy_4 7 rfl rfl)
theorem dX9_waysBy_102 : decode cX9_waysBy 102 = .ok (.istore 4, 2) := dk_54 4 (dk_at dksX9_waysBy_4 8 rfl rfl)
theorem dX9_waysBy_104 : decode cX9_waysBy 104 = .ok (.iinc 6 1, 3) := dk_132 6 1 (dk_at dksX9_waysBy_4 10 rfl rfl)
theorem dX9_waysBy_107 : decode cX9_waysBy 107 = .ok (.goto (-79), 3) := dk_167 255 177 (dk_at dksX9_waysBy_4 13 rfl rfl)
theorem dX9_waysBy_110 : decode cX9_waysBy 110 = .ok (.iload_n 2, 1) := dk_28 (dk_at dksX9_waysBy_4 16 rfl rfl)
theorem dX9_waysBy_111 : decode cX9_waysBy 111 = .ok (.iload 4, 2) := dk_21 4 (dk_at dksX9_waysBy_4 17 rfl rfl)
theorem dX9_waysBy_113 : decode cX9_waysBy 113 = .ok (.ifCond .eq 7, 3) := dk_153 0 7 (dk_at dksX9_waysBy_4 19 rfl rfl)
theorem dX9_waysBy_116 : decode cX9_waysBy 116 = .ok (.iconst 1, 1) := dk_4 (dk_at dksX9_waysBy_4 22 rfl rfl)
theorem dX9_waysBy_117 : decode cX9_waysBy 117 = .ok (.goto 4, 3) := dk_167 0 4 (dk_at dksX9_waysBy_5 0 rfl rfl)
theorem dX9_waysBy_120 : decode cX9_waysBy 120 = .ok (.iconst 0, 1) := dk_3 (dk_at dksX9_waysBy_5 3 rfl rfl)
theorem dX9_waysBy_121 : decode cX9_waysBy 121 = .ok (.iadd, 1) := dk_96 (dk_at dksX9_waysBy_5 4 rfl rfl)
theorem dX9_waysBy_122 : decode cX9_waysBy 122 = .ok (.istore_n 2, 1) := dk_61 (dk_at dksX9_waysBy_5 5 rfl rfl)
theorem dX9_waysBy_123 : decode cX9_waysBy 123 = .ok (.iinc 3 1, 3) := dk_132 3 1 (dk_at dksX9_waysBy_5 6 rfl rfl)
theorem dX9_waysBy_126 : decode cX9_waysBy 126 = .ok (.goto (-113), 3) := dk_167 255 143 (dk_at dksX9_waysBy_5 9 rfl rfl)
theorem dX9_waysBy_129 : decode cX9_waysBy 129 = .ok (.aload_n 0, 1) := dk_42 (dk_at dksX9_waysBy_5 12 rfl rfl)
theorem dX9_waysBy_130 : decode cX9_waysBy 130 = .ok (.getfield 46, 3) := dk_180 0 46 (dk_at dksX9_waysBy_5 13 rfl rfl)
theorem dX9_waysBy_133 : decode cX9_waysBy 133 = .ok (.iload_n 1, 1) := dk_27 (dk_at dksX9_waysBy_5 16 rfl rfl)
theorem dX9_waysBy_134 : decode cX9_waysBy 134 = .ok (.iload_n 2, 1) := dk_28 (dk_at dksX9_waysBy_5 17 rfl rfl)
theorem dX9_waysBy_135 : decode cX9_waysBy 135 = .ok (.iastore, 1) := dk_79 (dk_at dksX9_waysBy_5 18 rfl rfl)
theorem dX9_waysBy_136 : decode cX9_waysBy 136 = .ok (.aload_n 0, 1) := dk_42 (dk_at dksX9_waysBy_5 19 rfl rfl)
theorem dX9_waysBy_137 : decode cX9_waysBy 137 = .ok (.getfield 46, 3) := dk_180 0 46 (dk_at dksX9_waysBy_5 20 rfl rfl)
theorem dX9_waysBy_140 : decode cX9_waysBy 140 = .ok (.iload_n 1, 1) := dk_27 (dk_at dksX9_waysBy_5 23 rfl rfl)
theorem dX9_waysBy_141 : decode cX9_waysBy 141 = .ok (.iaload, 1) := dk_46 (dk_at dksX9_waysBy_6 0 rfl rfl)
theorem dX9_waysBy_142 : decode cX9_waysBy 142 = .ok (.ireturn, 1) := dk_172 (dk_at dksX9_waysBy_6 1 rfl rfl)
abbrev cX9_may : ByteArray := prog_33_method_64_code
def yX9_may : MethodName := ⟨RX9, "may", "(II)I"⟩
def dkwX9_may_3 : List UInt8 := [153, 0, 10, 4, 21, 5, 120, 167, 0, 4, 3, 128, 54, 4, 132, 5, 1, 167, 255, 209, 21, 4, 172]
abbrev dktX9_may_3 : List UInt8 := dkwX9_may_3 ++ []
def dkwX9_may_2 : List UInt8 := [180, 0, 37, 28, 29, 4, 21, 5, 4, 100, 120, 126, 79, 21, 4, 42, 3, 17, 15, 255, 182, 0, 240]
abbrev dktX9_may_2 : List UInt8 := dkwX9_may_2 ++ dktX9_may_3
def dkwX9_may_1 : List UInt8 := [182, 0, 246, 42, 180, 0, 37, 28, 46, 62, 3, 54, 4, 4, 54, 5, 21, 5, 6, 163, 0, 47, 42]
abbrev dktX9_may_1 : List UInt8 := dkwX9_may_1 ++ dktX9_may_2
def dkwX9_may_0 : List UInt8 := [42, 27, 182, 0, 249, 153, 0, 10, 28, 184, 0, 101, 154, 0, 10, 42, 18, 105, 182, 0, 106, 172, 42, 27]
abbrev dktX9_may_0 : List UInt8 := dkwX9_may_0 ++ dktX9_may_1
theorem dksX9_may_0 : cX9_may.data.toList.drop 0 = dktX9_may_0 := by decide +kernel
theorem dksX9_may_1 : cX9_may.data.toList.drop 24 = dktX9_may_1 := dk_seg dksX9_may_0 24 rfl rfl
theorem dksX9_may_2 : cX9_may.data.toList.drop 47 = dktX9_may_2 := dk_seg dksX9_may_1 23 rfl rfl
theorem dksX9_may_3 : cX9_may.data.toList.drop 70 = dktX9_may_3 := dk_seg dksX9_may_2 23 rfl rfl
theorem dX9_may_0 : decode cX9_may 0 = .ok (.aload_n 0, 1) := dk_42 (dk_at dksX9_may_0 0 rfl rfl)
theorem dX9_may_1 : decode cX9_may 1 = .ok (.iload_n 1, 1) := dk_27 (dk_at dksX9_may_0 1 rfl rfl)
theorem dX9_may_2 : decode cX9_may 2 = .ok (.invokevirtual 249, 3) := dk_182 0 249 (dk_at dksX9_may_0 2 rfl rfl)
theorem dX9_may_5 : decode cX9_may 5 = .ok (.ifCond .eq 10, 3) := dk_153 0 10 (dk_at dksX9_may_0 5 rfl rfl)
theorem dX9_may_8 : decode cX9_may 8 = .ok (.iload_n 2, 1) := dk_28 (dk_at dksX9_may_0 8 rfl rfl)
theorem dX9_may_9 : decode cX9_may 9 = .ok (.invokestatic 101, 3) := dk_184 0 101 (dk_at dksX9_may_0 9 rfl rfl)
theorem dX9_may_12 : decode cX9_may 12 = .ok (.ifCond .ne 10, 3) := dk_154 0 10 (dk_at dksX9_may_0 12 rfl rfl)
theorem dX9_may_15 : decode cX9_may 15 = .ok (.aload_n 0, 1) := dk_42 (dk_at dksX9_may_0 15 rfl rfl)
theorem dX9_may_16 : decode cX9_may 16 = .ok (.ldc 105, 2) := dk_18 105 (dk_at dksX9_may_0 16 rfl rfl)
theorem dX9_may_18 : decode cX9_may 18 = .ok (.invokevirtual 106, 3) := dk_182 0 106 (dk_at dksX9_may_0 18 rfl rfl)
theorem dX9_may_21 : decode cX9_may 21 = .ok (.ireturn, 1) := dk_172 (dk_at dksX9_may_0 21 rfl rfl)
theorem dX9_may_22 : decode cX9_may 22 = .ok (.aload_n 0, 1) := dk_42 (dk_at dksX9_may_0 22 rfl rfl)
theorem dX9_may_23 : decode cX9_may 23 = .ok (.iload_n 1, 1) := dk_27 (dk_at dksX9_may_0 23 rfl rfl)
theorem dX9_may_24 : decode cX9_may 24 = .ok (.invokevirtual 246, 3) := dk_182 0 246 (dk_at dksX9_may_1 0 rfl rfl)
theorem dX9_may_27 : decode cX9_may 27 = .ok (.aload_n 0, 1) := dk_42 (dk_at dksX9_may_1 3 rfl rfl)
theorem dX9_may_28 : decode cX9_may 28 = .ok (.getfield 37, 3) := dk_180 0 37 (dk_at dksX9_may_1 4 rfl rfl)
theorem dX9_may_31 : decode cX9_may 31 = .ok (.iload_n 2, 1) := dk_28 (dk_at dksX9_may_1 7 rfl rfl)
theorem dX9_may_32 : decode cX9_may 32 = .ok (.iaload, 1) := dk_46 (dk_at dksX9_may_1 8 rfl rfl)
theorem dX9_may_33 : decode cX9_may 33 = .ok (.istore_n 3, 1) := dk_62 (dk_at dksX9_may_1 9 rfl rfl)
theorem dX9_may_34 : decode cX9_may 34 = .ok (.iconst 0, 1) := dk_3 (dk_at dksX9_may_1 10 rfl rfl)
theorem dX9_may_35 : decode cX9_may 35 = .ok (.istore 4, 2) := dk_54 4 (dk_at dksX9_may_1 11 rfl rfl)
theorem dX9_may_37 : decode cX9_may 37 = .ok (.iconst 1, 1) := dk_4 (dk_at dksX9_may_1 13 rfl rfl)
theorem dX9_may_38 : decode cX9_may 38 = .ok (.istore 5, 2) := dk_54 5 (dk_at dksX9_may_1 14 rfl rfl)
theorem dX9_may_40 : decode cX9_may 40 = .ok (.iload 5, 2) := dk_21 5 (dk_at dksX9_may_1 16 rfl rfl)
theorem dX9_may_42 : decode cX9_may 42 = .ok (.iconst 3, 1) := dk_6 (dk_at dksX9_may_1 18 rfl rfl)
theorem dX9_may_43 : decode cX9_may 43 = .ok (.if_icmp .gt 47, 3) := dk_163 0 47 (dk_at dksX9_may_1 19 rfl rfl)
theorem dX9_may_46 : decode cX9_may 46 = .ok (.aload_n 0, 1) := dk_42 (dk_at dksX9_may_1 22 rfl rfl)
theorem dX9_may_47 : decode cX9_may 47 = .ok (.getfield 37, 3) := dk_180 0 37 (dk_at dksX9_may_2 0 rfl rfl)
theorem dX9_may_50 : decode cX9_may 50 = .ok (.iload_n 2, 1) := dk_28 (dk_at dksX9_may_2 3 rfl rfl)
theorem dX9_may_51 : decode cX9_may 51 = .ok (.iload_n 3, 1) := dk_29 (dk_at dksX9_may_2 4 rfl rfl)
theorem dX9_may_52 : decode cX9_may 52 = .ok (.iconst 1, 1) := dk_4 (dk_at dksX9_may_2 5 rfl rfl)
theorem dX9_may_53 : decode cX9_may 53 = .ok (.iload 5, 2) := dk_21 5 (dk_at dksX9_may_2 6 rfl rfl)
theorem dX9_may_55 : decode cX9_may 55 = .ok (.iconst 1, 1) := dk_4 (dk_at dksX9_may_2 8 rfl rfl)
theorem dX9_may_56 : decode cX9_may 56 = .ok (.isub, 1) := dk_100 (dk_at dksX9_may_2 9 rfl rfl)
theorem dX9_may_57 : decode cX9_may 57 = .ok (.ishl, 1) := dk_120 (dk_at dksX9_may_2 10 rfl rfl)
theorem dX9_may_58 : decode cX9_may 58 = .ok (.iand, 1) := dk_126 (dk_at dksX9_may_2 11 rfl rfl)
theorem dX9_may_59 : decode cX9_may 59 = .ok (.iastore, 1) := dk_79 (dk_at dksX9_may_2 12 rfl rfl)
theorem dX9_may_60 : decode cX9_may 60 = .ok (.iload 4, 2) := dk_21 4 (dk_at dksX9_may_2 13 rfl rfl)
theorem dX9_may_62 : decode cX9_may 62 = .ok (.aload_n 0, 1) := dk_42 (dk_at dksX9_may_2 15 rfl rfl)
theorem dX9_may_63 : decode cX9_may 63 = .ok (.iconst 0, 1) := dk_3 (dk_at dksX9_may_2 16 rfl rfl)
theorem dX9_may_64 : decode cX9_may 64 = .ok (.sipush 4095, 3) := dk_17 15 255 (dk_at dksX9_may_2 17 rfl rfl)
theorem dX9_may_67 : decode cX9_may 67 = .ok (.invokevirtual 240, 3) := dk_182 0 240 (dk_at dksX9_may_2 20 rfl rfl)
theorem dX9_may_70 : decode cX9_may 70 = .ok (.ifCond .eq 10, 3) := dk_153 0 10 (dk_at dksX9_may_3 0 rfl rfl)
theorem dX9_may_73 : decode cX9_may 73 = .ok (.iconst 1, 1) := dk_4 (dk_at dksX9_may_3 3 rfl rfl)
theorem dX9_may_74 : decode cX9_may 74 = .ok (.iload 5, 2) := dk_21 5 (dk_at dksX9_may_3 4 rfl rfl)
theorem dX9_may_76 : decode cX9_may 76 = .ok (.ishl, 1) := dk_120 (dk_at dksX9_may_3 6 rfl rfl)
theorem dX9_may_77 : decode cX9_may 77 = .ok (.goto 4, 3) := dk_167 0 4 (dk_at dksX9_may_3 7 rfl rfl)
theorem dX9_may_80 : decode cX9_may 80 = .ok (.iconst 0, 1) := dk_3 (dk_at dksX9_may_3 10 rfl rfl)
theorem dX9_may_81 : decode cX9_may 81 = .ok (.ior, 1) := dk_128 (dk_at dksX9_may_3 11 rfl rfl)
theorem dX9_may_82 : decode cX9_may 82 = .ok (.istore 4, 2) := dk_54 4 (dk_at dksX9_may_3 12 rfl rfl)
theorem dX9_may_84 : decode cX9_may 84 = .ok (.iinc 5 1, 3) := dk_132 5 1 (dk_at dksX9_may_3 14 rfl rfl)
theorem dX9_may_87 : decode cX9_may 87 = .ok (.goto (-47), 3) := dk_167 255 209 (dk_at dksX9_may_3 17 rfl rfl)
theorem dX9_may_90 : decode cX9_may 90 = .ok (.iload 4, 2) := dk_21 4 (dk_at dksX9_may_3 20 rfl rfl)
theorem dX9_may_92 : decode cX9_may 92 = .ok (.ireturn, 1) := dk_172 (dk_at dksX9_may_3 22 rfl rfl)
abbrev cX9_near : ByteArray := prog_33_method_66_code
def yX9_near : MethodName := ⟨RX9, "near", "(I)I"⟩
def dkwX9_near_2 : List UInt8 := [172]
abbrev dktX9_near_2 : List UInt8 := dkwX9_near_2 ++ []
def dkwX9_near_1 : List UInt8 := [18, 112, 182, 0, 106, 172, 3, 61, 42, 3, 28, 182, 1, 6, 154, 0, 9, 132, 2, 1, 167, 255, 244, 28]
abbrev dktX9_near_1 : List UInt8 := dkwX9_near_1 ++ dktX9_near_2
def dkwX9_near_0 : List UInt8 := [42, 27, 182, 0, 249, 154, 0, 10, 42, 18, 105, 182, 0, 106, 172, 42, 27, 182, 0, 252, 154, 0, 10, 42]
abbrev dktX9_near_0 : List UInt8 := dkwX9_near_0 ++ dktX9_near_1
theorem dksX9_near_0 : cX9_near.data.toList.drop 0 = dktX9_near_0 := by decide +kernel
theorem dksX9_near_1 : cX9_near.data.toList.drop 24 = dktX9_near_1 := dk_seg dksX9_near_0 24 rfl rfl
theorem dksX9_near_2 : cX9_near.data.toList.drop 48 = dktX9_near_2 := dk_seg dksX9_near_1 24 rfl rfl
theorem dX9_near_0 : decode cX9_near 0 = .ok (.aload_n 0, 1) := dk_42 (dk_at dksX9_near_0 0 rfl rfl)
theorem dX9_near_1 : decode cX9_near 1 = .ok (.iload_n 1, 1) := dk_27 (dk_at dksX9_near_0 1 rfl rfl)
theorem dX9_near_2 : decode cX9_near 2 = .ok (.invokevirtual 249, 3) := dk_182 0 249 (dk_at dksX9_near_0 2 rfl rfl)
theorem dX9_near_5 : decode cX9_near 5 = .ok (.ifCond .ne 10, 3) := dk_154 0 10 (dk_at dksX9_near_0 5 rfl rfl)
theorem dX9_near_8 : decode cX9_near 8 = .ok (.aload_n 0, 1) := dk_42 (dk_at dksX9_near_0 8 rfl rfl)
theorem dX9_near_9 : decode cX9_near 9 = .ok (.ldc 105, 2) := dk_18 105 (dk_at dksX9_near_0 9 rfl rfl)
theorem dX9_near_11 : decode cX9_near 11 = .ok (.invokevirtual 106, 3) := dk_182 0 106 (dk_at dksX9_near_0 11 rfl rfl)
theorem dX9_near_14 : decode cX9_near 14 = .ok (.ireturn, 1) := dk_172 (dk_at dksX9_near_0 14 rfl rfl)
theorem dX9_near_15 : decode cX9_near 15 = .ok (.aload_n 0, 1) := dk_42 (dk_at dksX9_near_0 15 rfl rfl)
theorem dX9_near_16 : decode cX9_near 16 = .ok (.iload_n 1, 1) := dk_27 (dk_at dksX9_near_0 16 rfl rfl)
theorem dX9_near_17 : decode cX9_near 17 = .ok (.invokevirtual 252, 3) := dk_182 0 252 (dk_at dksX9_near_0 17 rfl rfl)
theorem dX9_near_20 : decode cX9_near 20 = .ok (.ifCond .ne 10, 3) := dk_154 0 10 (dk_at dksX9_near_0 20 rfl rfl)
theorem dX9_near_23 : decode cX9_near 23 = .ok (.aload_n 0, 1) := dk_42 (dk_at dksX9_near_0 23 rfl rfl)
theorem dX9_near_24 : decode cX9_near 24 = .ok (.ldc 112, 2) := dk_18 112 (dk_at dksX9_near_1 0 rfl rfl)
theorem dX9_near_26 : decode cX9_near 26 = .ok (.invokevirtual 106, 3) := dk_182 0 106 (dk_at dksX9_near_1 2 rfl rfl)
theorem dX9_near_29 : decode cX9_near 29 = .ok (.ireturn, 1) := dk_172 (dk_at dksX9_near_1 5 rfl rfl)
theorem dX9_near_30 : decode cX9_near 30 = .ok (.iconst 0, 1) := dk_3 (dk_at dksX9_near_1 6 rfl rfl)
theorem dX9_near_31 : decode cX9_near 31 = .ok (.istore_n 2, 1) := dk_61 (dk_at dksX9_near_1 7 rfl rfl)
theorem dX9_near_32 : decode cX9_near 32 = .ok (.aload_n 0, 1) := dk_42 (dk_at dksX9_near_1 8 rfl rfl)
theorem dX9_near_33 : decode cX9_near 33 = .ok (.iconst 0, 1) := dk_3 (dk_at dksX9_near_1 9 rfl rfl)
theorem dX9_near_34 : decode cX9_near 34 = .ok (.iload_n 2, 1) := dk_28 (dk_at dksX9_near_1 10 rfl rfl)
theorem dX9_near_35 : decode cX9_near 35 = .ok (.invokevirtual 262, 3) := dk_182 1 6 (dk_at dksX9_near_1 11 rfl rfl)
theorem dX9_near_38 : decode cX9_near 38 = .ok (.ifCond .ne 9, 3) := dk_154 0 9 (dk_at dksX9_near_1 14 rfl rfl)
theorem dX9_near_41 : decode cX9_near 41 = .ok (.iinc 2 1, 3) := dk_132 2 1 (dk_at dksX9_near_1 17 rfl rfl)
theorem dX9_near_44 : decode cX9_near 44 = .ok (.goto (-12), 3) := dk_167 255 244 (dk_at dksX9_near_1 20 rfl rfl)
theorem dX9_near_47 : decode cX9_near 47 = .ok (.iload_n 2, 1) := dk_28 (dk_at dksX9_near_1 23 rfl rfl)
theorem dX9_near_48 : decode cX9_near 48 = .ok (.ireturn, 1) := dk_172 (dk_at dksX9_near_2 0 rfl rfl)
abbrev cX9_seekNear : ByteArray := prog_33_method_65_code
def yX9_seekNear : MethodName := ⟨RX9, "seekNear", "(II)Z"⟩
def dkwX9_seekNear_3 : List UInt8 := [153, 0, 5, 4, 172, 132, 3, 1, 167, 255, 188, 3, 172]
abbrev dktX9_seekNear_3 : List UInt8 := dkwX9_seekNear_3 ++ []
def dkwX9_seekNear_2 : List UInt8 := [182, 0, 243, 153, 0, 24, 42, 180, 0, 43, 27, 29, 79, 42, 27, 4, 96, 21, 4, 182, 1, 6]
abbrev dktX9_seekNear_2 : List UInt8 := dkwX9_seekNear_2 ++ dktX9_seekNear_3
def dkwX9_seekNear_1 : List UInt8 := [46, 160, 0, 7, 28, 167, 0, 6, 28, 4, 100, 54, 4, 21, 4, 155, 0, 36, 42, 27, 29, 17, 15, 255]
abbrev dktX9_seekNear_1 : List UInt8 := dkwX9_seekNear_1 ++ dktX9_seekNear_2
def dkwX9_seekNear_0 : List UInt8 := [27, 16, 12, 160, 0, 5, 4, 172, 4, 62, 29, 6, 163, 0, 69, 29, 42, 180, 0, 9, 16, 10, 27, 96]
abbrev dktX9_seekNear_0 : List UInt8 := dkwX9_seekNear_0 ++ dktX9_seekNear_1
theorem dksX9_seekNear_0 : cX9_seekNear.data.toList.drop 0 = dktX9_seekNear_0 := by decide +kernel
theorem dksX9_seekNear_1 : cX9_seekNear.data.toList.drop 24 = dktX9_seekNear_1 := dk_seg dksX9_seekNear_0 24 rfl rfl
theorem dksX9_seekNear_2 : cX9_seekNear.data.toList.drop 48 = dktX9_seekNear_2 := dk_seg dksX9_seekNear_1 24 rfl rfl
theorem dksX9_seekNear_3 : cX9_seekNear.data.toList.drop 70 = dktX9_seekNear_3 := dk_seg dksX9_seekNear_2 22 rfl rfl
theorem dX9_seekNear_0 : decode cX9_seekNear 0 = .ok (.iload_n 1, 1) := dk_27 (dk_at dksX9_seekNear_0 0 rfl rfl)
theorem dX9_seekNear_1 : decode cX9_seekNear 1 = .ok (.bipush 12, 2) := dk_16 12 (dk_at dksX9_seekNear_0 1 rfl rfl)
theorem dX9_seekNear_3 : decode cX9_seekNear 3 = .ok (.if_icmp .ne 5, 3) := dk_160 0 5 (dk_at dksX9_seekNear_0 3 rfl rfl)
theorem dX9_seekNear_6 : decode cX9_seekNear 6 = .ok (.iconst 1, 1) := dk_4 (dk_at dksX9_seekNear_0 6 rfl rfl)
theorem dX9_seekNear_7 : decode cX9_seekNear 7 = .ok (.ireturn, 1) := dk_172 (dk_at dksX9_seekNear_0 7 rfl rfl)
theorem dX9_seekNear_8 : decode cX9_seekNear 8 = .ok (.iconst 1, 1) := dk_4 (dk_at dksX9_seekNear_0 8 rfl rfl)
theorem dX9_seekNear_9 : decode cX9_seekNear 9 = .ok (.istore_n 3, 1) := dk_62 (dk_at dksX9_seekNear_0 9 rfl rfl)
theorem dX9_seekNear_10 : decode cX9_seekNear 10 = .ok (.iload_n 3, 1) := dk_29 (dk_at dksX9_seekNear_0 10 rfl rfl)
theorem dX9_seekNear_11 : decode cX9_seekNear 11 = .ok (.iconst 3, 1) := dk_6 (dk_at dksX9_seekNear_0 11 rfl rfl)
theorem dX9_seekNear_12 : decode cX9_seekNear 12 = .ok (.if_icmp .gt 69, 3) := dk_163 0 69 (dk_at dksX9_seekNear_0 12 rfl rfl)
theorem dX9_seekNear_15 : decode cX9_seekNear 15 = .ok (.iload_n 3, 1) := dk_29 (dk_at dksX9_seekNear_0 15 rfl rfl)
theorem dX9_seekNear_16 : decode cX9_seekNear 16 = .ok (.aload_n 0, 1) := dk_42 (dk_at dksX9_seekNear_0 16 rfl rfl)
theorem dX9_seekNear_17 : decode cX9_seekNear 17 = .ok (.getfield 9, 3) := dk_180 0 9 (dk_at dksX9_seekNear_0 17 rfl rfl)
theorem dX9_seekNear_20 : decode cX9_seekNear 20 = .ok (.bipush 10, 2) := dk_16 10 (dk_at dksX9_seekNear_0 20 rfl rfl)
theorem dX9_seekNear_22 : decode cX9_seekNear 22 = .ok (.iload_n 1, 1) := dk_27 (dk_at dksX9_seekNear_0 22 rfl rfl)
theorem dX9_seekNear_23 : decode cX9_seekNear 23 = .ok (.iadd, 1) := dk_96 (dk_at dksX9_seekNear_0 23 rfl rfl)
theorem dX9_seekNear_24 : decode cX9_seekNear 24 = .ok (.iaload, 1) := dk_46 (dk_at dksX9_seekNear_1 0 rfl rfl)
theorem dX9_seekNear_25 : decode cX9_seekNear 25 = .ok (.if_icmp .ne 7, 3) := dk_160 0 7 (dk_at dksX9_seekNear_1 1 rfl rfl)
theorem dX9_seekNear_28 : decode cX9_seekNear 28 = .ok (.iload_n 2, 1) := dk_28 (dk_at dksX9_seekNear_1 4 rfl rfl)
theorem dX9_seekNear_29 : decode cX9_seekNear 29 = .ok (.goto 6, 3) := dk_167 0 6 (dk_at dksX9_seekNear_1 5 rfl rfl)
theorem dX9_seekNear_32 : decode cX9_seekNear 32 = .ok (.iload_n 2, 1) := dk_28 (dk_at dksX9_seekNear_1 8 rfl rfl)
theorem dX9_seekNear_33 : decode cX9_seekNear 33 = .ok (.iconst 1, 1) := dk_4 (dk_at dksX9_seekNear_1 9 rfl rfl)
theorem dX9_seekNear_34 : decode cX9_seekNear 34 = .ok (.isub, 1) := dk_100 (dk_at dksX9_seekNear_1 10 rfl rfl)
theorem dX9_seekNear_35 : decode cX9_seekNear 35 = .ok (.istore 4, 2) := dk_54 4 (dk_at dksX9_seekNear_1 11 rfl rfl)
theorem dX9_seekNear_37 : decode cX9_seekNear 37 = .ok (.iload 4, 2) := dk_21 4 (dk_at dksX9_seekNear_1 13 rfl rfl)
theorem dX9_seekNear_39 : decode cX9_seekNear 39 = .ok (.ifCond .lt 36, 3) := dk_155 0 36 (dk_at dksX9_seekNear_1 15 rfl rfl)
theorem dX9_seekNear_42 : decode cX9_seekNear 42 = .ok (.aload_n 0, 1) := dk_42 (dk_at dksX9_seekNear_1 18 rfl rfl)
theorem dX9_seekNear_43 : decode cX9_seekNear 43 = .ok (.iload_n 1, 1) := dk_27 (dk_at dksX9_seekNear_1 19 rfl rfl)
theorem dX9_seekNear_44 : decode cX9_seekNear 44 = .ok (.iload_n 3, 1) := dk_29 (dk_at dksX9_seekNear_1 20 rfl rfl)
theorem dX9_seekNear_45 : decode cX9_seekNear 45 = .ok (.sipush 4095, 3) := dk_17 15 255 (dk_at dksX9_seekNear_1 21 rfl rfl)
theorem dX9_seekNear_48 : decode cX9_seekNear 48 = .ok (.invokevirtual 243, 3) := dk_182 0 243 (dk_at dksX9_seekNear_2 0 rfl rfl)
theorem dX9_seekNear_51 : decode cX9_seekNear 51 = .ok (.ifCond .eq 24, 3) := dk_153 0 24 (dk_at dksX9_seekNear_2 3 rfl rfl)
theorem dX9_seekNear_54 : decode cX9_seekNear 54 = .ok (.aload_n 0, 1) := dk_42 (dk_at dksX9_seekNear_2 6 rfl rfl)
theorem dX9_seekNear_55 : decode cX9_seekNear 55 = .ok (.getfield 43, 3) := dk_180 0 43 (dk_at dksX9_seekNear_2 7 rfl rfl)
theorem dX9_seekNear_58 : decode cX9_seekNear 58 = .ok (.iload_n 1, 1) := dk_27 (dk_at dksX9_seekNear_2 10 rfl rfl)
theorem dX9_seekNear_59 : decode cX9_seekNear 59 = .ok (.iload_n 3, 1) := dk_29 (dk_at dksX9_seekNear_2 11 rfl rfl)
theorem dX9_seekNear_60 : decode cX9_seekNear 60 = .ok (.iastore, 1) := dk_79 (dk_at dksX9_seekNear_2 12 rfl rfl)
theorem dX9_seekNear_61 : decode cX9_seekNear 61 = .ok (.aload_n 0, 1) := dk_42 (dk_at dksX9_seekNear_2 13 rfl rfl)
theorem dX9_seekNear_62 : decode cX9_seekNear 62 = .ok (.iload_n 1, 1) := dk_27 (dk_at dksX9_seekNear_2 14 rfl rfl)
theorem dX9_seekNear_63 : decode cX9_seekNear 63 = .ok (.iconst 1, 1) := dk_4 (dk_at dksX9_seekNear_2 15 rfl rfl)
theorem dX9_seekNear_64 : decode cX9_seekNear 64 = .ok (.iadd, 1) := dk_96 (dk_at dksX9_seekNear_2 16 rfl rfl)
theorem dX9_seekNear_65 : decode cX9_seekNear 65 = .ok (.iload 4, 2) := dk_21 4 (dk_at dksX9_seekNear_2 17 rfl rfl)
theorem dX9_seekNear_67 : decode cX9_seekNear 67 = .ok (.invokevirtual 262, 3) := dk_182 1 6 (dk_at dksX9_seekNear_2 19 rfl rfl)
theorem dX9_seekNear_70 : decode cX9_seekNear 70 = .ok (.ifCond .eq 5, 3) := dk_153 0 5 (dk_at dksX9_seekNear_3 0 rfl rfl)
theorem dX9_seekNear_73 : decode cX9_seekNear 73 = .ok (.iconst 1, 1) := dk_4 (dk_at dksX9_seekNear_3 3 rfl rfl)
theorem dX9_seekNear_74 : decode cX9_seekNear 74 = .ok (.ireturn, 1) := dk_172 (dk_at dksX9_seekNear_3 4 rfl rfl)
theorem dX9_seekNear_75 : decode cX9_seekNear 75 = .ok (.iinc 3 1, 3) := dk_132 3 1 (dk_at dksX9_seekNear_3 5 rfl rfl)
theorem dX9_seekNear_78 : decode cX9_seekNear 78 = .ok (.goto (-68), 3) := dk_167 255 188 (dk_at dksX9_seekNear_3 8 rfl rfl)
theorem dX9_seekNear_81 : decode cX9_seekNear 81 = .ok (.iconst 0, 1) := dk_3 (dk_at dksX9_seekNear_3 11 rfl rfl)
theorem dX9_seekNear_82 : decode cX9_seekNear 82 = .ok (.ireturn, 1) := dk_172 (dk_at dksX9_seekNear_3 12 rfl rfl)
abbrev cX9_word : ByteArray := prog_33_method_67_code
def yX9_word : MethodName := ⟨RX9, "word", "(I)I"⟩
def dkwX9_word_5 : List UInt8 := [18, 112, 182, 0, 106, 172]
abbrev dktX9_word_5 : List UInt8 := dkwX9_word_5 ++ []
def dkwX9_word_4 : List UInt8 := [167, 0, 4, 3, 62, 132, 4, 1, 167, 255, 209, 29, 153, 0, 5, 28, 172, 132, 2, 1, 167, 255, 157, 42]
abbrev dktX9_word_4 : List UInt8 := dkwX9_word_4 ++ dktX9_word_5
def dkwX9_word_3 : List UInt8 := [27, 21, 4, 184, 0, 226, 153, 0, 17, 42, 21, 4, 42, 180, 0, 43, 3, 182, 0, 233, 156, 0, 7, 4]
abbrev dktX9_word_3 : List UInt8 := dkwX9_word_3 ++ dktX9_word_4
def dkwX9_word_2 : List UInt8 := [132, 4, 1, 167, 255, 233, 3, 54, 4, 21, 4, 42, 180, 0, 9, 3, 46, 162, 0, 42, 29, 153, 0, 38]
abbrev dktX9_word_2 : List UInt8 := dkwX9_word_2 ++ dktX9_word_3
def dkwX9_word_1 : List UInt8 := [62, 3, 54, 4, 21, 4, 16, 12, 162, 0, 22, 42, 180, 0, 43, 21, 4, 28, 21, 4, 184, 0, 125, 79]
abbrev dktX9_word_1 : List UInt8 := dkwX9_word_1 ++ dktX9_word_2
def dkwX9_word_0 : List UInt8 := [42, 27, 182, 0, 249, 154, 0, 10, 42, 18, 105, 182, 0, 106, 172, 3, 61, 28, 16, 12, 162, 0, 99, 4]
abbrev dktX9_word_0 : List UInt8 := dkwX9_word_0 ++ dktX9_word_1
theorem dksX9_word_0 : cX9_word.data.toList.drop 0 = dktX9_word_0 := by decide +kernel
theorem dksX9_word_1 : cX9_word.data.toList.drop 24 = dktX9_word_1 := dk_seg dksX9_word_0 24 rfl rfl
theorem dksX9_word_2 : cX9_word.data.toList.drop 48 = dktX9_word_2 := dk_seg dksX9_word_1 24 rfl rfl
theorem dksX9_word_3 : cX9_word.data.toList.drop 72 = dktX9_word_3 := dk_seg dksX9_word_2 24 rfl rfl
theorem dksX9_word_4 : cX9_word.data.toList.drop 96 = dktX9_word_4 := dk_seg dksX9_word_3 24 rfl rfl
theorem dksX9_word_5 : cX9_word.data.toList.drop 120 = dktX9_word_5 := dk_seg dksX9_word_4 24 rfl rfl
theorem dX9_word_0 : decode cX9_word 0 = .ok (.aload_n 0, 1) := dk_42 (dk_at dksX9_word_0 0 rfl rfl)
theorem dX9_word_1 : decode cX9_word 1 = .ok (.iload_n 1, 1) := dk_27 (dk_at dksX9_word_0 1 rfl rfl)
theorem dX9_word_2 : decode cX9_word 2 = .ok (.invokevirtual 249, 3) := dk_182 0 249 (dk_at dksX9_word_0 2 rfl rfl)
theorem dX9_word_5 : decode cX9_word 5 = .ok (.ifCond .ne 10, 3) := dk_154 0 10 (dk_at dksX9_word_0 5 rfl rfl)
theorem dX9_word_8 : decode cX9_word 8 = .ok (.aload_n 0, 1) := dk_42 (dk_at dksX9_word_0 8 rfl rfl)
theorem dX9_word_9 : decode cX9_word 9 = .ok (.ldc 105, 2) := dk_18 105 (dk_at dksX9_word_0 9 rfl rfl)
theorem dX9_word_11 : decode cX9_word 11 = .ok (.invokevirtual 106, 3) := dk_182 0 106 (dk_at dksX9_word_0 11 rfl rfl)
theorem dX9_word_14 : decode cX9_word 14 = .ok (.ireturn, 1) := dk_172 (dk_at dksX9_word_0 14 rfl rfl)
theorem dX9_word_15 : decode cX9_word 15 = .ok (.iconst 0, 1) := dk_3 (dk_at dksX9_word_0 15 rfl rfl)
theorem dX9_word_16 : decode cX9_word 16 = .ok (.istore_n 2, 1) := dk_61 (dk_at dksX9_word_0 16 rfl rfl)
theorem dX9_word_17 : decode cX9_word 17 = .ok (.iload_n 2, 1) := dk_28 (dk_at dksX9_word_0 17 rfl rfl)
theorem dX9_word_18 : decode cX9_word 18 = .ok (.bipush 12, 2) := dk_16 12 (dk_at dksX9_word_0 18 rfl rfl)
theorem dX9_word_20 : decode cX9_word 20 = .ok (.if_icmp .ge 99, 3) := dk_162 0 99 (dk_at dksX9_word_0 20 rfl rfl)
theorem dX9_word_23 : decode cX9_word 23 = .ok (.iconst 1, 1) := dk_4 (dk_at dksX9_word_0 23 rfl rfl)
theorem dX9_word_24 : decode cX9_word 24 = .ok (.istore_n 3, 1) := dk_62 (dk_at dksX9_word_1 0 rfl rfl)
theorem dX9_word_25 : decode cX9_word 25 = .ok (.iconst 0, 1) := dk_3 (dk_at dksX9_word_1 1 rfl rfl)
theorem dX9_word_26 : decode cX9_word 26 = .ok (.istore 4, 2) := dk_54 4 (dk_at dksX9_word_1 2 rfl rfl)
theorem dX9_word_28 : decode cX9_word 28 = .ok (.iload 4, 2) := dk_21 4 (dk_at dksX9_word_1 4 rfl rfl)
theorem dX9_word_30 : decode cX9_word 30 = .ok (.bipush 12, 2) := dk_16 12 (dk_at dksX9_word_1 6 rfl rfl)
theorem dX9_word_32 : decode cX9_word 32 = .ok (.if_icmp .ge 22, 3) := dk_162 0 22 (dk_at dksX9_word_1 8 rfl rfl)
theorem dX9_word_35 : decode cX9_word 35 = .ok (.aload_n 0, 1) := dk_42 (dk_at dksX9_word_1 11 rfl rfl)
theorem dX9_word_36 : decode cX9_word 36 = .ok (.getfield 43, 3) := dk_180 0 43 (dk_at dksX9_word_1 12 rfl rfl)
theorem dX9_word_39 : decode cX9_word 39 = .ok (.iload 4, 2) := dk_21 4 (dk_at dksX9_word_1 15 rfl rfl)
theorem dX9_word_41 : decode cX9_word 41 = .ok (.iload_n 2, 1) := dk_28 (dk_at dksX9_word_1 17 rfl rfl)
theorem dX9_word_42 : decode cX9_word 42 = .ok (.iload 4, 2) := dk_21 4 (dk_at dksX9_word_1 18 rfl rfl)
theorem dX9_word_44 : decode cX9_word 44 = .ok (.invokestatic 125, 3) := dk_184 0 125 (dk_at dksX9_word_1 20 rfl rfl)
theorem dX9_word_47 : decode cX9_word 47 = .ok (.iastore, 1) := dk_79 (dk_at dksX9_word_1 23 rfl rfl)
theorem dX9_word_48 : decode cX9_word 48 = .ok (.iinc 4 1, 3) := dk_132 4 1 (dk_at dksX9_word_2 0 rfl rfl)
theorem dX9_word_51 : decode cX9_word 51 = .ok (.goto (-23), 3) := dk_167 255 233 (dk_at dksX9_word_2 3 rfl rfl)
theorem dX9_word_54 : decode cX9_word 54 = .ok (.iconst 0, 1) := dk_3 (dk_at dksX9_word_2 6 rfl rfl)
theorem dX9_word_55 : decode cX9_word 55 = .ok (.istore 4, 2) := dk_54 4 (dk_at dksX9_word_2 7 rfl rfl)
theorem dX9_word_57 : decode cX9_word 57 = .ok (.iload 4, 2) := dk_21 4 (dk_at dksX9_word_2 9 rfl rfl)
theorem dX9_word_59 : decode cX9_word 59 = .ok (.aload_n 0, 1) := dk_42 (dk_at dksX9_word_2 11 rfl rfl)
theorem dX9_word_60 : decode cX9_word 60 = .ok (.getfield 9, 3) := dk_180 0 9 (dk_at dksX9_word_2 12 rfl rfl)
theorem dX9_word_63 : decode cX9_word 63 = .ok (.iconst 0, 1) := dk_3 (dk_at dksX9_word_2 15 rfl rfl)
theorem dX9_word_64 : decode cX9_word 64 = .ok (.iaload, 1) := dk_46 (dk_at dksX9_word_2 16 rfl rfl)
theorem dX9_word_65 : decode cX9_word 65 = .ok (.if_icmp .ge 42, 3) := dk_162 0 42 (dk_at dksX9_word_2 17 rfl rfl)
theorem dX9_word_68 : decode cX9_word 68 = .ok (.iload_n 3, 1) := dk_29 (dk_at dksX9_word_2 20 rfl rfl)
theorem dX9_word_69 : decode cX9_word 69 = .ok (.ifCond .eq 38, 3) := dk_153 0 38 (dk_at dksX9_word_2 21 rfl rfl)
theorem dX9_word_72 : decode cX9_word 72 = .ok (.iload_n 1, 1) := dk_27 (dk_at dksX9_word_3 0 rfl rfl)
theorem dX9_word_73 : decode cX9_word 73 = .ok (.iload 4, 2) := dk_21 4 (dk_at dksX9_word_3 1 rfl rfl)
theorem dX9_word_75 : decode cX9_word 75 = .ok (.invokestatic 226, 3) := dk_184 0 226 (dk_at dksX9_word_3 3 rfl rfl)
theorem dX9_word_78 : decode cX9_word 78 = .ok (.ifCond .eq 17, 3) := dk_153 0 17 (dk_at dksX9_word_3 6 rfl rfl)
theorem dX9_word_81 : decode cX9_word 81 = .ok (.aload_n 0, 1) := dk_42 (dk_at dksX9_word_3 9 rfl rfl)
theorem dX9_word_82 : decode cX9_word 82 = .ok (.iload 4, 2) := dk_21 4 (dk_at dksX9_word_3 10 rfl rfl)
theorem dX9_word_84 : decode cX9_word 84 = .ok (.aload_n 0, 1) := dk_42 (dk_at dksX9_word_3 12 rfl rfl)
theorem dX9_word_85 : decode cX9_word 85 = .ok (.getfield 43, 3) := dk_180 0 43 (dk_at dksX9_word_3 13 rfl rfl)
theorem dX9_word_88 : decode cX9_word 88 = .ok (.iconst 0, 1) := dk_3 (dk_at dksX9_word_3 16 rfl rfl)
theorem dX9_word_89 : decode cX9_word 89 = .ok (.invokevirtual 233, 3) := dk_182 0 233 (dk_at dksX9_word_3 17 rfl rfl)
theorem dX9_word_92 : decode cX9_word 92 = .ok (.ifCond .ge 7, 3) := dk_156 0 7 (dk_at dksX9_word_3 20 rfl rfl)
theorem dX9_word_95 : decode cX9_word 95 = .ok (.iconst 1, 1) := dk_4 (dk_at dksX9_word_3 23 rfl rfl)
theorem dX9_word_96 : decode cX9_word 96 = .ok (.goto 4, 3) := dk_167 0 4 (dk_at dksX9_word_4 0 rfl rfl)
theorem dX9_word_99 : decode cX9_word 99 = .ok (.iconst 0, 1) := dk_3 (dk_at dksX9_word_4 3 rfl rfl)
theorem dX9_word_100 : decode cX9_word 100 = .ok (.istore_n 3, 1) := dk_62 (dk_at dksX9_word_4 4 rfl rfl)
theorem dX9_word_101 : decode cX9_word 101 = .ok (.iinc 4 1, 3) := dk_132 4 1 (dk_at dksX9_word_4 5 rfl rfl)
theorem dX9_word_104 : decode cX9_word 104 = .ok (.goto (-47), 3) := dk_167 255 209 (dk_at dksX9_word_4 8 rfl rfl)
theorem dX9_word_107 : decode cX9_word 107 = .ok (.iload_n 3, 1) := dk_29 (dk_at dksX9_word_4 11 rfl rfl)
theorem dX9_word_108 : decode cX9_word 108 = .ok (.ifCond .eq 5, 3) := dk_153 0 5 (dk_at dksX9_word_4 12 rfl rfl)
theorem dX9_word_111 : decode cX9_word 111 = .ok (.iload_n 2, 1) := dk_28 (dk_at dksX9_word_4 15 rfl rfl)
theorem dX9_word_112 : decode cX9_word 112 = .ok (.ireturn, 1) := dk_172 (dk_at dksX9_word_4 16 rfl rfl)
theorem dX9_word_113 : decode cX9_word 113 = .ok (.iinc 2 1, 3) := dk_132 2 1 (dk_at dksX9_word_4 17 rfl rfl)
theorem dX9_word_116 : decode cX9_word 116 = .ok (.goto (-99), 3) := dk_167 255 157 (dk_at dksX9_word_4 20 rfl rfl)
theorem dX9_word_119 : decode cX9_word 119 = .ok (.aload_n 0, 1) := dk_42 (dk_at dksX9_word_4 23 rfl rfl)
theorem dX9_word_120 : decode cX9_word 120 = .ok (.ldc 112, 2) := dk_18 112 (dk_at dksX9_word_5 0 rfl rfl)
theorem dX9_word_122 : decode cX9_word 122 = .ok (.invokevirtual 106, 3) := dk_182 0 106 (dk_at dksX9_word_5 2 rfl rfl)
theorem dX9_word_125 : decode cX9_word 125 = .ok (.ireturn, 1) := dk_172 (dk_at dksX9_word_5 5 rfl rfl)
abbrev cX9_show : ByteArray := prog_33_method_73_code
def yX9_show : MethodName := ⟨RX9, "show", "(II)I"⟩
def dkwX9_show_3 : List UInt8 := [167, 0, 9, 42, 18, 112, 182, 0, 106, 172]
abbrev dktX9_show_3 : List UInt8 := dkwX9_show_3 ++ []
def dkwX9_show_2 : List UInt8 := [153, 0, 7, 4, 167, 0, 4, 3, 172, 28, 42, 180, 1, 9, 162, 0, 12, 42, 180, 0, 52, 28, 46]
abbrev dktX9_show_2 : List UInt8 := dkwX9_show_2 ++ dktX9_show_3
def dkwX9_show_1 : List UInt8 := [182, 1, 26, 28, 156, 0, 28, 28, 2, 160, 0, 10, 42, 180, 1, 9, 167, 0, 15, 42, 182, 1, 12]
abbrev dktX9_show_1 : List UInt8 := dkwX9_show_1 ++ dktX9_show_2
def dkwX9_show_0 : List UInt8 := [42, 27, 182, 0, 249, 153, 0, 9, 28, 16, 254, 162, 0, 10, 42, 18, 105, 182, 0, 106, 172, 42, 27]
abbrev dktX9_show_0 : List UInt8 := dkwX9_show_0 ++ dktX9_show_1
theorem dksX9_show_0 : cX9_show.data.toList.drop 0 = dktX9_show_0 := by decide +kernel
theorem dksX9_show_1 : cX9_show.data.toList.drop 23 = dktX9_show_1 := dk_seg dksX9_show_0 23 rfl rfl
theorem dksX9_show_2 : cX9_show.data.toList.drop 46 = dktX9_show_2 := dk_seg dksX9_show_1 23 rfl rfl
theorem dksX9_show_3 : cX9_show.data.toList.drop 69 = dktX9_show_3 := dk_seg dksX9_show_2 23 rfl rfl
theorem dX9_show_0 : decode cX9_show 0 = .ok (.aload_n 0, 1) := dk_42 (dk_at dksX9_show_0 0 rfl rfl)
theorem dX9_show_1 : decode cX9_show 1 = .ok (.iload_n 1, 1) := dk_27 (dk_at dksX9_show_0 1 rfl rfl)
theorem dX9_show_2 : decode cX9_show 2 = .ok (.invokevirtual 249, 3) := dk_182 0 249 (dk_at dksX9_show_0 2 rfl rfl)
theorem dX9_show_5 : decode cX9_show 5 = .ok (.ifCond .eq 9, 3) := dk_153 0 9 (dk_at dksX9_show_0 5 rfl rfl)
theorem dX9_show_8 : decode cX9_show 8 = .ok (.iload_n 2, 1) := dk_28 (dk_at dksX9_show_0 8 rfl rfl)
theorem dX9_show_9 : decode cX9_show 9 = .ok (.bipush (-2), 2) := dk_16 254 (dk_at dksX9_show_0 9 rfl rfl)
theorem dX9_show_11 : decode cX9_show 11 = .ok (.if_icmp .ge 10, 3) := dk_162 0 10 (dk_at dksX9_show_0 11 rfl rfl)
theorem dX9_show_14 : decode cX9_show 14 = .ok (.aload_n 0, 1) := dk_42 (dk_at dksX9_show_0 14 rfl rfl)
theorem dX9_show_15 : decode cX9_show 15 = .ok (.ldc 105, 2) := dk_18 105 (dk_at dksX9_show_0 15 rfl rfl)
theorem dX9_show_17 : decode cX9_show 17 = .ok (.invokevirtual 106, 3) := dk_182 0 106 (dk_at dksX9_show_0 17 rfl rfl)
theorem dX9_show_20 : decode cX9_show 20 = .ok (.ireturn, 1) := dk_172 (dk_at dksX9_show_0 20 rfl rfl)
theorem dX9_show_21 : decode cX9_show 21 = .ok (.aload_n 0, 1) := dk_42 (dk_at dksX9_show_0 21 rfl rfl)
theorem dX9_show_22 : decode cX9_show 22 = .ok (.iload_n 1, 1) := dk_27 (dk_at dksX9_show_0 22 rfl rfl)
theorem dX9_show_23 : decode cX9_show 23 = .ok (.invokevirtual 282, 3) := dk_182 1 26 (dk_at dksX9_show_1 0 rfl rfl)
theorem dX9_show_26 : decode cX9_show 26 = .ok (.iload_n 2, 1) := dk_28 (dk_at dksX9_show_1 3 rfl rfl)
theorem dX9_show_27 : decode cX9_show 27 = .ok (.ifCond .ge 28, 3) := dk_156 0 28 (dk_at dksX9_show_1 4 rfl rfl)
theorem dX9_show_30 : decode cX9_show 30 = .ok (.iload_n 2, 1) := dk_28 (dk_at dksX9_show_1 7 rfl rfl)
theorem dX9_show_31 : decode cX9_show 31 = .ok (.iconst (-1), 1) := dk_2 (dk_at dksX9_show_1 8 rfl rfl)
theorem dX9_show_32 : decode cX9_show 32 = .ok (.if_icmp .ne 10, 3) := dk_160 0 10 (dk_at dksX9_show_1 9 rfl rfl)
theorem dX9_show_35 : decode cX9_show 35 = .ok (.aload_n 0, 1) := dk_42 (dk_at dksX9_show_1 12 rfl rfl)
theorem dX9_show_36 : decode cX9_show 36 = .ok (.getfield 265, 3) := dk_180 1 9 (dk_at dksX9_show_1 13 rfl rfl)
theorem dX9_show_39 : decode cX9_show 39 = .ok (.goto 15, 3) := dk_167 0 15 (dk_at dksX9_show_1 16 rfl rfl)
theorem dX9_show_42 : decode cX9_show 42 = .ok (.aload_n 0, 1) := dk_42 (dk_at dksX9_show_1 19 rfl rfl)
theorem dX9_show_43 : decode cX9_show 43 = .ok (.invokevirtual 268, 3) := dk_182 1 12 (dk_at dksX9_show_1 20 rfl rfl)
theorem dX9_show_46 : decode cX9_show 46 = .ok (.ifCond .eq 7, 3) := dk_153 0 7 (dk_at dksX9_show_2 0 rfl rfl)
theorem dX9_show_49 : decode cX9_show 49 = .ok (.iconst 1, 1) := dk_4 (dk_at dksX9_show_2 3 rfl rfl)
theorem dX9_show_50 : decode cX9_show 50 = .ok (.goto 4, 3) := dk_167 0 4 (dk_at dksX9_show_2 4 rfl rfl)
theorem dX9_show_53 : decode cX9_show 53 = .ok (.iconst 0, 1) := dk_3 (dk_at dksX9_show_2 7 rfl rfl)
theorem dX9_show_54 : decode cX9_show 54 = .ok (.ireturn, 1) := dk_172 (dk_at dksX9_show_2 8 rfl rfl)
theorem dX9_show_55 : decode cX9_show 55 = .ok (.iload_n 2, 1) := dk_28 (dk_at dksX9_show_2 9 rfl rfl)
theorem dX9_show_56 : decode cX9_show 56 = .ok (.aload_n 0, 1) := dk_42 (dk_at dksX9_show_2 10 rfl rfl)
theorem dX9_show_57 : decode cX9_show 57 = .ok (.getfield 265, 3) := dk_180 1 9 (dk_at dksX9_show_2 11 rfl rfl)
theorem dX9_show_60 : decode cX9_show 60 = .ok (.if_icmp .ge 12, 3) := dk_162 0 12 (dk_at dksX9_show_2 14 rfl rfl)
theorem dX9_show_63 : decode cX9_show 63 = .ok (.aload_n 0, 1) := dk_42 (dk_at dksX9_show_2 17 rfl rfl)
theorem dX9_show_64 : decode cX9_show 64 = .ok (.getfield 52, 3) := dk_180 0 52 (dk_at dksX9_show_2 18 rfl rfl)
theorem dX9_show_67 : decode cX9_show 67 = .ok (.iload_n 2, 1) := dk_28 (dk_at dksX9_show_2 21 rfl rfl)
theorem dX9_show_68 : decode cX9_show 68 = .ok (.iaload, 1) := dk_46 (dk_at dksX9_show_2 22 rfl rfl)
theorem dX9_show_69 : decode cX9_show 69 = .ok (.goto 9, 3) := dk_167 0 9 (dk_at dksX9_show_3 0 rfl rfl)
theorem dX9_show_72 : decode cX9_show 72 = .ok (.aload_n 0, 1) := dk_42 (dk_at dksX9_show_3 3 rfl rfl)
theorem dX9_show_73 : decode cX9_show 73 = .ok (.ldc 112, 2) := dk_18 112 (dk_at dksX9_show_3 4 rfl rfl)
theorem dX9_show_75 : decode cX9_show 75 = .ok (.invokevirtual 106, 3) := dk_182 0 106 (dk_at dksX9_show_3 6 rfl rfl)
theorem dX9_show_78 : decode cX9_show 78 = .ok (.ireturn, 1) := dk_172 (dk_at dksX9_show_3 9 rfl rfl)
abbrev cX9_showing : ByteArray := prog_33_method_72_code
def yX9_showing : MethodName := ⟨RX9, "showing", "(I)V"⟩
def dkwX9_showing_4 : List UInt8 := [167, 255, 192, 167, 255, 167, 177]
abbrev dktX9_showing_4 : List UInt8 := dkwX9_showing_4 ++ []
def dkwX9_showing_3 : List UInt8 := [182, 0, 220, 153, 0, 11, 42, 29, 21, 4, 4, 182, 1, 22, 132, 4, 1, 167, 255, 211, 132, 3, 1]
abbrev dktX9_showing_3 : List UInt8 := dkwX9_showing_3 ++ dktX9_showing_4
def dkwX9_showing_2 : List UInt8 := [153, 0, 43, 21, 4, 42, 29, 182, 0, 210, 162, 0, 33, 42, 29, 21, 4, 3, 182, 1, 22, 42, 29]
abbrev dktX9_showing_2 : List UInt8 := dkwX9_showing_2 ++ dktX9_showing_3
def dkwX9_showing_1 : List UInt8 := [180, 1, 9, 61, 3, 62, 29, 42, 180, 0, 9, 3, 46, 162, 0, 60, 3, 54, 4, 27, 29, 184, 0, 226]
abbrev dktX9_showing_1 : List UInt8 := dkwX9_showing_1 ++ dktX9_showing_2
def dkwX9_showing_0 : List UInt8 := [42, 182, 1, 19, 2, 61, 28, 42, 180, 1, 9, 159, 0, 87, 42, 182, 1, 12, 154, 0, 80, 42]
abbrev dktX9_showing_0 : List UInt8 := dkwX9_showing_0 ++ dktX9_showing_1
theorem dksX9_showing_0 : cX9_showing.data.toList.drop 0 = dktX9_showing_0 := by decide +kernel
theorem dksX9_showing_1 : cX9_showing.data.toList.drop 22 = dktX9_showing_1 := dk_seg dksX9_showing_0 22 rfl rfl
theorem dksX9_showing_2 : cX9_showing.data.toList.drop 46 = dktX9_showing_2 := dk_seg dksX9_showing_1 24 rfl rfl
theorem dksX9_showing_3 : cX9_showing.data.toList.drop 69 = dktX9_showing_3 := dk_seg dksX9_showing_2 23 rfl rfl
theorem dksX9_showing_4 : cX9_showing.data.toList.drop 92 = dktX9_showing_4 := dk_seg dksX9_showing_3 23 rfl rfl
theorem dX9_showing_0 : decode cX9_showing 0 = .ok (.aload_n 0, 1) := dk_42 (dk_at dksX9_showing_0 0 rfl rfl)
theorem dX9_showing_1 : decode cX9_showing 1 = .ok (.invokevirtual 275, 3) := dk_182 1 19 (dk_at dksX9_showing_0 1 rfl rfl)
theorem dX9_showing_4 : decode cX9_showing 4 = .ok (.iconst (-1), 1) := dk_2 (dk_at dksX9_showing_0 4 rfl rfl)
theorem dX9_showing_5 : decode cX9_showing 5 = .ok (.istore_n 2, 1) := dk_61 (dk_at dksX9_showing_0 5 rfl rfl)
theorem dX9_showing_6 : decode cX9_showing 6 = .ok (.iload_n 2, 1) := dk_28 (dk_at dksX9_showing_0 6 rfl rfl)
theorem dX9_showing_7 : decode cX9_showing 7 = .ok (.aload_n 0, 1) := dk_42 (dk_at dksX9_showing_0 7 rfl rfl)
theorem dX9_showing_8 : decode cX9_showing 8 = .ok (.getfield 265, 3) := dk_180 1 9 (dk_at dksX9_showing_0 8 rfl rfl)
theorem dX9_showing_11 : decode cX9_showing 11 = .ok (.if_icmp .eq 87, 3) := dk_159 0 87 (dk_at dksX9_showing_0 11 rfl rfl)
theorem dX9_showing_14 : decode cX9_showing 14 = .ok (.aload_n 0, 1) := dk_42 (dk_at dksX9_showing_0 14 rfl rfl)
theorem dX9_showing_15 : decode cX9_showing 15 = .ok (.invokevirtual 268, 3) := dk_182 1 12 (dk_at dksX9_showing_0 15 rfl rfl)
theorem dX9_showing_18 : decode cX9_showing 18 = .ok (.ifCond .ne 80, 3) := dk_154 0 80 (dk_at dksX9_showing_0 18 rfl rfl)
theorem dX9_showing_21 : decode cX9_showing 21 = .ok (.aload_n 0, 1) := dk_42 (dk_at dksX9_showing_0 21 rfl rfl)
theorem dX9_showing_22 : decode cX9_showing 22 = .ok (.getfield 265, 3) := dk_180 1 9 (dk_at dksX9_showing_1 0 rfl rfl)
theorem dX9_showing_25 : decode cX9_showing 25 = .ok (.istore_n 2, 1) := dk_61 (dk_at dksX9_showing_1 3 rfl rfl)
theorem dX9_showing_26 : decode cX9_showing 26 = .ok (.iconst 0, 1) := dk_3 (dk_at dksX9_showing_1 4 rfl rfl)
theorem dX9_showing_27 : decode cX9_showing 27 = .ok (.istore_n 3, 1) := dk_62 (dk_at dksX9_showing_1 5 rfl rfl)
theorem dX9_showing_28 : decode cX9_showing 28 = .ok (.iload_n 3, 1) := dk_29 (dk_at dksX9_showing_1 6 rfl rfl)
theorem dX9_showing_29 : decode cX9_showing 29 = .ok (.aload_n 0, 1) := dk_42 (dk_at dksX9_showing_1 7 rfl rfl)
theorem dX9_showing_30 : decode cX9_showing 30 = .ok (.getfield 9, 3) := dk_180 0 9 (dk_at dksX9_showing_1 8 rfl rfl)
theorem dX9_showing_33 : decode cX9_showing 33 = .ok (.iconst 0, 1) := dk_3 (dk_at dksX9_showing_1 11 rfl rfl)
theorem dX9_showing_34 : decode cX9_showing 34 = .ok (.iaload, 1) := dk_46 (dk_at dksX9_showing_1 12 rfl rfl)
theorem dX9_showing_35 : decode cX9_showing 35 = .ok (.if_icmp .ge 60, 3) := dk_162 0 60 (dk_at dksX9_showing_1 13 rfl rfl)
theorem dX9_showing_38 : decode cX9_showing 38 = .ok (.iconst 0, 1) := dk_3 (dk_at dksX9_showing_1 16 rfl rfl)
theorem dX9_showing_39 : decode cX9_showing 39 = .ok (.istore 4, 2) := dk_54 4 (dk_at dksX9_showing_1 17 rfl rfl)
theorem dX9_showing_41 : decode cX9_showing 41 = .ok (.iload_n 1, 1) := dk_27 (dk_at dksX9_showing_1 19 rfl rfl)
theorem dX9_showing_42 : decode cX9_showing 42 = .ok (.iload_n 3, 1) := dk_29 (dk_at dksX9_showing_1 20 rfl rfl)
theorem dX9_showing_43 : decode cX9_showing 43 = .ok (.invokestatic 226, 3) := dk_184 0 226 (dk_at dksX9_showing_1 21 rfl rfl)
theorem dX9_showing_46 : decode cX9_showing 46 = .ok (.ifCond .eq 43, 3) := dk_153 0 43 (dk_at dksX9_showing_2 0 rfl rfl)
theorem dX9_showing_49 : decode cX9_showing 49 = .ok (.iload 4, 2) := dk_21 4 (dk_at dksX9_showing_2 3 rfl rfl)
theorem dX9_showing_51 : decode cX9_showing 51 = .ok (.aload_n 0, 1) := dk_42 (dk_at dksX9_showing_2 5 rfl rfl)
theorem dX9_showing_52 : decode cX9_showing 52 = .ok (.iload_n 3, 1) := dk_29 (dk_at dksX9_showing_2 6 rfl rfl)
theorem dX9_showing_53 : decode cX9_showing 53 = .ok (.invokevirtual 210, 3) := dk_182 0 210 (dk_at dksX9_showing_2 7 rfl rfl)
theorem dX9_showing_56 : decode cX9_showing 56 = .ok (.if_icmp .ge 33, 3) := dk_162 0 33 (dk_at dksX9_showing_2 10 rfl rfl)
theorem dX9_showing_59 : decode cX9_showing 59 = .ok (.aload_n 0, 1) := dk_42 (dk_at dksX9_showing_2 13 rfl rfl)
theorem dX9_showing_60 : decode cX9_showing 60 = .ok (.iload_n 3, 1) := dk_29 (dk_at dksX9_showing_2 14 rfl rfl)
theorem dX9_showing_61 : decode cX9_showing 61 = .ok (.iload 4, 2) := dk_21 4 (dk_at dksX9_showing_2 15 rfl rfl)
theorem dX9_showing_63 : decode cX9_showing 63 = .ok (.iconst 0, 1) := dk_3 (dk_at dksX9_showing_2 17 rfl rfl)
theorem dX9_showing_64 : decode cX9_showing 64 = .ok (.invokevirtual 278, 3) := dk_182 1 22 (dk_at dksX9_showing_2 18 rfl rfl)
theorem dX9_showing_67 : decode cX9_showing 67 = .ok (.aload_n 0, 1) := dk_42 (dk_at dksX9_showing_2 21 rfl rfl)
theorem dX9_showing_68 : decode cX9_showing 68 = .ok (.iload_n 3, 1) := dk_29 (dk_at dksX9_showing_2 22 rfl rfl)
theorem dX9_showing_69 : decode cX9_showing 69 = .ok (.invokevirtual 220, 3) := dk_182 0 220 (dk_at dksX9_showing_3 0 rfl rfl)
theorem dX9_showing_72 : decode cX9_showing 72 = .ok (.ifCond .eq 11, 3) := dk_153 0 11 (dk_at dksX9_showing_3 3 rfl rfl)
theorem dX9_showing_75 : decode cX9_showing 75 = .ok (.aload_n 0, 1) := dk_42 (dk_at dksX9_showing_3 6 rfl rfl)
theorem dX9_showing_76 : decode cX9_showing 76 = .ok (.iload_n 3, 1) := dk_29 (dk_at dksX9_showing_3 7 rfl rfl)
theorem dX9_showing_77 : decode cX9_showing 77 = .ok (.iload 4, 2) := dk_21 4 (dk_at dksX9_showing_3 8 rfl rfl)
theorem dX9_showing_79 : decode cX9_showing 79 = .ok (.iconst 1, 1) := dk_4 (dk_at dksX9_showing_3 10 rfl rfl)
theorem dX9_showing_80 : decode cX9_showing 80 = .ok (.invokevirtual 278, 3) := dk_182 1 22 (dk_at dksX9_showing_3 11 rfl rfl)
theorem dX9_showing_83 : decode cX9_showing 83 = .ok (.iinc 4 1, 3) := dk_132 4 1 (dk_at dksX9_showing_3 14 rfl rfl)
theorem dX9_showing_86 : decode cX9_showing 86 = .ok (.goto (-45), 3) := dk_167 255 211 (dk_at dksX9_showing_3 17 rfl rfl)
theorem dX9_showing_89 : decode cX9_showing 89 = .ok (.iinc 3 1, 3) := dk_132 3 1 (dk_at dksX9_showing_3 20 rfl rfl)
theorem dX9_showing_92 : decode cX9_showing 92 = .ok (.goto (-64), 3) := dk_167 255 192 (dk_at dksX9_showing_4 0 rfl rfl)
theorem dX9_showing_95 : decode cX9_showing 95 = .ok (.goto (-89), 3) := dk_167 255 167 (dk_at dksX9_showing_4 3 rfl rfl)
theorem dX9_showing_98 : decode cX9_showing 98 = .ok (.return_, 1) := dk_177 (dk_at dksX9_showing_4 6 rfl rfl)
abbrev cX9_begin : ByteArray := prog_33_method_70_code
def yX9_begin : MethodName := ⟨RX9, "begin", "()V"⟩
def dkwX9_begin_1 : List UInt8 := [181, 1, 9, 177]
abbrev dktX9_begin_1 : List UInt8 := dkwX9_begin_1 ++ []
def dkwX9_begin_0 : List UInt8 := [3, 60, 27, 16, 12, 162, 0, 17, 42, 180, 0, 49, 27, 16, 14, 79, 132, 1, 1, 167, 255, 239, 42, 3]
abbrev dktX9_begin_0 : List UInt8 := dkwX9_begin_0 ++ dktX9_begin_1
theorem dksX9_begin_0 : cX9_begin.data.toList.drop 0 = dktX9_begin_0 := by decide +kernel
theorem dksX9_begin_1 : cX9_begin.data.toList.drop 24 = dktX9_begin_1 := dk_seg dksX9_begin_0 24 rfl rfl
theorem dX9_begin_0 : decode cX9_begin 0 = .ok (.iconst 0, 1) := dk_3 (dk_at dksX9_begin_0 0 rfl rfl)
theorem dX9_begin_1 : decode cX9_begin 1 = .ok (.istore_n 1, 1) := dk_60 (dk_at dksX9_begin_0 1 rfl rfl)
theorem dX9_begin_2 : decode cX9_begin 2 = .ok (.iload_n 1, 1) := dk_27 (dk_at dksX9_begin_0 2 rfl rfl)
theorem dX9_begin_3 : decode cX9_begin 3 = .ok (.bipush 12, 2) := dk_16 12 (dk_at dksX9_begin_0 3 rfl rfl)
theorem dX9_begin_5 : decode cX9_begin 5 = .ok (.if_icmp .ge 17, 3) := dk_162 0 17 (dk_at dksX9_begin_0 5 rfl rfl)
theorem dX9_begin_8 : decode cX9_begin 8 = .ok (.aload_n 0, 1) := dk_42 (dk_at dksX9_begin_0 8 rfl rfl)
theorem dX9_begin_9 : decode cX9_begin 9 = .ok (.getfield 49, 3) := dk_180 0 49 (dk_at dksX9_begin_0 9 rfl rfl)
theorem dX9_begin_12 : decode cX9_begin 12 = .ok (.iload_n 1, 1) := dk_27 (dk_at dksX9_begin_0 12 rfl rfl)
theorem dX9_begin_13 : decode cX9_begin 13 = .ok (.bipush 14, 2) := dk_16 14 (dk_at dksX9_begin_0 13 rfl rfl)
theorem dX9_begin_15 : decode cX9_begin 15 = .ok (.iastore, 1) := dk_79 (dk_at dksX9_begin_0 15 rfl rfl)
theorem dX9_begin_16 : decode cX9_begin 16 = .ok (.iinc 1 1, 3) := dk_132 1 1 (dk_at dksX9_begin_0 16 rfl rfl)
theorem dX9_begin_19 : decode cX9_begin 19 = .ok (.goto (-17), 3) := dk_167 255 239 (dk_at dksX9_begin_0 19 rfl rfl)
theorem dX9_begin_22 : decode cX9_begin 22 = .ok (.aload_n 0, 1) := dk_42 (dk_at dksX9_begin_0 22 rfl rfl)
theorem dX9_begin_23 : decode cX9_begin 23 = .ok (.iconst 0, 1) := dk_3 (dk_at dksX9_begin_0 23 rfl rfl)
theorem dX9_begin_24 : decode cX9_begin 24 = .ok (.putfield 265, 3) := dk_181 1 9 (dk_at dksX9_begin_1 0 rfl rfl)
theorem dX9_begin_27 : decode cX9_begin 27 = .ok (.return_, 1) := dk_177 (dk_at dksX9_begin_1 3 rfl rfl)
abbrev cX9_isEmpty : ByteArray := prog_33_method_69_code
def yX9_isEmpty : MethodName := ⟨RX9, "isEmpty", "()Z"⟩
def dkwX9_isEmpty_1 : List UInt8 := [167, 0, 4, 3, 60, 132, 2, 1, 167, 255, 228, 27, 172]
abbrev dktX9_isEmpty_1 : List UInt8 := dkwX9_isEmpty_1 ++ []
def dkwX9_isEmpty_0 : List UInt8 := [3, 60, 3, 61, 28, 16, 12, 162, 0, 28, 27, 154, 0, 12, 42, 180, 0, 49, 28, 46, 154, 0, 7, 4]
abbrev dktX9_isEmpty_0 : List UInt8 := dkwX9_isEmpty_0 ++ dktX9_isEmpty_1
theorem dksX9_isEmpty_0 : cX9_isEmpty.data.toList.drop 0 = dktX9_isEmpty_0 := by decide +kernel
theorem dksX9_isEmpty_1 : cX9_isEmpty.data.toList.drop 24 = dktX9_isEmpty_1 := dk_seg dksX9_isEmpty_0 24 rfl rfl
theorem dX9_isEmpty_0 : decode cX9_isEmpty 0 = .ok (.iconst 0, 1) := dk_3 (dk_at dksX9_isEmpty_0 0 rfl rfl)
theorem dX9_isEmpty_1 : decode cX9_isEmpty 1 = .ok (.istore_n 1, 1) := dk_60 (dk_at dksX9_isEmpty_0 1 rfl rfl)
theorem dX9_isEmpty_2 : decode cX9_isEmpty 2 = .ok (.iconst 0, 1) := dk_3 (dk_at dksX9_isEmpty_0 2 rfl rfl)
theorem dX9_isEmpty_3 : decode cX9_isEmpty 3 = .ok (.istore_n 2, 1) := dk_61 (dk_at dksX9_isEmpty_0 3 rfl rfl)
theorem dX9_isEmpty_4 : decode cX9_isEmpty 4 = .ok (.iload_n 2, 1) := dk_28 (dk_at dksX9_isEmpty_0 4 rfl rfl)
theorem dX9_isEmpty_5 : decode cX9_isEmpty 5 = .ok (.bipush 12, 2) := dk_16 12 (dk_at dksX9_isEmpty_0 5 rfl rfl)
theorem dX9_isEmpty_7 : decode cX9_isEmpty 7 = .ok (.if_icmp .ge 28, 3) := dk_162 0 28 (dk_at dksX9_isEmpty_0 7 rfl rfl)
theorem dX9_isEmpty_10 : decode cX9_isEmpty 10 = .ok (.iload_n 1, 1) := dk_27 (dk_at dksX9_isEmpty_0 10 rfl rfl)
theorem dX9_isEmpty_11 : decode cX9_isEmpty 11 = .ok (.ifCond .ne 12, 3) := dk_154 0 12 (dk_at dksX9_isEmpty_0 11 rfl rfl)
theorem dX9_isEmpty_14 : decode cX9_isEmpty 14 = .ok (.aload_n 0, 1) := dk_42 (dk_at dksX9_isEmpty_0 14 rfl rfl)
theorem dX9_isEmpty_15 : decode cX9_isEmpty 15 = .ok (.getfield 49, 3) := dk_180 0 49 (dk_at dksX9_isEmpty_0 15 rfl rfl)
theorem dX9_isEmpty_18 : decode cX9_isEmpty 18 = .ok (.iload_n 2, 1) := dk_28 (dk_at dksX9_isEmpty_0 18 rfl rfl)
theorem dX9_isEmpty_19 : decode cX9_isEmpty 19 = .ok (.iaload, 1) := dk_46 (dk_at dksX9_isEmpty_0 19 rfl rfl)
theorem dX9_isEmpty_20 : decode cX9_isEmpty 20 = .ok (.ifCond .ne 7, 3) := dk_154 0 7 (dk_at dksX9_isEmpty_0 20 rfl rfl)
theorem dX9_isEmpty_23 : decode cX9_isEmpty 23 = .ok (.iconst 1, 1) := dk_4 (dk_at dksX9_isEmpty_0 23 rfl rfl)
theorem dX9_isEmpty_24 : decode cX9_isEmpty 24 = .ok (.goto 4, 3) := dk_167 0 4 (dk_at dksX9_isEmpty_1 0 rfl rfl)
theorem dX9_isEmpty_27 : decode cX9_isEmpty 27 = .ok (.iconst 0, 1) := dk_3 (dk_at dksX9_isEmpty_1 3 rfl rfl)
theorem dX9_isEmpty_28 : decode cX9_isEmpty 28 = .ok (.istore_n 1, 1) := dk_60 (dk_at dksX9_isEmpty_1 4 rfl rfl)
theorem dX9_isEmpty_29 : decode cX9_isEmpty 29 = .ok (.iinc 2 1, 3) := dk_132 2 1 (dk_at dksX9_isEmpty_1 5 rfl rfl)
theorem dX9_isEmpty_32 : decode cX9_isEmpty 32 = .ok (.goto (-28), 3) := dk_167 255 228 (dk_at dksX9_isEmpty_1 8 rfl rfl)
theorem dX9_isEmpty_35 : decode cX9_isEmpty 35 = .ok (.iload_n 1, 1) := dk_27 (dk_at dksX9_isEmpty_1 11 rfl rfl)
theorem dX9_isEmpty_36 : decode cX9_isEmpty 36 = .ok (.ireturn, 1) := dk_172 (dk_at dksX9_isEmpty_1 12 rfl rfl)
abbrev cX9_strike : ByteArray := prog_33_method_71_code
def yX9_strike : MethodName := ⟨RX9, "strike", "(IIZ)V"⟩
def dkwX9_strike_5 : List UInt8 := [177]
abbrev dktX9_strike_5 : List UInt8 := dkwX9_strike_5 ++ []
def dkwX9_strike_4 : List UInt8 := [21, 4, 104, 96, 21, 5, 96, 79, 42, 89, 180, 1, 9, 4, 96, 181, 1, 9, 132, 5, 1, 167, 255, 166]
abbrev dktX9_strike_4 : List UInt8 := dkwX9_strike_4 ++ dktX9_strike_5
def dkwX9_strike_3 : List UInt8 := [92, 46, 4, 21, 5, 120, 2, 130, 126, 79, 42, 180, 0, 52, 42, 180, 1, 9, 16, 48, 27, 104, 7]
abbrev dktX9_strike_3 : List UInt8 := dkwX9_strike_3 ++ dktX9_strike_4
def dkwX9_strike_2 : List UInt8 := [184, 0, 226, 153, 0, 62, 42, 27, 28, 29, 21, 5, 182, 1, 15, 154, 0, 50, 42, 180, 0, 49, 21, 4]
abbrev dktX9_strike_2 : List UInt8 := dkwX9_strike_2 ++ dktX9_strike_3
def dkwX9_strike_1 : List UInt8 := [21, 5, 6, 163, 0, 90, 42, 182, 1, 12, 154, 0, 83, 42, 180, 0, 49, 21, 4, 46, 21, 5]
abbrev dktX9_strike_1 : List UInt8 := dkwX9_strike_1 ++ dktX9_strike_2
def dkwX9_strike_0 : List UInt8 := [29, 153, 0, 12, 42, 27, 28, 182, 0, 223, 167, 0, 9, 42, 27, 28, 182, 0, 217, 54, 4, 4, 54, 5]
abbrev dktX9_strike_0 : List UInt8 := dkwX9_strike_0 ++ dktX9_strike_1
theorem dksX9_strike_0 : cX9_strike.data.toList.drop 0 = dktX9_strike_0 := by decide +kernel
theorem dksX9_strike_1 : cX9_strike.data.toList.drop 24 = dktX9_strike_1 := dk_seg dksX9_strike_0 24 rfl rfl
theorem dksX9_strike_2 : cX9_strike.data.toList.drop 46 = dktX9_strike_2 := dk_seg dksX9_strike_1 22 rfl rfl
theorem dksX9_strike_3 : cX9_strike.data.toList.drop 70 = dktX9_strike_3 := dk_seg dksX9_strike_2 24 rfl rfl
theorem dksX9_strike_4 : cX9_strike.data.toList.drop 93 = dktX9_strike_4 := dk_seg dksX9_strike_3 23 rfl rfl
theorem dksX9_strike_5 : cX9_strike.data.toList.drop 117 = dktX9_strike_5 := dk_seg dksX9_strike_4 24 rfl rfl
theorem dX9_strike_0 : decode cX9_strike 0 = .ok (.iload_n 3, 1) := dk_29 (dk_at dksX9_strike_0 0 rfl rfl)
theorem dX9_strike_1 : decode cX9_strike 1 = .ok (.ifCond .eq 12, 3) := dk_153 0 12 (dk_at dksX9_strike_0 1 rfl rfl)
theorem dX9_strike_4 : decode cX9_strike 4 = .ok (.aload_n 0, 1) := dk_42 (dk_at dksX9_strike_0 4 rfl rfl)
theorem dX9_strike_5 : decode cX9_strike 5 = .ok (.iload_n 1, 1) := dk_27 (dk_at dksX9_strike_0 5 rfl rfl)
theorem dX9_strike_6 : decode cX9_strike 6 = .ok (.iload_n 2, 1) := dk_28 (dk_at dksX9_strike_0 6 rfl rfl)
theorem dX9_strike_7 : decode cX9_strike 7 = .ok (.invokevirtual 223, 3) := dk_182 0 223 (dk_at dksX9_strike_0 7 rfl rfl)
theorem dX9_strike_10 : decode cX9_strike 10 = .ok (.goto 9, 3) := dk_167 0 9 (dk_at dksX9_strike_0 10 rfl rfl)
theorem dX9_strike_13 : decode cX9_strike 13 = .ok (.aload_n 0, 1) := dk_42 (dk_at dksX9_strike_0 13 rfl rfl)
theorem dX9_strike_14 : decode cX9_strike 14 = .ok (.iload_n 1, 1) := dk_27 (dk_at dksX9_strike_0 14 rfl rfl)
theorem dX9_strike_15 : decode cX9_strike 15 = .ok (.iload_n 2, 1) := dk_28 (dk_at dksX9_strike_0 15 rfl rfl)
theorem dX9_strike_16 : decode cX9_strike 16 = .ok (.invokevirtual 217, 3) := dk_182 0 217 (dk_at dksX9_strike_0 16 rfl rfl)
theorem dX9_strike_19 : decode cX9_strike 19 = .ok (.istore 4, 2) := dk_54 4 (dk_at dksX9_strike_0 19 rfl rfl)
theorem dX9_strike_21 : decode cX9_strike 21 = .ok (.iconst 1, 1) := dk_4 (dk_at dksX9_strike_0 21 rfl rfl)
theorem dX9_strike_22 : decode cX9_strike 22 = .ok (.istore 5, 2) := dk_54 5 (dk_at dksX9_strike_0 22 rfl rfl)
theorem dX9_strike_24 : decode cX9_strike 24 = .ok (.iload 5, 2) := dk_21 5 (dk_at dksX9_strike_1 0 rfl rfl)
theorem dX9_strike_26 : decode cX9_strike 26 = .ok (.iconst 3, 1) := dk_6 (dk_at dksX9_strike_1 2 rfl rfl)
theorem dX9_strike_27 : decode cX9_strike 27 = .ok (.if_icmp .gt 90, 3) := dk_163 0 90 (dk_at dksX9_strike_1 3 rfl rfl)
theorem dX9_strike_30 : decode cX9_strike 30 = .ok (.aload_n 0, 1) := dk_42 (dk_at dksX9_strike_1 6 rfl rfl)
theorem dX9_strike_31 : decode cX9_strike 31 = .ok (.invokevirtual 268, 3) := dk_182 1 12 (dk_at dksX9_strike_1 7 rfl rfl)
theorem dX9_strike_34 : decode cX9_strike 34 = .ok (.ifCond .ne 83, 3) := dk_154 0 83 (dk_at dksX9_strike_1 10 rfl rfl)
theorem dX9_strike_37 : decode cX9_strike 37 = .ok (.aload_n 0, 1) := dk_42 (dk_at dksX9_strike_1 13 rfl rfl)
theorem dX9_strike_38 : decode cX9_strike 38 = .ok (.getfield 49, 3) := dk_180 0 49 (dk_at dksX9_strike_1 14 rfl rfl)
theorem dX9_strike_41 : decode cX9_strike 41 = .ok (.iload 4, 2) := dk_21 4 (dk_at dksX9_strike_1 17 rfl rfl)
theorem dX9_strike_43 : decode cX9_strike 43 = .ok (.iaload, 1) := dk_46 (dk_at dksX9_strike_1 19 rfl rfl)
theorem dX9_strike_44 : decode cX9_strike 44 = .ok (.iload 5, 2) := dk_21 5 (dk_at dksX9_strike_1 20 rfl rfl)
theorem dX9_strike_46 : decode cX9_strike 46 = .ok (.invokestatic 226, 3) := dk_184 0 226 (dk_at dksX9_strike_2 0 rfl rfl)
theorem dX9_strike_49 : decode cX9_strike 49 = .ok (.ifCond .eq 62, 3) := dk_153 0 62 (dk_at dksX9_strike_2 3 rfl rfl)
theorem dX9_strike_52 : decode cX9_strike 52 = .ok (.aload_n 0, 1) := dk_42 (dk_at dksX9_strike_2 6 rfl rfl)
theorem dX9_strike_53 : decode cX9_strike 53 = .ok (.iload_n 1, 1) := dk_27 (dk_at dksX9_strike_2 7 rfl rfl)
theorem dX9_strike_54 : decode cX9_strike 54 = .ok (.iload_n 2, 1) := dk_28 (dk_at dksX9_strike_2 8 rfl rfl)
theorem dX9_strike_55 : decode cX9_strike 55 = .ok (.iload_n 3, 1) := dk_29 (dk_at dksX9_strike_2 9 rfl rfl)
theorem dX9_strike_56 : decode cX9_strike 56 = .ok (.iload 5, 2) := dk_21 5 (dk_at dksX9_strike_2 10 rfl rfl)
theorem dX9_strike_58 : decode cX9_strike 58 = .ok (.invokevirtual 271, 3) := dk_182 1 15 (dk_at dksX9_strike_2 12 rfl rfl)
theorem dX9_strike_61 : decode cX9_strike 61 = .ok (.ifCond .ne 50, 3) := dk_154 0 50 (dk_at dksX9_strike_2 15 rfl rfl)
theorem dX9_strike_64 : decode cX9_strike 64 = .ok (.aload_n 0, 1) := dk_42 (dk_at dksX9_strike_2 18 rfl rfl)
theorem dX9_strike_65 : decode cX9_strike 65 = .ok (.getfield 49, 3) := dk_180 0 49 (dk_at dksX9_strike_2 19 rfl rfl)
theorem dX9_strike_68 : decode cX9_strike 68 = .ok (.iload 4, 2) := dk_21 4 (dk_at dksX9_strike_2 22 rfl rfl)
theorem dX9_strike_70 : decode cX9_strike 70 = .ok (.dup2, 1) := dk_92 (dk_at dksX9_strike_3 0 rfl rfl)
theorem dX9_strike_71 : decode cX9_strike 71 = .ok (.iaload, 1) := dk_46 (dk_at dksX9_strike_3 1 rfl rfl)
theorem dX9_strike_72 : decode cX9_strike 72 = .ok (.iconst 1, 1) := dk_4 (dk_at dksX9_strike_3 2 rfl rfl)
theorem dX9_strike_73 : decode cX9_strike 73 = .ok (.iload 5, 2) := dk_21 5 (dk_at dksX9_strike_3 3 rfl rfl)
theorem dX9_strike_75 : decode cX9_strike 75 = .ok (.ishl, 1) := dk_120 (dk_at dksX9_strike_3 5 rfl rfl)
theorem dX9_strike_76 : decode cX9_strike 76 = .ok (.iconst (-1), 1) := dk_2 (dk_at dksX9_strike_3 6 rfl rfl)
theorem dX9_strike_77 : decode cX9_strike 77 = .ok (.ixor, 1) := dk_130 (dk_at dksX9_strike_3 7 rfl rfl)
theorem dX9_strike_78 : decode cX9_strike 78 = .ok (.iand, 1) := dk_126 (dk_at dksX9_strike_3 8 rfl rfl)
theorem dX9_strike_79 : decode cX9_strike 79 = .ok (.iastore, 1) := dk_79 (dk_at dksX9_strike_3 9 rfl rfl)
theorem dX9_strike_80 : decode cX9_strike 80 = .ok (.aload_n 0, 1) := dk_42 (dk_at dksX9_strike_3 10 rfl rfl)
theorem dX9_strike_81 : decode cX9_strike 81 = .ok (.getfield 52, 3) := dk_180 0 52 (dk_at dksX9_strike_3 11 rfl rfl)
theorem dX9_strike_84 : decode cX9_strike 84 = .ok (.aload_n 0, 1) := dk_42 (dk_at dksX9_strike_3 14 rfl rfl)
theorem dX9_strike_85 : decode cX9_strike 85 = .ok (.getfield 265, 3) := dk_180 1 9 (dk_at dksX9_strike_3 15 rfl rfl)
theorem dX9_strike_88 : decode cX9_strike 88 = .ok (.bipush 48, 2) := dk_16 48 (dk_at dksX9_strike_3 18 rfl rfl)
theorem dX9_strike_90 : decode cX9_strike 90 = .ok (.iload_n 1, 1) := dk_27 (dk_at dksX9_strike_3 20 rfl rfl)
theorem dX9_strike_91 : decode cX9_strike 91 = .ok (.imul, 1) := dk_104 (dk_at dksX9_strike_3 21 rfl rfl)
theorem dX9_strike_92 : decode cX9_strike 92 = .ok (.iconst 4, 1) := dk_7 (dk_at dksX9_strike_3 22 rfl rfl)
theorem dX9_strike_93 : decode cX9_strike 93 = .ok (.iload 4, 2) := dk_21 4 (dk_at dksX9_strike_4 0 rfl rfl)
theorem dX9_strike_95 : decode cX9_strike 95 = .ok (.imul, 1) := dk_104 (dk_at dksX9_strike_4 2 rfl rfl)
theorem dX9_strike_96 : decode cX9_strike 96 = .ok (.iadd, 1) := dk_96 (dk_at dksX9_strike_4 3 rfl rfl)
theorem dX9_strike_97 : decode cX9_strike 97 = .ok (.iload 5, 2) := dk_21 5 (dk_at dksX9_strike_4 4 rfl rfl)
theorem dX9_strike_99 : decode cX9_strike 99 = .ok (.iadd, 1) := dk_96 (dk_at dksX9_strike_4 6 rfl rfl)
theorem dX9_strike_100 : decode cX9_strike 100 = .ok (.iastore, 1) := dk_79 (dk_at dksX9_strike_4 7 rfl rfl)
theorem dX9_strike_101 : decode cX9_strike 101 = .ok (.aload_n 0, 1) := dk_42 (dk_at dksX9_strike_4 8 rfl rfl)
theorem dX9_strike_102 : decode cX9_strike 102 = .ok (.dup, 1) := dk_89 (dk_at dksX9_strike_4 9 rfl rfl)
theorem dX9_strike_103 : decode cX9_strike 103 = .ok (.getfield 265, 3) := dk_180 1 9 (dk_at dksX9_strike_4 10 rfl rfl)
theorem dX9_strike_106 : decode cX9_strike 106 = .ok (.iconst 1, 1) := dk_4 (dk_at dksX9_strike_4 13 rfl rfl)
theorem dX9_strike_107 : decode cX9_strike 107 = .ok (.iadd, 1) := dk_96 (dk_at dksX9_strike_4 14 rfl rfl)
theorem dX9_strike_108 : decode cX9_strike 108 = .ok (.putfield 265, 3) := dk_181 1 9 (dk_at dksX9_strike_4 15 rfl rfl)
theorem dX9_strike_111 : decode cX9_strike 111 = .ok (.iinc 5 1, 3) := dk_132 5 1 (dk_at dksX9_strike_4 18 rfl rfl)
theorem dX9_strike_114 : decode cX9_strike 114 = .ok (.goto (-90), 3) := dk_167 255 166 (dk_at dksX9_strike_4 21 rfl rfl)
theorem dX9_strike_117 : decode cX9_strike 117 = .ok (.return_, 1) := dk_177 (dk_at dksX9_strike_5 0 rfl rfl)
abbrev cX9_goesOn : ByteArray := prog_33_method_68_code
def yX9_goesOn : MethodName := ⟨RX9, "goesOn", "(IIZI)Z"⟩
def dkwX9_goesOn_5 : List UInt8 := [167, 255, 192, 21, 5, 172]
abbrev dktX9_goesOn_5 : List UInt8 := dkwX9_goesOn_5 ++ []
def dkwX9_goesOn_4 : List UInt8 := [27, 28, 21, 4, 21, 7, 182, 0, 229, 153, 0, 7, 4, 167, 0, 4, 3, 54, 5, 132, 7, 1]
abbrev dktX9_goesOn_4 : List UInt8 := dkwX9_goesOn_4 ++ dktX9_goesOn_5
def dkwX9_goesOn_3 : List UInt8 := [153, 0, 40, 29, 153, 0, 19, 42, 27, 28, 21, 7, 21, 4, 182, 0, 229, 153, 0, 23, 167, 0, 16, 42]
abbrev dktX9_goesOn_3 : List UInt8 := dkwX9_goesOn_3 ++ dktX9_goesOn_4
def dkwX9_goesOn_2 : List UInt8 := [54, 6, 4, 54, 7, 21, 7, 6, 163, 0, 64, 21, 5, 154, 0, 46, 21, 6, 21, 7, 184, 0, 226]
abbrev dktX9_goesOn_2 : List UInt8 := dkwX9_goesOn_2 ++ dktX9_goesOn_3
def dkwX9_goesOn_1 : List UInt8 := [180, 0, 49, 29, 153, 0, 12, 42, 27, 28, 182, 0, 217, 167, 0, 9, 42, 27, 28, 182, 0, 223, 46]
abbrev dktX9_goesOn_1 : List UInt8 := dkwX9_goesOn_1 ++ dktX9_goesOn_2
def dkwX9_goesOn_0 : List UInt8 := [42, 27, 182, 0, 220, 154, 0, 13, 42, 27, 28, 21, 4, 3, 182, 0, 229, 172, 3, 54, 5, 42]
abbrev dktX9_goesOn_0 : List UInt8 := dkwX9_goesOn_0 ++ dktX9_goesOn_1
theorem dksX9_goesOn_0 : cX9_goesOn.data.toList.drop 0 = dktX9_goesOn_0 := by decide +kernel
theorem dksX9_goesOn_1 : cX9_goesOn.data.toList.drop 22 = dktX9_goesOn_1 := dk_seg dksX9_goesOn_0 22 rfl rfl
theorem dksX9_goesOn_2 : cX9_goesOn.data.toList.drop 45 = dktX9_goesOn_2 := dk_seg dksX9_goesOn_1 23 rfl rfl
theorem dksX9_goesOn_3 : cX9_goesOn.data.toList.drop 68 = dktX9_goesOn_3 := dk_seg dksX9_goesOn_2 23 rfl rfl
theorem dksX9_goesOn_4 : cX9_goesOn.data.toList.drop 92 = dktX9_goesOn_4 := dk_seg dksX9_goesOn_3 24 rfl rfl
theorem dksX9_goesOn_5 : cX9_goesOn.data.toList.drop 114 = dktX9_goesOn_5 := dk_seg dksX9_goesOn_4 22 rfl rfl
theorem dX9_goesOn_0 : decode cX9_goesOn 0 = .ok (.aload_n 0, 1) := dk_42 (dk_at dksX9_goesOn_0 0 rfl rfl)
theorem dX9_goesOn_1 : decode cX9_goesOn 1 = .ok (.iload_n 1, 1) := dk_27 (dk_at dksX9_goesOn_0 1 rfl rfl)
theorem dX9_goesOn_2 : decode cX9_goesOn 2 = .ok (.invokevirtual 220, 3) := dk_182 0 220 (dk_at dksX9_goesOn_0 2 rfl rfl)
theorem dX9_goesOn_5 : decode cX9_goesOn 5 = .ok (.ifCond .ne 13, 3) := dk_154 0 13 (dk_at dksX9_goesOn_0 5 rfl rfl)
theorem dX9_goesOn_8 : decode cX9_goesOn 8 = .ok (.aload_n 0, 1) := dk_42 (dk_at dksX9_goesOn_0 8 rfl rfl)
theorem dX9_goesOn_9 : decode cX9_goesOn 9 = .ok (.iload_n 1, 1) := dk_27 (dk_at dksX9_goesOn_0 9 rfl rfl)
theorem dX9_goesOn_10 : decode cX9_goesOn 10 = .ok (.iload_n 2, 1) := dk_28 (dk_at dksX9_goesOn_0 10 rfl rfl)
theorem dX9_goesOn_11 : decode cX9_goesOn 11 = .ok (.iload 4, 2) := dk_21 4 (dk_at dksX9_goesOn_0 11 rfl rfl)
theorem dX9_goesOn_13 : decode cX9_goesOn 13 = .ok (.iconst 0, 1) := dk_3 (dk_at dksX9_goesOn_0 13 rfl rfl)
theorem dX9_goesOn_14 : decode cX9_goesOn 14 = .ok (.invokevirtual 229, 3) := dk_182 0 229 (dk_at dksX9_goesOn_0 14 rfl rfl)
theorem dX9_goesOn_17 : decode cX9_goesOn 17 = .ok (.ireturn, 1) := dk_172 (dk_at dksX9_goesOn_0 17 rfl rfl)
theorem dX9_goesOn_18 : decode cX9_goesOn 18 = .ok (.iconst 0, 1) := dk_3 (dk_at dksX9_goesOn_0 18 rfl rfl)
theorem dX9_goesOn_19 : decode cX9_goesOn 19 = .ok (.istore 5, 2) := dk_54 5 (dk_at dksX9_goesOn_0 19 rfl rfl)
theorem dX9_goesOn_21 : decode cX9_goesOn 21 = .ok (.aload_n 0, 1) := dk_42 (dk_at dksX9_goesOn_0 21 rfl rfl)
theorem dX9_goesOn_22 : decode cX9_goesOn 22 = .ok (.getfield 49, 3) := dk_180 0 49 (dk_at dksX9_goesOn_1 0 rfl rfl)
theorem dX9_goesOn_25 : decode cX9_goesOn 25 = .ok (.iload_n 3, 1) := dk_29 (dk_at dksX9_goesOn_1 3 rfl rfl)
theorem dX9_goesOn_26 : decode cX9_goesOn 26 = .ok (.ifCond .eq 12, 3) := dk_153 0 12 (dk_at dksX9_goesOn_1 4 rfl rfl)
theorem dX9_goesOn_29 : decode cX9_goesOn 29 = .ok (.aload_n 0, 1) := dk_42 (dk_at dksX9_goesOn_1 7 rfl rfl)
theorem dX9_goesOn_30 : decode cX9_goesOn 30 = .ok (.iload_n 1, 1) := dk_27 (dk_at dksX9_goesOn_1 8 rfl rfl)
theorem dX9_goesOn_31 : decode cX9_goesOn 31 = .ok (.iload_n 2, 1) := dk_28 (dk_at dksX9_goesOn_1 9 rfl rfl)
theorem dX9_goesOn_32 : decode cX9_goesOn 32 = .ok (.invokevirtual 217, 3) := dk_182 0 217 (dk_at dksX9_goesOn_1 10 rfl rfl)
theorem dX9_goesOn_35 : decode cX9_goesOn 35 = .ok (.goto 9, 3) := dk_167 0 9 (dk_at dksX9_goesOn_1 13 rfl rfl)
theorem dX9_goesOn_38 : decode cX9_goesOn 38 = .ok (.aload_n 0, 1) := dk_42 (dk_at dksX9_goesOn_1 16 rfl rfl)
theorem dX9_goesOn_39 : decode cX9_goesOn 39 = .ok (.iload_n 1, 1) := dk_27 (dk_at dksX9_goesOn_1 17 rfl rfl)
theorem dX9_goesOn_40 : decode cX9_goesOn 40 = .ok (.iload_n 2, 1) := dk_28 (dk_at dksX9_goesOn_1 18 rfl rfl)
theorem dX9_goesOn_41 : decode cX9_goesOn 41 = .ok (.invokevirtual 223, 3) := dk_182 0 223 (dk_at dksX9_goesOn_1 19 rfl rfl)
theorem dX9_goesOn_44 : decode cX9_goesOn 44 = .ok (.iaload, 1) := dk_46 (dk_at dksX9_goesOn_1 22 rfl rfl)
theorem dX9_goesOn_45 : decode cX9_goesOn 45 = .ok (.istore 6, 2) := dk_54 6 (dk_at dksX9_goesOn_2 0 rfl rfl)
theorem dX9_goesOn_47 : decode cX9_goesOn 47 = .ok (.iconst 1, 1) := dk_4 (dk_at dksX9_goesOn_2 2 rfl rfl)
theorem dX9_goesOn_48 : decode cX9_goesOn 48 = .ok (.istore 7, 2) := dk_54 7 (dk_at dksX9_goesOn_2 3 rfl rfl)
theorem dX9_goesOn_50 : decode cX9_goesOn 50 = .ok (.iload 7, 2) := dk_21 7 (dk_at dksX9_goesOn_2 5 rfl rfl)
theorem dX9_goesOn_52 : decode cX9_goesOn 52 = .ok (.iconst 3, 1) := dk_6 (dk_at dksX9_goesOn_2 7 rfl rfl)
theorem dX9_goesOn_53 : decode cX9_goesOn 53 = .ok (.if_icmp .gt 64, 3) := dk_163 0 64 (dk_at dksX9_goesOn_2 8 rfl rfl)
theorem dX9_goesOn_56 : decode cX9_goesOn 56 = .ok (.iload 5, 2) := dk_21 5 (dk_at dksX9_goesOn_2 11 rfl rfl)
theorem dX9_goesOn_58 : decode cX9_goesOn 58 = .ok (.ifCond .ne 46, 3) := dk_154 0 46 (dk_at dksX9_goesOn_2 13 rfl rfl)
theorem dX9_goesOn_61 : decode cX9_goesOn 61 = .ok (.iload 6, 2) := dk_21 6 (dk_at dksX9_goesOn_2 16 rfl rfl)
theorem dX9_goesOn_63 : decode cX9_goesOn 63 = .ok (.iload 7, 2) := dk_21 7 (dk_at dksX9_goesOn_2 18 rfl rfl)
theorem dX9_goesOn_65 : decode cX9_goesOn 65 = .ok (.invokestatic 226, 3) := dk_184 0 226 (dk_at dksX9_goesOn_2 20 rfl rfl)
theorem dX9_goesOn_68 : decode cX9_goesOn 68 = .ok (.ifCond .eq 40, 3) := dk_153 0 40 (dk_at dksX9_goesOn_3 0 rfl rfl)
theorem dX9_goesOn_71 : decode cX9_goesOn 71 = .ok (.iload_n 3, 1) := dk_29 (dk_at dksX9_goesOn_3 3 rfl rfl)
theorem dX9_goesOn_72 : decode cX9_goesOn 72 = .ok (.ifCond .eq 19, 3) := dk_153 0 19 (dk_at dksX9_goesOn_3 4 rfl rfl)
theorem dX9_goesOn_75 : decode cX9_goesOn 75 = .ok (.aload_n 0, 1) := dk_42 (dk_at dksX9_goesOn_3 7 rfl rfl)
theorem dX9_goesOn_76 : decode cX9_goesOn 76 = .ok (.iload_n 1, 1) := dk_27 (dk_at dksX9_goesOn_3 8 rfl rfl)
theorem dX9_goesOn_77 : decode cX9_goesOn 77 = .ok (.iload_n 2, 1) := dk_28 (dk_at dksX9_goesOn_3 9 rfl rfl)
theorem dX9_goesOn_78 : decode cX9_goesOn 78 = .ok (.iload 7, 2) := dk_21 7 (dk_at dksX9_goesOn_3 10 rfl rfl)
theorem dX9_goesOn_80 : decode cX9_goesOn 80 = .ok (.iload 4, 2) := dk_21 4 (dk_at dksX9_goesOn_3 12 rfl rfl)
theorem dX9_goesOn_82 : decode cX9_goesOn 82 = .ok (.invokevirtual 229, 3) := dk_182 0 229 (dk_at dksX9_goesOn_3 14 rfl rfl)
theorem dX9_goesOn_85 : decode cX9_goesOn 85 = .ok (.ifCond .eq 23, 3) := dk_153 0 23 (dk_at dksX9_goesOn_3 17 rfl rfl)
theorem dX9_goesOn_88 : decode cX9_goesOn 88 = .ok (.goto 16, 3) := dk_167 0 16 (dk_at dksX9_goesOn_3 20 rfl rfl)
theorem dX9_goesOn_91 : decode cX9_goesOn 91 = .ok (.aload_n 0, 1) := dk_42 (dk_at dksX9_goesOn_3 23 rfl rfl)
theorem dX9_goesOn_92 : decode cX9_goesOn 92 = .ok (.iload_n 1, 1) := dk_27 (dk_at dksX9_goesOn_4 0 rfl rfl)
theorem dX9_goesOn_93 : decode cX9_goesOn 93 = .ok (.iload_n 2, 1) := dk_28 (dk_at dksX9_goesOn_4 1 rfl rfl)
theorem dX9_goesOn_94 : decode cX9_goesOn 94 = .ok (.iload 4, 2) := dk_21 4 (dk_at dksX9_goesOn_4 2 rfl rfl)
theorem dX9_goesOn_96 : decode cX9_goesOn 96 = .ok (.iload 7, 2) := dk_21 7 (dk_at dksX9_goesOn_4 4 rfl rfl)
theorem dX9_goesOn_98 : decode cX9_goesOn 98 = .ok (.invokevirtual 229, 3) := dk_182 0 229 (dk_at dksX9_goesOn_4 6 rfl rfl)
theorem dX9_goesOn_101 : decode cX9_goesOn 101 = .ok (.ifCond .eq 7, 3) := dk_153 0 7 (dk_at dksX9_goesOn_4 9 rfl rfl)
theorem dX9_goesOn_104 : decode cX9_goesOn 104 = .ok (.iconst 1, 1) := dk_4 (dk_at dksX9_goesOn_4 12 rfl rfl)
theorem dX9_goesOn_105 : decode cX9_goesOn 105 = .ok (.goto 4, 3) := dk_167 0 4 (dk_at dksX9_goesOn_4 13 rfl rfl)
theorem dX9_goesOn_108 : decode cX9_goesOn 108 = .ok (.iconst 0, 1) := dk_3 (dk_at dksX9_goesOn_4 16 rfl rfl)
theorem dX9_goesOn_109 : decode cX9_goesOn 109 = .ok (.istore 5, 2) := dk_54 5 (dk_at dksX9_goesOn_4 17 rfl rfl)
theorem dX9_goesOn_111 : decode cX9_goesOn 111 = .ok (.iinc 7 1, 3) := dk_132 7 1 (dk_at dksX9_goesOn_4 19 rfl rfl)
theorem dX9_goesOn_114 : decode cX9_goesOn 114 = .ok (.goto (-64), 3) := dk_167 255 192 (dk_at dksX9_goesOn_5 0 rfl rfl)
theorem dX9_goesOn_117 : decode cX9_goesOn 117 = .ok (.iload 5, 2) := dk_21 5 (dk_at dksX9_goesOn_5 3 rfl rfl)
theorem dX9_goesOn_119 : decode cX9_goesOn 119 = .ok (.ireturn, 1) := dk_172 (dk_at dksX9_goesOn_5 5 rfl rfl)
abbrev cX9_check : ByteArray := prog_33_method_75_code
def yX9_check : MethodName := ⟨RX9, "check", "(II)I"⟩
def dkwX9_check_5 : List UInt8 := [3, 167, 0, 11, 4, 42, 180, 0, 61, 28, 46, 96, 172]
abbrev dktX9_check_5 : List UInt8 := dkwX9_check_5 ++ []
def dkwX9_check_4 : List UInt8 := [46, 4, 21, 4, 7, 112, 120, 2, 130, 126, 79, 132, 3, 1, 167, 255, 193, 42, 182, 1, 12, 153, 0, 7]
abbrev dktX9_check_4 : List UInt8 := dkwX9_check_4 ++ dktX9_check_5
def dkwX9_check_3 : List UInt8 := [21, 4, 182, 1, 29, 154, 0, 7, 4, 29, 96, 172, 42, 180, 0, 49, 21, 4, 16, 48, 112, 7, 108, 92]
abbrev dktX9_check_3 : List UInt8 := dkwX9_check_3 ++ dktX9_check_4
def dkwX9_check_2 : List UInt8 := [180, 0, 61, 28, 46, 162, 0, 59, 42, 180, 0, 64, 16, 40, 28, 104, 29, 96, 46, 54, 4, 42, 27]
abbrev dktX9_check_2 : List UInt8 := dkwX9_check_2 ++ dktX9_check_3
def dkwX9_check_1 : List UInt8 := [180, 0, 58, 28, 46, 154, 0, 10, 42, 18, 112, 182, 0, 106, 172, 42, 182, 1, 19, 3, 62, 29, 42]
abbrev dktX9_check_1 : List UInt8 := dkwX9_check_1 ++ dktX9_check_2
def dkwX9_check_0 : List UInt8 := [42, 27, 182, 0, 249, 153, 0, 10, 28, 184, 0, 116, 154, 0, 10, 42, 18, 105, 182, 0, 106, 172, 42]
abbrev dktX9_check_0 : List UInt8 := dkwX9_check_0 ++ dktX9_check_1
theorem dksX9_check_0 : cX9_check.data.toList.drop 0 = dktX9_check_0 := by decide +kernel
theorem dksX9_check_1 : cX9_check.data.toList.drop 23 = dktX9_check_1 := dk_seg dksX9_check_0 23 rfl rfl
theorem dksX9_check_2 : cX9_check.data.toList.drop 46 = dktX9_check_2 := dk_seg dksX9_check_1 23 rfl rfl
theorem dksX9_check_3 : cX9_check.data.toList.drop 69 = dktX9_check_3 := dk_seg dksX9_check_2 23 rfl rfl
theorem dksX9_check_4 : cX9_check.data.toList.drop 93 = dktX9_check_4 := dk_seg dksX9_check_3 24 rfl rfl
theorem dksX9_check_5 : cX9_check.data.toList.drop 117 = dktX9_check_5 := dk_seg dksX9_check_4 24 rfl rfl
theorem dX9_check_0 : decode cX9_check 0 = .ok (.aload_n 0, 1) := dk_42 (dk_at dksX9_check_0 0 rfl rfl)
theorem dX9_check_1 : decode cX9_check 1 = .ok (.iload_n 1, 1) := dk_27 (dk_at dksX9_check_0 1 rfl rfl)
theorem dX9_check_2 : decode cX9_check 2 = .ok (.invokevirtual 249, 3) := dk_182 0 249 (dk_at dksX9_check_0 2 rfl rfl)
theorem dX9_check_5 : decode cX9_check 5 = .ok (.ifCond .eq 10, 3) := dk_153 0 10 (dk_at dksX9_check_0 5 rfl rfl)
theorem dX9_check_8 : decode cX9_check 8 = .ok (.iload_n 2, 1) := dk_28 (dk_at dksX9_check_0 8 rfl rfl)
theorem dX9_check_9 : decode cX9_check 9 = .ok (.invokestatic 116, 3) := dk_184 0 116 (dk_at dksX9_check_0 9 rfl rfl)
theorem dX9_check_12 : decode cX9_check 12 = .ok (.ifCond .ne 10, 3) := dk_154 0 10 (dk_at dksX9_check_0 12 rfl rfl)
theorem dX9_check_15 : decode cX9_check 15 = .ok (.aload_n 0, 1) := dk_42 (dk_at dksX9_check_0 15 rfl rfl)
theorem dX9_check_16 : decode cX9_check 16 = .ok (.ldc 105, 2) := dk_18 105 (dk_at dksX9_check_0 16 rfl rfl)
theorem dX9_check_18 : decode cX9_check 18 = .ok (.invokevirtual 106, 3) := dk_182 0 106 (dk_at dksX9_check_0 18 rfl rfl)
theorem dX9_check_21 : decode cX9_check 21 = .ok (.ireturn, 1) := dk_172 (dk_at dksX9_check_0 21 rfl rfl)
theorem dX9_check_22 : decode cX9_check 22 = .ok (.aload_n 0, 1) := dk_42 (dk_at dksX9_check_0 22 rfl rfl)
theorem dX9_check_23 : decode cX9_check 23 = .ok (.getfield 58, 3) := dk_180 0 58 (dk_at dksX9_check_1 0 rfl rfl)
theorem dX9_check_26 : decode cX9_check 26 = .ok (.iload_n 2, 1) := dk_28 (dk_at dksX9_check_1 3 rfl rfl)
theorem dX9_check_27 : decode cX9_check 27 = .ok (.iaload, 1) := dk_46 (dk_at dksX9_check_1 4 rfl rfl)
theorem dX9_check_28 : decode cX9_check 28 = .ok (.ifCond .ne 10, 3) := dk_154 0 10 (dk_at dksX9_check_1 5 rfl rfl)
theorem dX9_check_31 : decode cX9_check 31 = .ok (.aload_n 0, 1) := dk_42 (dk_at dksX9_check_1 8 rfl rfl)
theorem dX9_check_32 : decode cX9_check 32 = .ok (.ldc 112, 2) := dk_18 112 (dk_at dksX9_check_1 9 rfl rfl)
theorem dX9_check_34 : decode cX9_check 34 = .ok (.invokevirtual 106, 3) := dk_182 0 106 (dk_at dksX9_check_1 11 rfl rfl)
theorem dX9_check_37 : decode cX9_check 37 = .ok (.ireturn, 1) := dk_172 (dk_at dksX9_check_1 14 rfl rfl)
theorem dX9_check_38 : decode cX9_check 38 = .ok (.aload_n 0, 1) := dk_42 (dk_at dksX9_check_1 15 rfl rfl)
theorem dX9_check_39 : decode cX9_check 39 = .ok (.invokevirtual 275, 3) := dk_182 1 19 (dk_at dksX9_check_1 16 rfl rfl)
theorem dX9_check_42 : decode cX9_check 42 = .ok (.iconst 0, 1) := dk_3 (dk_at dksX9_check_1 19 rfl rfl)
theorem dX9_check_43 : decode cX9_check 43 = .ok (.istore_n 3, 1) := dk_62 (dk_at dksX9_check_1 20 rfl rfl)
theorem dX9_check_44 : decode cX9_check 44 = .ok (.iload_n 3, 1) := dk_29 (dk_at dksX9_check_1 21 rfl rfl)
theorem dX9_check_45 : decode cX9_check 45 = .ok (.aload_n 0, 1) := dk_42 (dk_at dksX9_check_1 22 rfl rfl)
theorem dX9_check_46 : decode cX9_check 46 = .ok (.getfield 61, 3) := dk_180 0 61 (dk_at dksX9_check_2 0 rfl rfl)
theorem dX9_check_49 : decode cX9_check 49 = .ok (.iload_n 2, 1) := dk_28 (dk_at dksX9_check_2 3 rfl rfl)
theorem dX9_check_50 : decode cX9_check 50 = .ok (.iaload, 1) := dk_46 (dk_at dksX9_check_2 4 rfl rfl)
theorem dX9_check_51 : decode cX9_check 51 = .ok (.if_icmp .ge 59, 3) := dk_162 0 59 (dk_at dksX9_check_2 5 rfl rfl)
theorem dX9_check_54 : decode cX9_check 54 = .ok (.aload_n 0, 1) := dk_42 (dk_at dksX9_check_2 8 rfl rfl)
theorem dX9_check_55 : decode cX9_check 55 = .ok (.getfield 64, 3) := dk_180 0 64 (dk_at dksX9_check_2 9 rfl rfl)
theorem dX9_check_58 : decode cX9_check 58 = .ok (.bipush 40, 2) := dk_16 40 (dk_at dksX9_check_2 12 rfl rfl)
theorem dX9_check_60 : decode cX9_check 60 = .ok (.iload_n 2, 1) := dk_28 (dk_at dksX9_check_2 14 rfl rfl)
theorem dX9_check_61 : decode cX9_check 61 = .ok (.imul, 1) := dk_104 (dk_at dksX9_check_2 15 rfl rfl)
theorem dX9_check_62 : decode cX9_check 62 = .ok (.iload_n 3, 1) := dk_29 (dk_at dksX9_check_2 16 rfl rfl)
theorem dX9_check_63 : decode cX9_check 63 = .ok (.iadd, 1) := dk_96 (dk_at dksX9_check_2 17 rfl rfl)
theorem dX9_check_64 : decode cX9_check 64 = .ok (.iaload, 1) := dk_46 (dk_at dksX9_check_2 18 rfl rfl)
theorem dX9_check_65 : decode cX9_check 65 = .ok (.istore 4, 2) := dk_54 4 (dk_at dksX9_check_2 19 rfl rfl)
theorem dX9_check_67 : decode cX9_check 67 = .ok (.aload_n 0, 1) := dk_42 (dk_at dksX9_check_2 21 rfl rfl)
theorem dX9_check_68 : decode cX9_check 68 = .ok (.iload_n 1, 1) := dk_27 (dk_at dksX9_check_2 22 rfl rfl)
theorem dX9_check_69 : decode cX9_check 69 = .ok (.iload 4, 2) := dk_21 4 (dk_at dksX9_check_3 0 rfl rfl)
theorem dX9_check_71 : decode cX9_check 71 = .ok (.invokevirtual 285, 3) := dk_182 1 29 (dk_at dksX9_check_3 2 rfl rfl)
theorem dX9_check_74 : decode cX9_check 74 = .ok (.ifCond .ne 7, 3) := dk_154 0 7 (dk_at dksX9_check_3 5 rfl rfl)
theorem dX9_check_77 : decode cX9_check 77 = .ok (.iconst 1, 1) := dk_4 (dk_at dksX9_check_3 8 rfl rfl)
theorem dX9_check_78 : decode cX9_check 78 = .ok (.iload_n 3, 1) := dk_29 (dk_at dksX9_check_3 9 rfl rfl)
theorem dX9_check_79 : decode cX9_check 79 = .ok (.iadd, 1) := dk_96 (dk_at dksX9_check_3 10 rfl rfl)
theorem dX9_check_80 : decode cX9_check 80 = .ok (.ireturn, 1) := dk_172 (dk_at dksX9_check_3 11 rfl rfl)
theorem dX9_check_81 : decode cX9_check 81 = .ok (.aload_n 0, 1) := dk_42 (dk_at dksX9_check_3 12 rfl rfl)
theorem dX9_check_82 : decode cX9_check 82 = .ok (.getfield 49, 3) := dk_180 0 49 (dk_at dksX9_check_3 13 rfl rfl)
theorem dX9_check_85 : decode cX9_check 85 = .ok (.iload 4, 2) := dk_21 4 (dk_at dksX9_check_3 16 rfl rfl)
theorem dX9_check_87 : decode cX9_check 87 = .ok (.bipush 48, 2) := dk_16 48 (dk_at dksX9_check_3 18 rfl rfl)
theorem dX9_check_89 : decode cX9_check 89 = .ok (.irem, 1) := dk_112 (dk_at dksX9_check_3 20 rfl rfl)
theorem dX9_check_90 : decode cX9_check 90 = .ok (.iconst 4, 1) := dk_7 (dk_at dksX9_check_3 21 rfl rfl)
theorem dX9_check_91 : decode cX9_check 91 = .ok (.idiv, 1) := dk_108 (dk_at dksX9_check_3 22 rfl rfl)
theorem dX9_check_92 : decode cX9_check 92 = .ok (.dup2, 1) := dk_92 (dk_at dksX9_check_3 23 rfl rfl)
theorem dX9_check_93 : decode cX9_check 93 = .ok (.iaload, 1) := dk_46 (dk_at dksX9_check_4 0 rfl rfl)
theorem dX9_check_94 : decode cX9_check 94 = .ok (.iconst 1, 1) := dk_4 (dk_at dksX9_check_4 1 rfl rfl)
theorem dX9_check_95 : decode cX9_check 95 = .ok (.iload 4, 2) := dk_21 4 (dk_at dksX9_check_4 2 rfl rfl)
theorem dX9_check_97 : decode cX9_check 97 = .ok (.iconst 4, 1) := dk_7 (dk_at dksX9_check_4 4 rfl rfl)
theorem dX9_check_98 : decode cX9_check 98 = .ok (.irem, 1) := dk_112 (dk_at dksX9_check_4 5 rfl rfl)
theorem dX9_check_99 : decode cX9_check 99 = .ok (.ishl, 1) := dk_120 (dk_at dksX9_check_4 6 rfl rfl)
theorem dX9_check_100 : decode cX9_check 100 = .ok (.iconst (-1), 1) := dk_2 (dk_at dksX9_check_4 7 rfl rfl)
theorem dX9_check_101 : decode cX9_check 101 = .ok (.ixor, 1) := dk_130 (dk_at dksX9_check_4 8 rfl rfl)
theorem dX9_check_102 : decode cX9_check 102 = .ok (.iand, 1) := dk_126 (dk_at dksX9_check_4 9 rfl rfl)
theorem dX9_check_103 : decode cX9_check 103 = .ok (.iastore, 1) := dk_79 (dk_at dksX9_check_4 10 rfl rfl)
theorem dX9_check_104 : decode cX9_check 104 = .ok (.iinc 3 1, 3) := dk_132 3 1 (dk_at dksX9_check_4 11 rfl rfl)
theorem dX9_check_107 : decode cX9_check 107 = .ok (.goto (-63), 3) := dk_167 255 193 (dk_at dksX9_check_4 14 rfl rfl)
theorem dX9_check_110 : decode cX9_check 110 = .ok (.aload_n 0, 1) := dk_42 (dk_at dksX9_check_4 17 rfl rfl)
theorem dX9_check_111 : decode cX9_check 111 = .ok (.invokevirtual 268, 3) := dk_182 1 12 (dk_at dksX9_check_4 18 rfl rfl)
theorem dX9_check_114 : decode cX9_check 114 = .ok (.ifCond .eq 7, 3) := dk_153 0 7 (dk_at dksX9_check_4 21 rfl rfl)
theorem dX9_check_117 : decode cX9_check 117 = .ok (.iconst 0, 1) := dk_3 (dk_at dksX9_check_5 0 rfl rfl)
theorem dX9_check_118 : decode cX9_check 118 = .ok (.goto 11, 3) := dk_167 0 11 (dk_at dksX9_check_5 1 rfl rfl)
theorem dX9_check_121 : decode cX9_check 121 = .ok (.iconst 1, 1) := dk_4 (dk_at dksX9_check_5 4 rfl rfl)
theorem dX9_check_122 : decode cX9_check 122 = .ok (.aload_n 0, 1) := dk_42 (dk_at dksX9_check_5 5 rfl rfl)
theorem dX9_check_123 : decode cX9_check 123 = .ok (.getfield 61, 3) := dk_180 0 61 (dk_at dksX9_check_5 6 rfl rfl)
theorem dX9_check_126 : decode cX9_check 126 = .ok (.iload_n 2, 1) := dk_28 (dk_at dksX9_check_5 9 rfl rfl)
theorem dX9_check_127 : decode cX9_check 127 = .ok (.iaload, 1) := dk_46 (dk_at dksX9_check_5 10 rfl rfl)
theorem dX9_check_128 : decode cX9_check 128 = .ok (.iadd, 1) := dk_96 (dk_at dksX9_check_5 11 rfl rfl)
theorem dX9_check_129 : decode cX9_check 129 = .ok (.ireturn, 1) := dk_172 (dk_at dksX9_check_5 12 rfl rfl)
abbrev cX9_followsNow : ByteArray := prog_33_method_74_code
def yX9_followsNow : MethodName := ⟨RX9, "followsNow", "(II)Z"⟩
def dkwX9_followsNow_6 : List UInt8 := [167, 255, 181, 21, 6, 172]
abbrev dktX9_followsNow_6 : List UInt8 := dkwX9_followsNow_6 ++ []
def dkwX9_followsNow_5 : List UInt8 := [42, 29, 21, 7, 4, 21, 5, 182, 1, 15, 154, 0, 7, 4, 167, 0, 4, 3, 54, 6, 132, 7, 1]
abbrev dktX9_followsNow_5 : List UInt8 := dkwX9_followsNow_5 ++ dktX9_followsNow_6
def dkwX9_followsNow_4 : List UInt8 := [29, 21, 7, 3, 21, 5, 182, 1, 15, 153, 0, 28, 42, 29, 21, 7, 182, 0, 223, 21, 4, 160, 0, 20]
abbrev dktX9_followsNow_4 : List UInt8 := dkwX9_followsNow_4 ++ dktX9_followsNow_5
def dkwX9_followsNow_3 : List UInt8 := [182, 0, 210, 162, 0, 71, 21, 6, 154, 0, 53, 42, 29, 21, 7, 182, 0, 217, 21, 4, 160, 0, 16, 42]
abbrev dktX9_followsNow_3 : List UInt8 := dkwX9_followsNow_3 ++ dktX9_followsNow_4
def dkwX9_followsNow_2 : List UInt8 := [21, 4, 46, 21, 5, 184, 0, 226, 154, 0, 5, 3, 172, 3, 54, 6, 3, 54, 7, 21, 7, 42, 29]
abbrev dktX9_followsNow_2 : List UInt8 := dkwX9_followsNow_2 ++ dktX9_followsNow_3
def dkwX9_followsNow_1 : List UInt8 := [182, 0, 204, 153, 0, 31, 27, 29, 184, 0, 226, 153, 0, 23, 21, 5, 153, 0, 18, 42, 180, 0, 49]
abbrev dktX9_followsNow_1 : List UInt8 := dkwX9_followsNow_1 ++ dktX9_followsNow_2
def dkwX9_followsNow_0 : List UInt8 := [28, 16, 48, 108, 62, 28, 16, 48, 112, 7, 108, 54, 4, 28, 7, 112, 54, 5, 28, 155, 0, 39, 42, 29]
abbrev dktX9_followsNow_0 : List UInt8 := dkwX9_followsNow_0 ++ dktX9_followsNow_1
theorem dksX9_followsNow_0 : cX9_followsNow.data.toList.drop 0 = dktX9_followsNow_0 := by decide +kernel
theorem dksX9_followsNow_1 : cX9_followsNow.data.toList.drop 24 = dktX9_followsNow_1 := dk_seg dksX9_followsNow_0 24 rfl rfl
theorem dksX9_followsNow_2 : cX9_followsNow.data.toList.drop 47 = dktX9_followsNow_2 := dk_seg dksX9_followsNow_1 23 rfl rfl
theorem dksX9_followsNow_3 : cX9_followsNow.data.toList.drop 70 = dktX9_followsNow_3 := dk_seg dksX9_followsNow_2 23 rfl rfl
theorem dksX9_followsNow_4 : cX9_followsNow.data.toList.drop 94 = dktX9_followsNow_4 := dk_seg dksX9_followsNow_3 24 rfl rfl
theorem dksX9_followsNow_5 : cX9_followsNow.data.toList.drop 118 = dktX9_followsNow_5 := dk_seg dksX9_followsNow_4 24 rfl rfl
theorem dksX9_followsNow_6 : cX9_followsNow.data.toList.drop 141 = dktX9_followsNow_6 := dk_seg dksX9_followsNow_5 23 rfl rfl
theorem dX9_followsNow_0 : decode cX9_followsNow 0 = .ok (.iload_n 2, 1) := dk_28 (dk_at dksX9_followsNow_0 0 rfl rfl)
theorem dX9_followsNow_1 : decode cX9_followsNow 1 = .ok (.bipush 48, 2) := dk_16 48 (dk_at dksX9_followsNow_0 1 rfl rfl)
theorem dX9_followsNow_3 : decode cX9_followsNow 3 = .ok (.idiv, 1) := dk_108 (dk_at dksX9_followsNow_0 3 rfl rfl)
theorem dX9_followsNow_4 : decode cX9_followsNow 4 = .ok (.istore_n 3, 1) := dk_62 (dk_at dksX9_followsNow_0 4 rfl rfl)
theorem dX9_followsNow_5 : decode cX9_followsNow 5 = .ok (.iload_n 2, 1) := dk_28 (dk_at dksX9_followsNow_0 5 rfl rfl)
theorem dX9_followsNow_6 : decode cX9_followsNow 6 = .ok (.bipush 48, 2) := dk_16 48 (dk_at dksX9_followsNow_0 6 rfl rfl)
theorem dX9_followsNow_8 : decode cX9_followsNow 8 = .ok (.irem, 1) := dk_112 (dk_at dksX9_followsNow_0 8 rfl rfl)
theorem dX9_followsNow_9 : decode cX9_followsNow 9 = .ok (.iconst 4, 1) := dk_7 (dk_at dksX9_followsNow_0 9 rfl rfl)
theorem dX9_followsNow_10 : decode cX9_followsNow 10 = .ok (.idiv, 1) := dk_108 (dk_at dksX9_followsNow_0 10 rfl rfl)
theorem dX9_followsNow_11 : decode cX9_followsNow 11 = .ok (.istore 4, 2) := dk_54 4 (dk_at dksX9_followsNow_0 11 rfl rfl)
theorem dX9_followsNow_13 : decode cX9_followsNow 13 = .ok (.iload_n 2, 1) := dk_28 (dk_at dksX9_followsNow_0 13 rfl rfl)
theorem dX9_followsNow_14 : decode cX9_followsNow 14 = .ok (.iconst 4, 1) := dk_7 (dk_at dksX9_followsNow_0 14 rfl rfl)
theorem dX9_followsNow_15 : decode cX9_followsNow 15 = .ok (.irem, 1) := dk_112 (dk_at dksX9_followsNow_0 15 rfl rfl)
theorem dX9_followsNow_16 : decode cX9_followsNow 16 = .ok (.istore 5, 2) := dk_54 5 (dk_at dksX9_followsNow_0 16 rfl rfl)
theorem dX9_followsNow_18 : decode cX9_followsNow 18 = .ok (.iload_n 2, 1) := dk_28 (dk_at dksX9_followsNow_0 18 rfl rfl)
theorem dX9_followsNow_19 : decode cX9_followsNow 19 = .ok (.ifCond .lt 39, 3) := dk_155 0 39 (dk_at dksX9_followsNow_0 19 rfl rfl)
theorem dX9_followsNow_22 : decode cX9_followsNow 22 = .ok (.aload_n 0, 1) := dk_42 (dk_at dksX9_followsNow_0 22 rfl rfl)
theorem dX9_followsNow_23 : decode cX9_followsNow 23 = .ok (.iload_n 3, 1) := dk_29 (dk_at dksX9_followsNow_0 23 rfl rfl)
theorem dX9_followsNow_24 : decode cX9_followsNow 24 = .ok (.invokevirtual 204, 3) := dk_182 0 204 (dk_at dksX9_followsNow_1 0 rfl rfl)
theorem dX9_followsNow_27 : decode cX9_followsNow 27 = .ok (.ifCond .eq 31, 3) := dk_153 0 31 (dk_at dksX9_followsNow_1 3 rfl rfl)
theorem dX9_followsNow_30 : decode cX9_followsNow 30 = .ok (.iload_n 1, 1) := dk_27 (dk_at dksX9_followsNow_1 6 rfl rfl)
theorem dX9_followsNow_31 : decode cX9_followsNow 31 = .ok (.iload_n 3, 1) := dk_29 (dk_at dksX9_followsNow_1 7 rfl rfl)
theorem dX9_followsNow_32 : decode cX9_followsNow 32 = .ok (.invokestatic 226, 3) := dk_184 0 226 (dk_at dksX9_followsNow_1 8 rfl rfl)
theorem dX9_followsNow_35 : decode cX9_followsNow 35 = .ok (.ifCond .eq 23, 3) := dk_153 0 23 (dk_at dksX9_followsNow_1 11 rfl rfl)
theorem dX9_followsNow_38 : decode cX9_followsNow 38 = .ok (.iload 5, 2) := dk_21 5 (dk_at dksX9_followsNow_1 14 rfl rfl)
theorem dX9_followsNow_40 : decode cX9_followsNow 40 = .ok (.ifCond .eq 18, 3) := dk_153 0 18 (dk_at dksX9_followsNow_1 16 rfl rfl)
theorem dX9_followsNow_43 : decode cX9_followsNow 43 = .ok (.aload_n 0, 1) := dk_42 (dk_at dksX9_followsNow_1 19 rfl rfl)
theorem dX9_followsNow_44 : decode cX9_followsNow 44 = .ok (.getfield 49, 3) := dk_180 0 49 (dk_at dksX9_followsNow_1 20 rfl rfl)
theorem dX9_followsNow_47 : decode cX9_followsNow 47 = .ok (.iload 4, 2) := dk_21 4 (dk_at dksX9_followsNow_2 0 rfl rfl)
theorem dX9_followsNow_49 : decode cX9_followsNow 49 = .ok (.iaload, 1) := dk_46 (dk_at dksX9_followsNow_2 2 rfl rfl)
theorem dX9_followsNow_50 : decode cX9_followsNow 50 = .ok (.iload 5, 2) := dk_21 5 (dk_at dksX9_followsNow_2 3 rfl rfl)
theorem dX9_followsNow_52 : decode cX9_followsNow 52 = .ok (.invokestatic 226, 3) := dk_184 0 226 (dk_at dksX9_followsNow_2 5 rfl rfl)
theorem dX9_followsNow_55 : decode cX9_followsNow 55 = .ok (.ifCond .ne 5, 3) := dk_154 0 5 (dk_at dksX9_followsNow_2 8 rfl rfl)
theorem dX9_followsNow_58 : decode cX9_followsNow 58 = .ok (.iconst 0, 1) := dk_3 (dk_at dksX9_followsNow_2 11 rfl rfl)
theorem dX9_followsNow_59 : decode cX9_followsNow 59 = .ok (.ireturn, 1) := dk_172 (dk_at dksX9_followsNow_2 12 rfl rfl)
theorem dX9_followsNow_60 : decode cX9_followsNow 60 = .ok (.iconst 0, 1) := dk_3 (dk_at dksX9_followsNow_2 13 rfl rfl)
theorem dX9_followsNow_61 : decode cX9_followsNow 61 = .ok (.istore 6, 2) := dk_54 6 (dk_at dksX9_followsNow_2 14 rfl rfl)
theorem dX9_followsNow_63 : decode cX9_followsNow 63 = .ok (.iconst 0, 1) := dk_3 (dk_at dksX9_followsNow_2 16 rfl rfl)
theorem dX9_followsNow_64 : decode cX9_followsNow 64 = .ok (.istore 7, 2) := dk_54 7 (dk_at dksX9_followsNow_2 17 rfl rfl)
theorem dX9_followsNow_66 : decode cX9_followsNow 66 = .ok (.iload 7, 2) := dk_21 7 (dk_at dksX9_followsNow_2 19 rfl rfl)
theorem dX9_followsNow_68 : decode cX9_followsNow 68 = .ok (.aload_n 0, 1) := dk_42 (dk_at dksX9_followsNow_2 21 rfl rfl)
theorem dX9_followsNow_69 : decode cX9_followsNow 69 = .ok (.iload_n 3, 1) := dk_29 (dk_at dksX9_followsNow_2 22 rfl rfl)
theorem dX9_followsNow_70 : decode cX9_followsNow 70 = .ok (.invokevirtual 210, 3) := dk_182 0 210 (dk_at dksX9_followsNow_3 0 rfl rfl)
theorem dX9_followsNow_73 : decode cX9_followsNow 73 = .ok (.if_icmp .ge 71, 3) := dk_162 0 71 (dk_at dksX9_followsNow_3 3 rfl rfl)
theorem dX9_followsNow_76 : decode cX9_followsNow 76 = .ok (.iload 6, 2) := dk_21 6 (dk_at dksX9_followsNow_3 6 rfl rfl)
theorem dX9_followsNow_78 : decode cX9_followsNow 78 = .ok (.ifCond .ne 53, 3) := dk_154 0 53 (dk_at dksX9_followsNow_3 8 rfl rfl)
theorem dX9_followsNow_81 : decode cX9_followsNow 81 = .ok (.aload_n 0, 1) := dk_42 (dk_at dksX9_followsNow_3 11 rfl rfl)
theorem dX9_followsNow_82 : decode cX9_followsNow 82 = .ok (.iload_n 3, 1) := dk_29 (dk_at dksX9_followsNow_3 12 rfl rfl)
theorem dX9_followsNow_83 : decode cX9_followsNow 83 = .ok (.iload 7, 2) := dk_21 7 (dk_at dksX9_followsNow_3 13 rfl rfl)
theorem dX9_followsNow_85 : decode cX9_followsNow 85 = .ok (.invokevirtual 217, 3) := dk_182 0 217 (dk_at dksX9_followsNow_3 15 rfl rfl)
theorem dX9_followsNow_88 : decode cX9_followsNow 88 = .ok (.iload 4, 2) := dk_21 4 (dk_at dksX9_followsNow_3 18 rfl rfl)
theorem dX9_followsNow_90 : decode cX9_followsNow 90 = .ok (.if_icmp .ne 16, 3) := dk_160 0 16 (dk_at dksX9_followsNow_3 20 rfl rfl)
theorem dX9_followsNow_93 : decode cX9_followsNow 93 = .ok (.aload_n 0, 1) := dk_42 (dk_at dksX9_followsNow_3 23 rfl rfl)
theorem dX9_followsNow_94 : decode cX9_followsNow 94 = .ok (.iload_n 3, 1) := dk_29 (dk_at dksX9_followsNow_4 0 rfl rfl)
theorem dX9_followsNow_95 : decode cX9_followsNow 95 = .ok (.iload 7, 2) := dk_21 7 (dk_at dksX9_followsNow_4 1 rfl rfl)
theorem dX9_followsNow_97 : decode cX9_followsNow 97 = .ok (.iconst 0, 1) := dk_3 (dk_at dksX9_followsNow_4 3 rfl rfl)
theorem dX9_followsNow_98 : decode cX9_followsNow 98 = .ok (.iload 5, 2) := dk_21 5 (dk_at dksX9_followsNow_4 4 rfl rfl)
theorem dX9_followsNow_100 : decode cX9_followsNow 100 = .ok (.invokevirtual 271, 3) := dk_182 1 15 (dk_at dksX9_followsNow_4 6 rfl rfl)
theorem dX9_followsNow_103 : decode cX9_followsNow 103 = .ok (.ifCond .eq 28, 3) := dk_153 0 28 (dk_at dksX9_followsNow_4 9 rfl rfl)
theorem dX9_followsNow_106 : decode cX9_followsNow 106 = .ok (.aload_n 0, 1) := dk_42 (dk_at dksX9_followsNow_4 12 rfl rfl)
theorem dX9_followsNow_107 : decode cX9_followsNow 107 = .ok (.iload_n 3, 1) := dk_29 (dk_at dksX9_followsNow_4 13 rfl rfl)
theorem dX9_followsNow_108 : decode cX9_followsNow 108 = .ok (.iload 7, 2) := dk_21 7 (dk_at dksX9_followsNow_4 14 rfl rfl)
theorem dX9_followsNow_110 : decode cX9_followsNow 110 = .ok (.invokevirtual 223, 3) := dk_182 0 223 (dk_at dksX9_followsNow_4 16 rfl rfl)
theorem dX9_followsNow_113 : decode cX9_followsNow 113 = .ok (.iload 4, 2) := dk_21 4 (dk_at dksX9_followsNow_4 19 rfl rfl)
theorem dX9_followsNow_115 : decode cX9_followsNow 115 = .ok (.if_icmp .ne 20, 3) := dk_160 0 20 (dk_at dksX9_followsNow_4 21 rfl rfl)
theorem dX9_followsNow_118 : decode cX9_followsNow 118 = .ok (.aload_n 0, 1) := dk_42 (dk_at dksX9_followsNow_5 0 rfl rfl)
theorem dX9_followsNow_119 : decode cX9_followsNow 119 = .ok (.iload_n 3, 1) := dk_29 (dk_at dksX9_followsNow_5 1 rfl rfl)
theorem dX9_followsNow_120 : decode cX9_followsNow 120 = .ok (.iload 7, 2) := dk_21 7 (dk_at dksX9_followsNow_5 2 rfl rfl)
theorem dX9_followsNow_122 : decode cX9_followsNow 122 = .ok (.iconst 1, 1) := dk_4 (dk_at dksX9_followsNow_5 4 rfl rfl)
theorem dX9_followsNow_123 : decode cX9_followsNow 123 = .ok (.iload 5, 2) := dk_21 5 (dk_at dksX9_followsNow_5 5 rfl rfl)
theorem dX9_followsNow_125 : decode cX9_followsNow 125 = .ok (.invokevirtual 271, 3) := dk_182 1 15 (dk_at dksX9_followsNow_5 7 rfl rfl)
theorem dX9_followsNow_128 : decode cX9_followsNow 128 = .ok (.ifCond .ne 7, 3) := dk_154 0 7 (dk_at dksX9_followsNow_5 10 rfl rfl)
theorem dX9_followsNow_131 : decode cX9_followsNow 131 = .ok (.iconst 1, 1) := dk_4 (dk_at dksX9_followsNow_5 13 rfl rfl)
theorem dX9_followsNow_132 : decode cX9_followsNow 132 = .ok (.goto 4, 3) := dk_167 0 4 (dk_at dksX9_followsNow_5 14 rfl rfl)
theorem dX9_followsNow_135 : decode cX9_followsNow 135 = .ok (.iconst 0, 1) := dk_3 (dk_at dksX9_followsNow_5 17 rfl rfl)
theorem dX9_followsNow_136 : decode cX9_followsNow 136 = .ok (.istore 6, 2) := dk_54 6 (dk_at dksX9_followsNow_5 18 rfl rfl)
theorem dX9_followsNow_138 : decode cX9_followsNow 138 = .ok (.iinc 7 1, 3) := dk_132 7 1 (dk_at dksX9_followsNow_5 20 rfl rfl)
theorem dX9_followsNow_141 : decode cX9_followsNow 141 = .ok (.goto (-75), 3) := dk_167 255 181 (dk_at dksX9_followsNow_6 0 rfl rfl)
theorem dX9_followsNow_144 : decode cX9_followsNow 144 = .ok (.iload 6, 2) := dk_21 6 (dk_at dksX9_followsNow_6 3 rfl rfl)
theorem dX9_followsNow_146 : decode cX9_followsNow 146 = .ok (.ireturn, 1) := dk_172 (dk_at dksX9_followsNow_6 5 rfl rfl)
abbrev cX9_small : ByteArray := prog_33_method_77_code
def yX9_small : MethodName := ⟨RX9, "small", "(I)I"⟩
def dkwX9_small_3 : List UInt8 := [162, 0, 13, 42, 29, 182, 0, 252, 154, 0, 5, 29, 61, 132, 3, 1, 167, 255, 203, 28, 172]
abbrev dktX9_small_3 : List UInt8 := dkwX9_small_3 ++ []
def dkwX9_small_2 : List UInt8 := [29, 184, 1, 33, 28, 184, 1, 33, 161, 0, 19, 29, 184, 1, 33, 28, 184, 1, 33, 160, 0, 18, 29, 28]
abbrev dktX9_small_2 : List UInt8 := dkwX9_small_2 ++ dktX9_small_3
def dkwX9_small_1 : List UInt8 := [19, 1, 32, 182, 0, 106, 172, 27, 61, 3, 62, 29, 27, 162, 0, 54, 29, 27, 2, 130, 126, 154, 0, 40]
abbrev dktX9_small_1 : List UInt8 := dkwX9_small_1 ++ dktX9_small_2
def dkwX9_small_0 : List UInt8 := [42, 27, 182, 0, 249, 154, 0, 10, 42, 18, 105, 182, 0, 106, 172, 42, 27, 182, 0, 252, 153, 0, 11, 42]
abbrev dktX9_small_0 : List UInt8 := dkwX9_small_0 ++ dktX9_small_1
theorem dksX9_small_0 : cX9_small.data.toList.drop 0 = dktX9_small_0 := by decide +kernel
theorem dksX9_small_1 : cX9_small.data.toList.drop 24 = dktX9_small_1 := dk_seg dksX9_small_0 24 rfl rfl
theorem dksX9_small_2 : cX9_small.data.toList.drop 48 = dktX9_small_2 := dk_seg dksX9_small_1 24 rfl rfl
theorem dksX9_small_3 : cX9_small.data.toList.drop 72 = dktX9_small_3 := dk_seg dksX9_small_2 24 rfl rfl
theorem dX9_small_0 : decode cX9_small 0 = .ok (.aload_n 0, 1) := dk_42 (dk_at dksX9_small_0 0 rfl rfl)
theorem dX9_small_1 : decode cX9_small 1 = .ok (.iload_n 1, 1) := dk_27 (dk_at dksX9_small_0 1 rfl rfl)
theorem dX9_small_2 : decode cX9_small 2 = .ok (.invokevirtual 249, 3) := dk_182 0 249 (dk_at dksX9_small_0 2 rfl rfl)
theorem dX9_small_5 : decode cX9_small 5 = .ok (.ifCond .ne 10, 3) := dk_154 0 10 (dk_at dksX9_small_0 5 rfl rfl)
theorem dX9_small_8 : decode cX9_small 8 = .ok (.aload_n 0, 1) := dk_42 (dk_at dksX9_small_0 8 rfl rfl)
theorem dX9_small_9 : decode cX9_small 9 = .ok (.ldc 105, 2) := dk_18 105 (dk_at dksX9_small_0 9 rfl rfl)
theorem dX9_small_11 : decode cX9_small 11 = .ok (.invokevirtual 106, 3) := dk_182 0 106 (dk_at dksX9_small_0 11 rfl rfl)
theorem dX9_small_14 : decode cX9_small 14 = .ok (.ireturn, 1) := dk_172 (dk_at dksX9_small_0 14 rfl rfl)
theorem dX9_small_15 : decode cX9_small 15 = .ok (.aload_n 0, 1) := dk_42 (dk_at dksX9_small_0 15 rfl rfl)
theorem dX9_small_16 : decode cX9_small 16 = .ok (.iload_n 1, 1) := dk_27 (dk_at dksX9_small_0 16 rfl rfl)
theorem dX9_small_17 : decode cX9_small 17 = .ok (.invokevirtual 252, 3) := dk_182 0 252 (dk_at dksX9_small_0 17 rfl rfl)
theorem dX9_small_20 : decode cX9_small 20 = .ok (.ifCond .eq 11, 3) := dk_153 0 11 (dk_at dksX9_small_0 20 rfl rfl)
theorem dX9_small_23 : decode cX9_small 23 = .ok (.aload_n 0, 1) := dk_42 (dk_at dksX9_small_0 23 rfl rfl)
theorem dX9_small_24 : decode cX9_small 24 = .ok (.ldc_w 288, 3) := dk_19 1 32 (dk_at dksX9_small_1 0 rfl rfl)
theorem dX9_small_27 : decode cX9_small 27 = .ok (.invokevirtual 106, 3) := dk_182 0 106 (dk_at dksX9_small_1 3 rfl rfl)
theorem dX9_small_30 : decode cX9_small 30 = .ok (.ireturn, 1) := dk_172 (dk_at dksX9_small_1 6 rfl rfl)
theorem dX9_small_31 : decode cX9_small 31 = .ok (.iload_n 1, 1) := dk_27 (dk_at dksX9_small_1 7 rfl rfl)
theorem dX9_small_32 : decode cX9_small 32 = .ok (.istore_n 2, 1) := dk_61 (dk_at dksX9_small_1 8 rfl rfl)
theorem dX9_small_33 : decode cX9_small 33 = .ok (.iconst 0, 1) := dk_3 (dk_at dksX9_small_1 9 rfl rfl)
theorem dX9_small_34 : decode cX9_small 34 = .ok (.istore_n 3, 1) := dk_62 (dk_at dksX9_small_1 10 rfl rfl)
theorem dX9_small_35 : decode cX9_small 35 = .ok (.iload_n 3, 1) := dk_29 (dk_at dksX9_small_1 11 rfl rfl)
theorem dX9_small_36 : decode cX9_small 36 = .ok (.iload_n 1, 1) := dk_27 (dk_at dksX9_small_1 12 rfl rfl)
theorem dX9_small_37 : decode cX9_small 37 = .ok (.if_icmp .ge 54, 3) := dk_162 0 54 (dk_at dksX9_small_1 13 rfl rfl)
theorem dX9_small_40 : decode cX9_small 40 = .ok (.iload_n 3, 1) := dk_29 (dk_at dksX9_small_1 16 rfl rfl)
theorem dX9_small_41 : decode cX9_small 41 = .ok (.iload_n 1, 1) := dk_27 (dk_at dksX9_small_1 17 rfl rfl)
theorem dX9_small_42 : decode cX9_small 42 = .ok (.iconst (-1), 1) := dk_2 (dk_at dksX9_small_1 18 rfl rfl)
theorem dX9_small_43 : decode cX9_small 43 = .ok (.ixor, 1) := dk_130 (dk_at dksX9_small_1 19 rfl rfl)
theorem dX9_small_44 : decode cX9_small 44 = .ok (.iand, 1) := dk_126 (dk_at dksX9_small_1 20 rfl rfl)
theorem dX9_small_45 : decode cX9_small 45 = .ok (.ifCond .ne 40, 3) := dk_154 0 40 (dk_at dksX9_small_1 21 rfl rfl)
theorem dX9_small_48 : decode cX9_small 48 = .ok (.iload_n 3, 1) := dk_29 (dk_at dksX9_small_2 0 rfl rfl)
theorem dX9_small_49 : decode cX9_small 49 = .ok (.invokestatic 289, 3) := dk_184 1 33 (dk_at dksX9_small_2 1 rfl rfl)
theorem dX9_small_52 : decode cX9_small 52 = .ok (.iload_n 2, 1) := dk_28 (dk_at dksX9_small_2 4 rfl rfl)
theorem dX9_small_53 : decode cX9_small 53 = .ok (.invokestatic 289, 3) := dk_184 1 33 (dk_at dksX9_small_2 5 rfl rfl)
theorem dX9_small_56 : decode cX9_small 56 = .ok (.if_icmp .lt 19, 3) := dk_161 0 19 (dk_at dksX9_small_2 8 rfl rfl)
theorem dX9_small_59 : decode cX9_small 59 = .ok (.iload_n 3, 1) := dk_29 (dk_at dksX9_small_2 11 rfl rfl)
theorem dX9_small_60 : decode cX9_small 60 = .ok (.invokestatic 289, 3) := dk_184 1 33 (dk_at dksX9_small_2 12 rfl rfl)
theorem dX9_small_63 : decode cX9_small 63 = .ok (.iload_n 2, 1) := dk_28 (dk_at dksX9_small_2 15 rfl rfl)
theorem dX9_small_64 : decode cX9_small 64 = .ok (.invokestatic 289, 3) := dk_184 1 33 (dk_at dksX9_small_2 16 rfl rfl)
theorem dX9_small_67 : decode cX9_small 67 = .ok (.if_icmp .ne 18, 3) := dk_160 0 18 (dk_at dksX9_small_2 19 rfl rfl)
theorem dX9_small_70 : decode cX9_small 70 = .ok (.iload_n 3, 1) := dk_29 (dk_at dksX9_small_2 22 rfl rfl)
theorem dX9_small_71 : decode cX9_small 71 = .ok (.iload_n 2, 1) := dk_28 (dk_at dksX9_small_2 23 rfl rfl)
theorem dX9_small_72 : decode cX9_small 72 = .ok (.if_icmp .ge 13, 3) := dk_162 0 13 (dk_at dksX9_small_3 0 rfl rfl)
theorem dX9_small_75 : decode cX9_small 75 = .ok (.aload_n 0, 1) := dk_42 (dk_at dksX9_small_3 3 rfl rfl)
theorem dX9_small_76 : decode cX9_small 76 = .ok (.iload_n 3, 1) := dk_29 (dk_at dksX9_small_3 4 rfl rfl)
theorem dX9_small_77 : decode cX9_small 77 = .ok (.invokevirtual 252, 3) := dk_182 0 252 (dk_at dksX9_small_3 5 rfl rfl)
theorem dX9_small_80 : decode cX9_small 80 = .ok (.ifCond .ne 5, 3) := dk_154 0 5 (dk_at dksX9_small_3 8 rfl rfl)
theorem dX9_small_83 : decode cX9_small 83 = .ok (.iload_n 3, 1) := dk_29 (dk_at dksX9_small_3 11 rfl rfl)
theorem dX9_small_84 : decode cX9_small 84 = .ok (.istore_n 2, 1) := dk_61 (dk_at dksX9_small_3 12 rfl rfl)
theorem dX9_small_85 : decode cX9_small 85 = .ok (.iinc 3 1, 3) := dk_132 3 1 (dk_at dksX9_small_3 13 rfl rfl)
theorem dX9_small_88 : decode cX9_small 88 = .ok (.goto (-53), 3) := dk_167 255 203 (dk_at dksX9_small_3 16 rfl rfl)
theorem dX9_small_91 : decode cX9_small 91 = .ok (.iload_n 2, 1) := dk_28 (dk_at dksX9_small_3 19 rfl rfl)
theorem dX9_small_92 : decode cX9_small 92 = .ok (.ireturn, 1) := dk_172 (dk_at dksX9_small_3 20 rfl rfl)
abbrev cX9_bits : ByteArray := prog_33_method_76_code
def yX9_bits : MethodName := ⟨RX9, "bits", "(I)I"⟩
def dkwX9_bits_1 : List UInt8 := [27, 172]
abbrev dktX9_bits_1 : List UInt8 := dkwX9_bits_1 ++ []
def dkwX9_bits_0 : List UInt8 := [3, 60, 3, 61, 28, 16, 12, 162, 0, 17, 27, 26, 28, 122, 4, 126, 96, 60, 132, 2, 1, 167, 255, 239]
abbrev dktX9_bits_0 : List UInt8 := dkwX9_bits_0 ++ dktX9_bits_1
theorem dksX9_bits_0 : cX9_bits.data.toList.drop 0 = dktX9_bits_0 := by decide +kernel
theorem dksX9_bits_1 : cX9_bits.data.toList.drop 24 = dktX9_bits_1 := dk_seg dksX9_bits_0 24 rfl rfl
theorem dX9_bits_0 : decode cX9_bits 0 = .ok (.iconst 0, 1) := dk_3 (dk_at dksX9_bits_0 0 rfl rfl)
theorem dX9_bits_1 : decode cX9_bits 1 = .ok (.istore_n 1, 1) := dk_60 (dk_at dksX9_bits_0 1 rfl rfl)
theorem dX9_bits_2 : decode cX9_bits 2 = .ok (.iconst 0, 1) := dk_3 (dk_at dksX9_bits_0 2 rfl rfl)
theorem dX9_bits_3 : decode cX9_bits 3 = .ok (.istore_n 2, 1) := dk_61 (dk_at dksX9_bits_0 3 rfl rfl)
theorem dX9_bits_4 : decode cX9_bits 4 = .ok (.iload_n 2, 1) := dk_28 (dk_at dksX9_bits_0 4 rfl rfl)
theorem dX9_bits_5 : decode cX9_bits 5 = .ok (.bipush 12, 2) := dk_16 12 (dk_at dksX9_bits_0 5 rfl rfl)
theorem dX9_bits_7 : decode cX9_bits 7 = .ok (.if_icmp .ge 17, 3) := dk_162 0 17 (dk_at dksX9_bits_0 7 rfl rfl)
theorem dX9_bits_10 : decode cX9_bits 10 = .ok (.iload_n 1, 1) := dk_27 (dk_at dksX9_bits_0 10 rfl rfl)
theorem dX9_bits_11 : decode cX9_bits 11 = .ok (.iload_n 0, 1) := dk_26 (dk_at dksX9_bits_0 11 rfl rfl)
theorem dX9_bits_12 : decode cX9_bits 12 = .ok (.iload_n 2, 1) := dk_28 (dk_at dksX9_bits_0 12 rfl rfl)
theorem dX9_bits_13 : decode cX9_bits 13 = .ok (.ishr, 1) := dk_122 (dk_at dksX9_bits_0 13 rfl rfl)
theorem dX9_bits_14 : decode cX9_bits 14 = .ok (.iconst 1, 1) := dk_4 (dk_at dksX9_bits_0 14 rfl rfl)
theorem dX9_bits_15 : decode cX9_bits 15 = .ok (.iand, 1) := dk_126 (dk_at dksX9_bits_0 15 rfl rfl)
theorem dX9_bits_16 : decode cX9_bits 16 = .ok (.iadd, 1) := dk_96 (dk_at dksX9_bits_0 16 rfl rfl)
theorem dX9_bits_17 : decode cX9_bits 17 = .ok (.istore_n 1, 1) := dk_60 (dk_at dksX9_bits_0 17 rfl rfl)
theorem dX9_bits_18 : decode cX9_bits 18 = .ok (.iinc 2 1, 3) := dk_132 2 1 (dk_at dksX9_bits_0 18 rfl rfl)
theorem dX9_bits_21 : decode cX9_bits 21 = .ok (.goto (-17), 3) := dk_167 255 239 (dk_at dksX9_bits_0 21 rfl rfl)
theorem dX9_bits_24 : decode cX9_bits 24 = .ok (.iload_n 1, 1) := dk_27 (dk_at dksX9_bits_1 0 rfl rfl)
theorem dX9_bits_25 : decode cX9_bits 25 = .ok (.ireturn, 1) := dk_172 (dk_at dksX9_bits_1 1 rfl rfl)
abbrev cX9_few : ByteArray := prog_33_method_78_code
def yX9_few : MethodName := ⟨RX9, "few", "(I)I"⟩
def dkwX9_few_3 : List UInt8 := [167, 255, 227, 132, 2, 1, 167, 255, 213, 17, 15, 255, 172]
abbrev dktX9_few_3 : List UInt8 := dkwX9_few_3 ++ []
def dkwX9_few_2 : List UInt8 := [29, 184, 1, 33, 28, 160, 0, 14, 42, 3, 29, 182, 0, 240, 154, 0, 5, 29, 172, 132, 3, 1]
abbrev dktX9_few_2 : List UInt8 := dkwX9_few_2 ++ dktX9_few_3
def dkwX9_few_1 : List UInt8 := [19, 1, 32, 182, 0, 106, 172, 4, 61, 28, 16, 12, 162, 0, 43, 4, 62, 29, 17, 15, 255, 162, 0, 28]
abbrev dktX9_few_1 : List UInt8 := dkwX9_few_1 ++ dktX9_few_2
def dkwX9_few_0 : List UInt8 := [42, 27, 182, 0, 249, 154, 0, 10, 42, 18, 105, 182, 0, 106, 172, 42, 27, 182, 0, 252, 153, 0, 11, 42]
abbrev dktX9_few_0 : List UInt8 := dkwX9_few_0 ++ dktX9_few_1
theorem dksX9_few_0 : cX9_few.data.toList.drop 0 = dktX9_few_0 := by decide +kernel
theorem dksX9_few_1 : cX9_few.data.toList.drop 24 = dktX9_few_1 := dk_seg dksX9_few_0 24 rfl rfl
theorem dksX9_few_2 : cX9_few.data.toList.drop 48 = dktX9_few_2 := dk_seg dksX9_few_1 24 rfl rfl
theorem dksX9_few_3 : cX9_few.data.toList.drop 70 = dktX9_few_3 := dk_seg dksX9_few_2 22 rfl rfl
theorem dX9_few_0 : decode cX9_few 0 = .ok (.aload_n 0, 1) := dk_42 (dk_at dksX9_few_0 0 rfl rfl)
theorem dX9_few_1 : decode cX9_few 1 = .ok (.iload_n 1, 1) := dk_27 (dk_at dksX9_few_0 1 rfl rfl)
theorem dX9_few_2 : decode cX9_few 2 = .ok (.invokevirtual 249, 3) := dk_182 0 249 (dk_at dksX9_few_0 2 rfl rfl)
theorem dX9_few_5 : decode cX9_few 5 = .ok (.ifCond .ne 10, 3) := dk_154 0 10 (dk_at dksX9_few_0 5 rfl rfl)
theorem dX9_few_8 : decode cX9_few 8 = .ok (.aload_n 0, 1) := dk_42 (dk_at dksX9_few_0 8 rfl rfl)
theorem dX9_few_9 : decode cX9_few 9 = .ok (.ldc 105, 2) := dk_18 105 (dk_at dksX9_few_0 9 rfl rfl)
theorem dX9_few_11 : decode cX9_few 11 = .ok (.invokevirtual 106, 3) := dk_182 0 106 (dk_at dksX9_few_0 11 rfl rfl)
theorem dX9_few_14 : decode cX9_few 14 = .ok (.ireturn, 1) := dk_172 (dk_at dksX9_few_0 14 rfl rfl)
theorem dX9_few_15 : decode cX9_few 15 = .ok (.aload_n 0, 1) := dk_42 (dk_at dksX9_few_0 15 rfl rfl)
theorem dX9_few_16 : decode cX9_few 16 = .ok (.iload_n 1, 1) := dk_27 (dk_at dksX9_few_0 16 rfl rfl)
theorem dX9_few_17 : decode cX9_few 17 = .ok (.invokevirtual 252, 3) := dk_182 0 252 (dk_at dksX9_few_0 17 rfl rfl)
theorem dX9_few_20 : decode cX9_few 20 = .ok (.ifCond .eq 11, 3) := dk_153 0 11 (dk_at dksX9_few_0 20 rfl rfl)
theorem dX9_few_23 : decode cX9_few 23 = .ok (.aload_n 0, 1) := dk_42 (dk_at dksX9_few_0 23 rfl rfl)
theorem dX9_few_24 : decode cX9_few 24 = .ok (.ldc_w 288, 3) := dk_19 1 32 (dk_at dksX9_few_1 0 rfl rfl)
theorem dX9_few_27 : decode cX9_few 27 = .ok (.invokevirtual 106, 3) := dk_182 0 106 (dk_at dksX9_few_1 3 rfl rfl)
theorem dX9_few_30 : decode cX9_few 30 = .ok (.ireturn, 1) := dk_172 (dk_at dksX9_few_1 6 rfl rfl)
theorem dX9_few_31 : decode cX9_few 31 = .ok (.iconst 1, 1) := dk_4 (dk_at dksX9_few_1 7 rfl rfl)
theorem dX9_few_32 : decode cX9_few 32 = .ok (.istore_n 2, 1) := dk_61 (dk_at dksX9_few_1 8 rfl rfl)
theorem dX9_few_33 : decode cX9_few 33 = .ok (.iload_n 2, 1) := dk_28 (dk_at dksX9_few_1 9 rfl rfl)
theorem dX9_few_34 : decode cX9_few 34 = .ok (.bipush 12, 2) := dk_16 12 (dk_at dksX9_few_1 10 rfl rfl)
theorem dX9_few_36 : decode cX9_few 36 = .ok (.if_icmp .ge 43, 3) := dk_162 0 43 (dk_at dksX9_few_1 12 rfl rfl)
theorem dX9_few_39 : decode cX9_few 39 = .ok (.iconst 1, 1) := dk_4 (dk_at dksX9_few_1 15 rfl rfl)
theorem dX9_few_40 : decode cX9_few 40 = .ok (.istore_n 3, 1) := dk_62 (dk_at dksX9_few_1 16 rfl rfl)
theorem dX9_few_41 : decode cX9_few 41 = .ok (.iload_n 3, 1) := dk_29 (dk_at dksX9_few_1 17 rfl rfl)
theorem dX9_few_42 : decode cX9_few 42 = .ok (.sipush 4095, 3) := dk_17 15 255 (dk_at dksX9_few_1 18 rfl rfl)
theorem dX9_few_45 : decode cX9_few 45 = .ok (.if_icmp .ge 28, 3) := dk_162 0 28 (dk_at dksX9_few_1 21 rfl rfl)
theorem dX9_few_48 : decode cX9_few 48 = .ok (.iload_n 3, 1) := dk_29 (dk_at dksX9_few_2 0 rfl rfl)
theorem dX9_few_49 : decode cX9_few 49 = .ok (.invokestatic 289, 3) := dk_184 1 33 (dk_at dksX9_few_2 1 rfl rfl)
theorem dX9_few_52 : decode cX9_few 52 = .ok (.iload_n 2, 1) := dk_28 (dk_at dksX9_few_2 4 rfl rfl)
theorem dX9_few_53 : decode cX9_few 53 = .ok (.if_icmp .ne 14, 3) := dk_160 0 14 (dk_at dksX9_few_2 5 rfl rfl)
theorem dX9_few_56 : decode cX9_few 56 = .ok (.aload_n 0, 1) := dk_42 (dk_at dksX9_few_2 8 rfl rfl)
theorem dX9_few_57 : decode cX9_few 57 = .ok (.iconst 0, 1) := dk_3 (dk_at dksX9_few_2 9 rfl rfl)
theorem dX9_few_58 : decode cX9_few 58 = .ok (.iload_n 3, 1) := dk_29 (dk_at dksX9_few_2 10 rfl rfl)
theorem dX9_few_59 : decode cX9_few 59 = .ok (.invokevirtual 240, 3) := dk_182 0 240 (dk_at dksX9_few_2 11 rfl rfl)
theorem dX9_few_62 : decode cX9_few 62 = .ok (.ifCond .ne 5, 3) := dk_154 0 5 (dk_at dksX9_few_2 14 rfl rfl)
theorem dX9_few_65 : decode cX9_few 65 = .ok (.iload_n 3, 1) := dk_29 (dk_at dksX9_few_2 17 rfl rfl)
theorem dX9_few_66 : decode cX9_few 66 = .ok (.ireturn, 1) := dk_172 (dk_at dksX9_few_2 18 rfl rfl)
theorem dX9_few_67 : decode cX9_few 67 = .ok (.iinc 3 1, 3) := dk_132 3 1 (dk_at dksX9_few_2 19 rfl rfl)
theorem dX9_few_70 : decode cX9_few 70 = .ok (.goto (-29), 3) := dk_167 255 227 (dk_at dksX9_few_3 0 rfl rfl)
theorem dX9_few_73 : decode cX9_few 73 = .ok (.iinc 2 1, 3) := dk_132 2 1 (dk_at dksX9_few_3 3 rfl rfl)
theorem dX9_few_76 : decode cX9_few 76 = .ok (.goto (-43), 3) := dk_167 255 213 (dk_at dksX9_few_3 6 rfl rfl)
theorem dX9_few_79 : decode cX9_few 79 = .ok (.sipush 4095, 3) := dk_17 15 255 (dk_at dksX9_few_3 9 rfl rfl)
theorem dX9_few_82 : decode cX9_few 82 = .ok (.ireturn, 1) := dk_172 (dk_at dksX9_few_3 12 rfl rfl)
abbrev cX9_give : ByteArray := prog_33_method_80_code
def yX9_give : MethodName := ⟨RX9, "give", "(II)I"⟩
def dkwX9_give_6 : List UInt8 := [29, 167, 0, 8, 42, 29, 182, 1, 36, 172]
abbrev dktX9_give_6 : List UInt8 := dkwX9_give_6 ++ []
def dkwX9_give_5 : List UInt8 := [21, 4, 2, 130, 126, 182, 0, 252, 153, 0, 6, 21, 4, 62, 132, 4, 1, 167, 255, 152, 28, 154, 0, 7]
abbrev dktX9_give_5 : List UInt8 := dkwX9_give_5 ++ dktX9_give_6
def dkwX9_give_4 : List UInt8 := [4, 167, 0, 4, 3, 54, 6, 21, 4, 27, 2, 130, 126, 154, 0, 24, 21, 6, 153, 0, 19, 42, 27]
abbrev dktX9_give_4 : List UInt8 := dkwX9_give_4 ++ dktX9_give_5
def dkwX9_give_3 : List UInt8 := [184, 1, 33, 161, 0, 21, 21, 4, 184, 1, 33, 29, 184, 1, 33, 160, 0, 13, 21, 4, 29, 162, 0, 7]
abbrev dktX9_give_3 : List UInt8 := dkwX9_give_3 ++ dktX9_give_4
def dkwX9_give_2 : List UInt8 := [182, 1, 36, 161, 0, 43, 21, 5, 42, 29, 182, 1, 36, 160, 0, 37, 21, 4, 184, 1, 33, 29]
abbrev dktX9_give_2 : List UInt8 := dkwX9_give_2 ++ dktX9_give_3
def dkwX9_give_1 : List UInt8 := [27, 62, 3, 54, 4, 21, 4, 27, 162, 0, 104, 42, 21, 4, 182, 1, 36, 54, 5, 21, 5, 42, 29]
abbrev dktX9_give_1 : List UInt8 := dkwX9_give_1 ++ dktX9_give_2
def dkwX9_give_0 : List UInt8 := [42, 27, 182, 0, 249, 153, 0, 12, 28, 3, 4, 184, 0, 94, 154, 0, 10, 42, 18, 105, 182, 0, 106, 172]
abbrev dktX9_give_0 : List UInt8 := dkwX9_give_0 ++ dktX9_give_1
theorem dksX9_give_0 : cX9_give.data.toList.drop 0 = dktX9_give_0 := by decide +kernel
theorem dksX9_give_1 : cX9_give.data.toList.drop 24 = dktX9_give_1 := dk_seg dksX9_give_0 24 rfl rfl
theorem dksX9_give_2 : cX9_give.data.toList.drop 47 = dktX9_give_2 := dk_seg dksX9_give_1 23 rfl rfl
theorem dksX9_give_3 : cX9_give.data.toList.drop 69 = dktX9_give_3 := dk_seg dksX9_give_2 22 rfl rfl
theorem dksX9_give_4 : cX9_give.data.toList.drop 93 = dktX9_give_4 := dk_seg dksX9_give_3 24 rfl rfl
theorem dksX9_give_5 : cX9_give.data.toList.drop 116 = dktX9_give_5 := dk_seg dksX9_give_4 23 rfl rfl
theorem dksX9_give_6 : cX9_give.data.toList.drop 140 = dktX9_give_6 := dk_seg dksX9_give_5 24 rfl rfl
theorem dX9_give_0 : decode cX9_give 0 = .ok (.aload_n 0, 1) := dk_42 (dk_at dksX9_give_0 0 rfl rfl)
theorem dX9_give_1 : decode cX9_give 1 = .ok (.iload_n 1, 1) := dk_27 (dk_at dksX9_give_0 1 rfl rfl)
theorem dX9_give_2 : decode cX9_give 2 = .ok (.invokevirtual 249, 3) := dk_182 0 249 (dk_at dksX9_give_0 2 rfl rfl)
theorem dX9_give_5 : decode cX9_give 5 = .ok (.ifCond .eq 12, 3) := dk_153 0 12 (dk_at dksX9_give_0 5 rfl rfl)
theorem dX9_give_8 : decode cX9_give 8 = .ok (.iload_n 2, 1) := dk_28 (dk_at dksX9_give_0 8 rfl rfl)
theorem dX9_give_9 : decode cX9_give 9 = .ok (.iconst 0, 1) := dk_3 (dk_at dksX9_give_0 9 rfl rfl)
theorem dX9_give_10 : decode cX9_give 10 = .ok (.iconst 1, 1) := dk_4 (dk_at dksX9_give_0 10 rfl rfl)
theorem dX9_give_11 : decode cX9_give 11 = .ok (.invokestatic 94, 3) := dk_184 0 94 (dk_at dksX9_give_0 11 rfl rfl)
theorem dX9_give_14 : decode cX9_give 14 = .ok (.ifCond .ne 10, 3) := dk_154 0 10 (dk_at dksX9_give_0 14 rfl rfl)
theorem dX9_give_17 : decode cX9_give 17 = .ok (.aload_n 0, 1) := dk_42 (dk_at dksX9_give_0 17 rfl rfl)
theorem dX9_give_18 : decode cX9_give 18 = .ok (.ldc 105, 2) := dk_18 105 (dk_at dksX9_give_0 18 rfl rfl)
theorem dX9_give_20 : decode cX9_give 20 = .ok (.invokevirtual 106, 3) := dk_182 0 106 (dk_at dksX9_give_0 20 rfl rfl)
theorem dX9_give_23 : decode cX9_give 23 = .ok (.ireturn, 1) := dk_172 (dk_at dksX9_give_0 23 rfl rfl)
theorem dX9_give_24 : decode cX9_give 24 = .ok (.iload_n 1, 1) := dk_27 (dk_at dksX9_give_1 0 rfl rfl)
theorem dX9_give_25 : decode cX9_give 25 = .ok (.istore_n 3, 1) := dk_62 (dk_at dksX9_give_1 1 rfl rfl)
theorem dX9_give_26 : decode cX9_give 26 = .ok (.iconst 0, 1) := dk_3 (dk_at dksX9_give_1 2 rfl rfl)
theorem dX9_give_27 : decode cX9_give 27 = .ok (.istore 4, 2) := dk_54 4 (dk_at dksX9_give_1 3 rfl rfl)
theorem dX9_give_29 : decode cX9_give 29 = .ok (.iload 4, 2) := dk_21 4 (dk_at dksX9_give_1 5 rfl rfl)
theorem dX9_give_31 : decode cX9_give 31 = .ok (.iload_n 1, 1) := dk_27 (dk_at dksX9_give_1 7 rfl rfl)
theorem dX9_give_32 : decode cX9_give 32 = .ok (.if_icmp .ge 104, 3) := dk_162 0 104 (dk_at dksX9_give_1 8 rfl rfl)
theorem dX9_give_35 : decode cX9_give 35 = .ok (.aload_n 0, 1) := dk_42 (dk_at dksX9_give_1 11 rfl rfl)
theorem dX9_give_36 : decode cX9_give 36 = .ok (.iload 4, 2) := dk_21 4 (dk_at dksX9_give_1 12 rfl rfl)
theorem dX9_give_38 : decode cX9_give 38 = .ok (.invokevirtual 292, 3) := dk_182 1 36 (dk_at dksX9_give_1 14 rfl rfl)
theorem dX9_give_41 : decode cX9_give 41 = .ok (.istore 5, 2) := dk_54 5 (dk_at dksX9_give_1 17 rfl rfl)
theorem dX9_give_43 : decode cX9_give 43 = .ok (.iload 5, 2) := dk_21 5 (dk_at dksX9_give_1 19 rfl rfl)
theorem dX9_give_45 : decode cX9_give 45 = .ok (.aload_n 0, 1) := dk_42 (dk_at dksX9_give_1 21 rfl rfl)
theorem dX9_give_46 : decode cX9_give 46 = .ok (.iload_n 3, 1) := dk_29 (dk_at dksX9_give_1 22 rfl rfl)
theorem dX9_give_47 : decode cX9_give 47 = .ok (.invokevirtual 292, 3) := dk_182 1 36 (dk_at dksX9_give_2 0 rfl rfl)
theorem dX9_give_50 : decode cX9_give 50 = .ok (.if_icmp .lt 43, 3) := dk_161 0 43 (dk_at dksX9_give_2 3 rfl rfl)
theorem dX9_give_53 : decode cX9_give 53 = .ok (.iload 5, 2) := dk_21 5 (dk_at dksX9_give_2 6 rfl rfl)
theorem dX9_give_55 : decode cX9_give 55 = .ok (.aload_n 0, 1) := dk_42 (dk_at dksX9_give_2 8 rfl rfl)
theorem dX9_give_56 : decode cX9_give 56 = .ok (.iload_n 3, 1) := dk_29 (dk_at dksX9_give_2 9 rfl rfl)
theorem dX9_give_57 : decode cX9_give 57 = .ok (.invokevirtual 292, 3) := dk_182 1 36 (dk_at dksX9_give_2 10 rfl rfl)
theorem dX9_give_60 : decode cX9_give 60 = .ok (.if_icmp .ne 37, 3) := dk_160 0 37 (dk_at dksX9_give_2 13 rfl rfl)
theorem dX9_give_63 : decode cX9_give 63 = .ok (.iload 4, 2) := dk_21 4 (dk_at dksX9_give_2 16 rfl rfl)
theorem dX9_give_65 : decode cX9_give 65 = .ok (.invokestatic 289, 3) := dk_184 1 33 (dk_at dksX9_give_2 18 rfl rfl)
theorem dX9_give_68 : decode cX9_give 68 = .ok (.iload_n 3, 1) := dk_29 (dk_at dksX9_give_2 21 rfl rfl)
theorem dX9_give_69 : decode cX9_give 69 = .ok (.invokestatic 289, 3) := dk_184 1 33 (dk_at dksX9_give_3 0 rfl rfl)
theorem dX9_give_72 : decode cX9_give 72 = .ok (.if_icmp .lt 21, 3) := dk_161 0 21 (dk_at dksX9_give_3 3 rfl rfl)
theorem dX9_give_75 : decode cX9_give 75 = .ok (.iload 4, 2) := dk_21 4 (dk_at dksX9_give_3 6 rfl rfl)
theorem dX9_give_77 : decode cX9_give 77 = .ok (.invokestatic 289, 3) := dk_184 1 33 (dk_at dksX9_give_3 8 rfl rfl)
theorem dX9_give_80 : decode cX9_give 80 = .ok (.iload_n 3, 1) := dk_29 (dk_at dksX9_give_3 11 rfl rfl)
theorem dX9_give_81 : decode cX9_give 81 = .ok (.invokestatic 289, 3) := dk_184 1 33 (dk_at dksX9_give_3 12 rfl rfl)
theorem dX9_give_84 : decode cX9_give 84 = .ok (.if_icmp .ne 13, 3) := dk_160 0 13 (dk_at dksX9_give_3 15 rfl rfl)
theorem dX9_give_87 : decode cX9_give 87 = .ok (.iload 4, 2) := dk_21 4 (dk_at dksX9_give_3 18 rfl rfl)
theorem dX9_give_89 : decode cX9_give 89 = .ok (.iload_n 3, 1) := dk_29 (dk_at dksX9_give_3 20 rfl rfl)
theorem dX9_give_90 : decode cX9_give 90 = .ok (.if_icmp .ge 7, 3) := dk_162 0 7 (dk_at dksX9_give_3 21 rfl rfl)
theorem dX9_give_93 : decode cX9_give 93 = .ok (.iconst 1, 1) := dk_4 (dk_at dksX9_give_4 0 rfl rfl)
theorem dX9_give_94 : decode cX9_give 94 = .ok (.goto 4, 3) := dk_167 0 4 (dk_at dksX9_give_4 1 rfl rfl)
theorem dX9_give_97 : decode cX9_give 97 = .ok (.iconst 0, 1) := dk_3 (dk_at dksX9_give_4 4 rfl rfl)
theorem dX9_give_98 : decode cX9_give 98 = .ok (.istore 6, 2) := dk_54 6 (dk_at dksX9_give_4 5 rfl rfl)
theorem dX9_give_100 : decode cX9_give 100 = .ok (.iload 4, 2) := dk_21 4 (dk_at dksX9_give_4 7 rfl rfl)
theorem dX9_give_102 : decode cX9_give 102 = .ok (.iload_n 1, 1) := dk_27 (dk_at dksX9_give_4 9 rfl rfl)
theorem dX9_give_103 : decode cX9_give 103 = .ok (.iconst (-1), 1) := dk_2 (dk_at dksX9_give_4 10 rfl rfl)
theorem dX9_give_104 : decode cX9_give 104 = .ok (.ixor, 1) := dk_130 (dk_at dksX9_give_4 11 rfl rfl)
theorem dX9_give_105 : decode cX9_give 105 = .ok (.iand, 1) := dk_126 (dk_at dksX9_give_4 12 rfl rfl)
theorem dX9_give_106 : decode cX9_give 106 = .ok (.ifCond .ne 24, 3) := dk_154 0 24 (dk_at dksX9_give_4 13 rfl rfl)
theorem dX9_give_109 : decode cX9_give 109 = .ok (.iload 6, 2) := dk_21 6 (dk_at dksX9_give_4 16 rfl rfl)
theorem dX9_give_111 : decode cX9_give 111 = .ok (.ifCond .eq 19, 3) := dk_153 0 19 (dk_at dksX9_give_4 18 rfl rfl)
theorem dX9_give_114 : decode cX9_give 114 = .ok (.aload_n 0, 1) := dk_42 (dk_at dksX9_give_4 21 rfl rfl)
theorem dX9_give_115 : decode cX9_give 115 = .ok (.iload_n 1, 1) := dk_27 (dk_at dksX9_give_4 22 rfl rfl)
theorem dX9_give_116 : decode cX9_give 116 = .ok (.iload 4, 2) := dk_21 4 (dk_at dksX9_give_5 0 rfl rfl)
theorem dX9_give_118 : decode cX9_give 118 = .ok (.iconst (-1), 1) := dk_2 (dk_at dksX9_give_5 2 rfl rfl)
theorem dX9_give_119 : decode cX9_give 119 = .ok (.ixor, 1) := dk_130 (dk_at dksX9_give_5 3 rfl rfl)
theorem dX9_give_120 : decode cX9_give 120 = .ok (.iand, 1) := dk_126 (dk_at dksX9_give_5 4 rfl rfl)
theorem dX9_give_121 : decode cX9_give 121 = .ok (.invokevirtual 252, 3) := dk_182 0 252 (dk_at dksX9_give_5 5 rfl rfl)
theorem dX9_give_124 : decode cX9_give 124 = .ok (.ifCond .eq 6, 3) := dk_153 0 6 (dk_at dksX9_give_5 8 rfl rfl)
theorem dX9_give_127 : decode cX9_give 127 = .ok (.iload 4, 2) := dk_21 4 (dk_at dksX9_give_5 11 rfl rfl)
theorem dX9_give_129 : decode cX9_give 129 = .ok (.istore_n 3, 1) := dk_62 (dk_at dksX9_give_5 13 rfl rfl)
theorem dX9_give_130 : decode cX9_give 130 = .ok (.iinc 4 1, 3) := dk_132 4 1 (dk_at dksX9_give_5 14 rfl rfl)
theorem dX9_give_133 : decode cX9_give 133 = .ok (.goto (-104), 3) := dk_167 255 152 (dk_at dksX9_give_5 17 rfl rfl)
theorem dX9_give_136 : decode cX9_give 136 = .ok (.iload_n 2, 1) := dk_28 (dk_at dksX9_give_5 20 rfl rfl)
theorem dX9_give_137 : decode cX9_give 137 = .ok (.ifCond .ne 7, 3) := dk_154 0 7 (dk_at dksX9_give_5 21 rfl rfl)
theorem dX9_give_140 : decode cX9_give 140 = .ok (.iload_n 3, 1) := dk_29 (dk_at dksX9_give_6 0 rfl rfl)
theorem dX9_give_141 : decode cX9_give 141 = .ok (.goto 8, 3) := dk_167 0 8 (dk_at dksX9_give_6 1 rfl rfl)
theorem dX9_give_144 : decode cX9_give 144 = .ok (.aload_n 0, 1) := dk_42 (dk_at dksX9_give_6 4 rfl rfl)
theorem dX9_give_145 : decode cX9_give 145 = .ok (.iload_n 3, 1) := dk_29 (dk_at dksX9_give_6 5 rfl rfl)
theorem dX9_give_146 : decode cX9_give 146 = .ok (.invokevirtual 292, 3) := dk_182 1 36 (dk_at dksX9_give_6 6 rfl rfl)
theorem dX9_give_149 : decode cX9_give 149 = .ok (.ireturn, 1) := dk_172 (dk_at dksX9_give_6 9 rfl rfl)
abbrev cX9_priceOf : ByteArray := prog_33_method_79_code
def yX9_priceOf : MethodName := ⟨RX9, "priceOf", "(I)I"⟩
def dkwX9_priceOf_1 : List UInt8 := [180, 0, 9, 16, 30, 29, 96, 46, 167, 0, 4, 3, 96, 61, 132, 3, 1, 167, 255, 219, 28, 172]
abbrev dktX9_priceOf_1 : List UInt8 := dkwX9_priceOf_1 ++ []
def dkwX9_priceOf_0 : List UInt8 := [3, 61, 3, 62, 29, 42, 180, 0, 9, 3, 46, 162, 0, 33, 28, 27, 29, 184, 0, 226, 153, 0, 15, 42]
abbrev dktX9_priceOf_0 : List UInt8 := dkwX9_priceOf_0 ++ dktX9_priceOf_1
theorem dksX9_priceOf_0 : cX9_priceOf.data.toList.drop 0 = dktX9_priceOf_0 := by decide +kernel
theorem dksX9_priceOf_1 : cX9_priceOf.data.toList.drop 24 = dktX9_priceOf_1 := dk_seg dksX9_priceOf_0 24 rfl rfl
theorem dX9_priceOf_0 : decode cX9_priceOf 0 = .ok (.iconst 0, 1) := dk_3 (dk_at dksX9_priceOf_0 0 rfl rfl)
theorem dX9_priceOf_1 : decode cX9_priceOf 1 = .ok (.istore_n 2, 1) := dk_61 (dk_at dksX9_priceOf_0 1 rfl rfl)
theorem dX9_priceOf_2 : decode cX9_priceOf 2 = .ok (.iconst 0, 1) := dk_3 (dk_at dksX9_priceOf_0 2 rfl rfl)
theorem dX9_priceOf_3 : decode cX9_priceOf 3 = .ok (.istore_n 3, 1) := dk_62 (dk_at dksX9_priceOf_0 3 rfl rfl)
theorem dX9_priceOf_4 : decode cX9_priceOf 4 = .ok (.iload_n 3, 1) := dk_29 (dk_at dksX9_priceOf_0 4 rfl rfl)
theorem dX9_priceOf_5 : decode cX9_priceOf 5 = .ok (.aload_n 0, 1) := dk_42 (dk_at dksX9_priceOf_0 5 rfl rfl)
theorem dX9_priceOf_6 : decode cX9_priceOf 6 = .ok (.getfield 9, 3) := dk_180 0 9 (dk_at dksX9_priceOf_0 6 rfl rfl)
theorem dX9_priceOf_9 : decode cX9_priceOf 9 = .ok (.iconst 0, 1) := dk_3 (dk_at dksX9_priceOf_0 9 rfl rfl)
theorem dX9_priceOf_10 : decode cX9_priceOf 10 = .ok (.iaload, 1) := dk_46 (dk_at dksX9_priceOf_0 10 rfl rfl)
theorem dX9_priceOf_11 : decode cX9_priceOf 11 = .ok (.if_icmp .ge 33, 3) := dk_162 0 33 (dk_at dksX9_priceOf_0 11 rfl rfl)
theorem dX9_priceOf_14 : decode cX9_priceOf 14 = .ok (.iload_n 2, 1) := dk_28 (dk_at dksX9_priceOf_0 14 rfl rfl)
theorem dX9_priceOf_15 : decode cX9_priceOf 15 = .ok (.iload_n 1, 1) := dk_27 (dk_at dksX9_priceOf_0 15 rfl rfl)
theorem dX9_priceOf_16 : decode cX9_priceOf 16 = .ok (.iload_n 3, 1) := dk_29 (dk_at dksX9_priceOf_0 16 rfl rfl)
theorem dX9_priceOf_17 : decode cX9_priceOf 17 = .ok (.invokestatic 226, 3) := dk_184 0 226 (dk_at dksX9_priceOf_0 17 rfl rfl)
theorem dX9_priceOf_20 : decode cX9_priceOf 20 = .ok (.ifCond .eq 15, 3) := dk_153 0 15 (dk_at dksX9_priceOf_0 20 rfl rfl)
theorem dX9_priceOf_23 : decode cX9_priceOf 23 = .ok (.aload_n 0, 1) := dk_42 (dk_at dksX9_priceOf_0 23 rfl rfl)
theorem dX9_priceOf_24 : decode cX9_priceOf 24 = .ok (.getfield 9, 3) := dk_180 0 9 (dk_at dksX9_priceOf_1 0 rfl rfl)
theorem dX9_priceOf_27 : decode cX9_priceOf 27 = .ok (.bipush 30, 2) := dk_16 30 (dk_at dksX9_priceOf_1 3 rfl rfl)
theorem dX9_priceOf_29 : decode cX9_priceOf 29 = .ok (.iload_n 3, 1) := dk_29 (dk_at dksX9_priceOf_1 5 rfl rfl)
theorem dX9_priceOf_30 : decode cX9_priceOf 30 = .ok (.iadd, 1) := dk_96 (dk_at dksX9_priceOf_1 6 rfl rfl)
theorem dX9_priceOf_31 : decode cX9_priceOf 31 = .ok (.iaload, 1) := dk_46 (dk_at dksX9_priceOf_1 7 rfl rfl)
theorem dX9_priceOf_32 : decode cX9_priceOf 32 = .ok (.goto 4, 3) := dk_167 0 4 (dk_at dksX9_priceOf_1 8 rfl rfl)
theorem dX9_priceOf_35 : decode cX9_priceOf 35 = .ok (.iconst 0, 1) := dk_3 (dk_at dksX9_priceOf_1 11 rfl rfl)
theorem dX9_priceOf_36 : decode cX9_priceOf 36 = .ok (.iadd, 1) := dk_96 (dk_at dksX9_priceOf_1 12 rfl rfl)
theorem dX9_priceOf_37 : decode cX9_priceOf 37 = .ok (.istore_n 2, 1) := dk_61 (dk_at dksX9_priceOf_1 13 rfl rfl)
theorem dX9_priceOf_38 : decode cX9_priceOf 38 = .ok (.iinc 3 1, 3) := dk_132 3 1 (dk_at dksX9_priceOf_1 14 rfl rfl)
theorem dX9_priceOf_41 : decode cX9_priceOf 41 = .ok (.goto (-37), 3) := dk_167 255 219 (dk_at dksX9_priceOf_1 17 rfl rfl)
theorem dX9_priceOf_44 : decode cX9_priceOf 44 = .ok (.iload_n 2, 1) := dk_28 (dk_at dksX9_priceOf_1 20 rfl rfl)
theorem dX9_priceOf_45 : decode cX9_priceOf 45 = .ok (.ireturn, 1) := dk_172 (dk_at dksX9_priceOf_1 21 rfl rfl)
abbrev cX9_follows : ByteArray := prog_33_method_82_code
def yX9_follows : MethodName := ⟨RX9, "follows", "(II)I"⟩
def dkwX9_follows_1 : List UInt8 := [27, 28, 182, 1, 42, 153, 0, 7, 4, 167, 0, 4, 3, 172]
abbrev dktX9_follows_1 : List UInt8 := dkwX9_follows_1 ++ []
def dkwX9_follows_0 : List UInt8 := [42, 27, 182, 0, 249, 153, 0, 11, 42, 28, 182, 0, 204, 154, 0, 10, 42, 18, 105, 182, 0, 106, 172, 42]
abbrev dktX9_follows_0 : List UInt8 := dkwX9_follows_0 ++ dktX9_follows_1
theorem dksX9_follows_0 : cX9_follows.data.toList.drop 0 = dktX9_follows_0 := by decide +kernel
theorem dksX9_follows_1 : cX9_follows.data.toList.drop 24 = dktX9_follows_1 := dk_seg dksX9_follows_0 24 rfl rfl
theorem dX9_follows_0 : decode cX9_follows 0 = .ok (.aload_n 0, 1) := dk_42 (dk_at dksX9_follows_0 0 rfl rfl)
theorem dX9_follows_1 : decode cX9_follows 1 = .ok (.iload_n 1, 1) := dk_27 (dk_at dksX9_follows_0 1 rfl rfl)
theorem dX9_follows_2 : decode cX9_follows 2 = .ok (.invokevirtual 249, 3) := dk_182 0 249 (dk_at dksX9_follows_0 2 rfl rfl)
theorem dX9_follows_5 : decode cX9_follows 5 = .ok (.ifCond .eq 11, 3) := dk_153 0 11 (dk_at dksX9_follows_0 5 rfl rfl)
theorem dX9_follows_8 : decode cX9_follows 8 = .ok (.aload_n 0, 1) := dk_42 (dk_at dksX9_follows_0 8 rfl rfl)
theorem dX9_follows_9 : decode cX9_follows 9 = .ok (.iload_n 2, 1) := dk_28 (dk_at dksX9_follows_0 9 rfl rfl)
theorem dX9_follows_10 : decode cX9_follows 10 = .ok (.invokevirtual 204, 3) := dk_182 0 204 (dk_at dksX9_follows_0 10 rfl rfl)
theorem dX9_follows_13 : decode cX9_follows 13 = .ok (.ifCond .ne 10, 3) := dk_154 0 10 (dk_at dksX9_follows_0 13 rfl rfl)
theorem dX9_follows_16 : decode cX9_follows 16 = .ok (.aload_n 0, 1) := dk_42 (dk_at dksX9_follows_0 16 rfl rfl)
theorem dX9_follows_17 : decode cX9_follows 17 = .ok (.ldc 105, 2) := dk_18 105 (dk_at dksX9_follows_0 17 rfl rfl)
theorem dX9_follows_19 : decode cX9_follows 19 = .ok (.invokevirtual 106, 3) := dk_182 0 106 (dk_at dksX9_follows_0 19 rfl rfl)
theorem dX9_follows_22 : decode cX9_follows 22 = .ok (.ireturn, 1) := dk_172 (dk_at dksX9_follows_0 22 rfl rfl)
theorem dX9_follows_23 : decode cX9_follows 23 = .ok (.aload_n 0, 1) := dk_42 (dk_at dksX9_follows_0 23 rfl rfl)
theorem dX9_follows_24 : decode cX9_follows 24 = .ok (.iload_n 1, 1) := dk_27 (dk_at dksX9_follows_1 0 rfl rfl)
theorem dX9_follows_25 : decode cX9_follows 25 = .ok (.iload_n 2, 1) := dk_28 (dk_at dksX9_follows_1 1 rfl rfl)
theorem dX9_follows_26 : decode cX9_follows 26 = .ok (.invokevirtual 298, 3) := dk_182 1 42 (dk_at dksX9_follows_1 2 rfl rfl)
theorem dX9_follows_29 : decode cX9_follows 29 = .ok (.ifCond .eq 7, 3) := dk_153 0 7 (dk_at dksX9_follows_1 5 rfl rfl)
theorem dX9_follows_32 : decode cX9_follows 32 = .ok (.iconst 1, 1) := dk_4 (dk_at dksX9_follows_1 8 rfl rfl)
theorem dX9_follows_33 : decode cX9_follows 33 = .ok (.goto 4, 3) := dk_167 0 4 (dk_at dksX9_follows_1 9 rfl rfl)
theorem dX9_follows_36 : decode cX9_follows 36 = .ok (.iconst 0, 1) := dk_3 (dk_at dksX9_follows_1 12 rfl rfl)
theorem dX9_follows_37 : decode cX9_follows 37 = .ok (.ireturn, 1) := dk_172 (dk_at dksX9_follows_1 13 rfl rfl)
abbrev cX9_isFollowing : ByteArray := prog_33_method_81_code
def yX9_isFollowing : MethodName := ⟨RX9, "isFollowing", "(II)Z"⟩
def dkwX9_isFollowing_8 : List UInt8 := [180, 0, 40, 21, 9, 21, 7, 79, 21, 8, 153, 0, 5, 3, 172, 132, 3, 1, 167, 255, 58, 4, 172]
abbrev dktX9_isFollowing_8 : List UInt8 := dkwX9_isFollowing_8 ++ []
def dkwX9_isFollowing_7 : List UInt8 := [21, 6, 167, 0, 8, 21, 6, 184, 0, 237, 126, 79, 42, 3, 17, 15, 255, 182, 0, 240, 54, 8, 42]
abbrev dktX9_isFollowing_7 : List UInt8 := dkwX9_isFollowing_7 ++ dktX9_isFollowing_8
def dkwX9_isFollowing_6 : List UInt8 := [21, 5, 184, 1, 39, 96, 54, 9, 42, 180, 0, 40, 21, 9, 21, 7, 21, 4, 21, 5, 162, 0, 8]
abbrev dktX9_isFollowing_6 : List UInt8 := dkwX9_isFollowing_6 ++ dktX9_isFollowing_7
def dkwX9_isFollowing_5 : List UInt8 := [180, 0, 37, 21, 4, 21, 7, 79, 167, 0, 69, 16, 12, 21, 4, 21, 5, 184, 0, 119, 104, 21, 4]
abbrev dktX9_isFollowing_5 : List UInt8 := dkwX9_isFollowing_5 ++ dktX9_isFollowing_6
def dkwX9_isFollowing_4 : List UInt8 := [42, 180, 0, 37, 21, 4, 21, 7, 21, 6, 126, 79, 42, 3, 17, 15, 255, 182, 0, 240, 54, 8, 42]
abbrev dktX9_isFollowing_4 : List UInt8 := dkwX9_isFollowing_4 ++ dktX9_isFollowing_5
def dkwX9_isFollowing_3 : List UInt8 := [21, 4, 21, 5, 184, 0, 119, 104, 21, 4, 21, 5, 184, 1, 39, 96, 46, 54, 7, 21, 5, 156, 0, 37]
abbrev dktX9_isFollowing_3 : List UInt8 := dkwX9_isFollowing_3 ++ dktX9_isFollowing_4
def dkwX9_isFollowing_2 : List UInt8 := [54, 6, 21, 5, 156, 0, 13, 42, 180, 0, 37, 21, 4, 46, 167, 0, 26, 42, 180, 0, 40, 16, 12]
abbrev dktX9_isFollowing_2 : List UInt8 := dkwX9_isFollowing_2 ++ dktX9_isFollowing_3
def dkwX9_isFollowing_1 : List UInt8 := [42, 28, 29, 182, 0, 223, 54, 5, 42, 180, 0, 9, 16, 110, 16, 32, 28, 104, 96, 29, 96, 46, 2, 130]
abbrev dktX9_isFollowing_1 : List UInt8 := dkwX9_isFollowing_1 ++ dktX9_isFollowing_2
def dkwX9_isFollowing_0 : List UInt8 := [42, 27, 182, 0, 246, 3, 62, 29, 42, 28, 182, 0, 210, 162, 0, 195, 42, 28, 29, 182, 0, 217, 54, 4]
abbrev dktX9_isFollowing_0 : List UInt8 := dkwX9_isFollowing_0 ++ dktX9_isFollowing_1
theorem dksX9_isFollowing_0 : cX9_isFollowing.data.toList.drop 0 = dktX9_isFollowing_0 := by decide +kernel
theorem dksX9_isFollowing_1 : cX9_isFollowing.data.toList.drop 24 = dktX9_isFollowing_1 := dk_seg dksX9_isFollowing_0 24 rfl rfl
theorem dksX9_isFollowing_2 : cX9_isFollowing.data.toList.drop 48 = dktX9_isFollowing_2 := dk_seg dksX9_isFollowing_1 24 rfl rfl
theorem dksX9_isFollowing_3 : cX9_isFollowing.data.toList.drop 71 = dktX9_isFollowing_3 := dk_seg dksX9_isFollowing_2 23 rfl rfl
theorem dksX9_isFollowing_4 : cX9_isFollowing.data.toList.drop 95 = dktX9_isFollowing_4 := dk_seg dksX9_isFollowing_3 24 rfl rfl
theorem dksX9_isFollowing_5 : cX9_isFollowing.data.toList.drop 118 = dktX9_isFollowing_5 := dk_seg dksX9_isFollowing_4 23 rfl rfl
theorem dksX9_isFollowing_6 : cX9_isFollowing.data.toList.drop 141 = dktX9_isFollowing_6 := dk_seg dksX9_isFollowing_5 23 rfl rfl
theorem dksX9_isFollowing_7 : cX9_isFollowing.data.toList.drop 164 = dktX9_isFollowing_7 := dk_seg dksX9_isFollowing_6 23 rfl rfl
theorem dksX9_isFollowing_8 : cX9_isFollowing.data.toList.drop 187 = dktX9_isFollowing_8 := dk_seg dksX9_isFollowing_7 23 rfl rfl
theorem dX9_isFollowing_0 : decode cX9_isFollowing 0 = .ok (.aload_n 0, 1) := dk_42 (dk_at dksX9_isFollowing_0 0 rfl rfl)
theorem dX9_isFollowing_1 : decode cX9_isFollowing 1 = .ok (.iload_n 1, 1) := dk_27 (dk_at dksX9_isFollowing_0 1 rfl rfl)
theorem dX9_isFollowing_2 : decode cX9_isFollowing 2 = .ok (.invokevirtual 246, 3) := dk_182 0 246 (dk_at dksX9_isFollowing_0 2 rfl rfl)
theorem dX9_isFollowing_5 : decode cX9_isFollowing 5 = .ok (.iconst 0, 1) := dk_3 (dk_at dksX9_isFollowing_0 5 rfl rfl)
theorem dX9_isFollowing_6 : decode cX9_isFollowing 6 = .ok (.istore_n 3, 1) := dk_62 (dk_at dksX9_isFollowing_0 6 rfl rfl)
theorem dX9_isFollowing_7 : decode cX9_isFollowing 7 = .ok (.iload_n 3, 1) := dk_29 (dk_at dksX9_isFollowing_0 7 rfl rfl)
theorem dX9_isFollowing_8 : decode cX9_isFollowing 8 = .ok (.aload_n 0, 1) := dk_42 (dk_at dksX9_isFollowing_0 8 rfl rfl)
theorem dX9_isFollowing_9 : decode cX9_isFollowing 9 = .ok (.iload_n 2, 1) := dk_28 (dk_at dksX9_isFollowing_0 9 rfl rfl)
theorem dX9_isFollowing_10 : decode cX9_isFollowing 10 = .ok (.invokevirtual 210, 3) := dk_182 0 210 (dk_at dksX9_isFollowing_0 10 rfl rfl)
theorem dX9_isFollowing_13 : decode cX9_isFollowing 13 = .ok (.if_icmp .ge 195, 3) := dk_162 0 195 (dk_at dksX9_isFollowing_0 13 rfl rfl)
theorem dX9_isFollowing_16 : decode cX9_isFollowing 16 = .ok (.aload_n 0, 1) := dk_42 (dk_at dksX9_isFollowing_0 16 rfl rfl)
theorem dX9_isFollowing_17 : decode cX9_isFollowing 17 = .ok (.iload_n 2, 1) := dk_28 (dk_at dksX9_isFollowing_0 17 rfl rfl)
theorem dX9_isFollowing_18 : decode cX9_isFollowing 18 = .ok (.iload_n 3, 1) := dk_29 (dk_at dksX9_isFollowing_0 18 rfl rfl)
theorem dX9_isFollowing_19 : decode cX9_isFollowing 19 = .ok (.invokevirtual 217, 3) := dk_182 0 217 (dk_at dksX9_isFollowing_0 19 rfl rfl)
theorem dX9_isFollowing_22 : decode cX9_isFollowing 22 = .ok (.istore 4, 2) := dk_54 4 (dk_at dksX9_isFollowing_0 22 rfl rfl)
theorem dX9_isFollowing_24 : decode cX9_isFollowing 24 = .ok (.aload_n 0, 1) := dk_42 (dk_at dksX9_isFollowing_1 0 rfl rfl)
theorem dX9_isFollowing_25 : decode cX9_isFollowing 25 = .ok (.iload_n 2, 1) := dk_28 (dk_at dksX9_isFollowing_1 1 rfl rfl)
theorem dX9_isFollowing_26 : decode cX9_isFollowing 26 = .ok (.iload_n 3, 1) := dk_29 (dk_at dksX9_isFollowing_1 2 rfl rfl)
theorem dX9_isFollowing_27 : decode cX9_isFollowing 27 = .ok (.invokevirtual 223, 3) := dk_182 0 223 (dk_at dksX9_isFollowing_1 3 rfl rfl)
theorem dX9_isFollowing_30 : decode cX9_isFollowing 30 = .ok (.istore 5, 2) := dk_54 5 (dk_at dksX9_isFollowing_1 6 rfl rfl)
theorem dX9_isFollowing_32 : decode cX9_isFollowing 32 = .ok (.aload_n 0, 1) := dk_42 (dk_at dksX9_isFollowing_1 8 rfl rfl)
theorem dX9_isFollowing_33 : decode cX9_isFollowing 33 = .ok (.getfield 9, 3) := dk_180 0 9 (dk_at dksX9_isFollowing_1 9 rfl rfl)
theorem dX9_isFollowing_36 : decode cX9_isFollowing 36 = .ok (.bipush 110, 2) := dk_16 110 (dk_at dksX9_isFollowing_1 12 rfl rfl)
theorem dX9_isFollowing_38 : decode cX9_isFollowing 38 = .ok (.bipush 32, 2) := dk_16 32 (dk_at dksX9_isFollowing_1 14 rfl rfl)
theorem dX9_isFollowing_40 : decode cX9_isFollowing 40 = .ok (.iload_n 2, 1) := dk_28 (dk_at dksX9_isFollowing_1 16 rfl rfl)
theorem dX9_isFollowing_41 : decode cX9_isFollowing 41 = .ok (.imul, 1) := dk_104 (dk_at dksX9_isFollowing_1 17 rfl rfl)
theorem dX9_isFollowing_42 : decode cX9_isFollowing 42 = .ok (.iadd, 1) := dk_96 (dk_at dksX9_isFollowing_1 18 rfl rfl)
theorem dX9_isFollowing_43 : decode cX9_isFollowing 43 = .ok (.iload_n 3, 1) := dk_29 (dk_at dksX9_isFollowing_1 19 rfl rfl)
theorem dX9_isFollowing_44 : decode cX9_isFollowing 44 = .ok (.iadd, 1) := dk_96 (dk_at dksX9_isFollowing_1 20 rfl rfl)
theorem dX9_isFollowing_45 : decode cX9_isFollowing 45 = .ok (.iaload, 1) := dk_46 (dk_at dksX9_isFollowing_1 21 rfl rfl)
theorem dX9_isFollowing_46 : decode cX9_isFollowing 46 = .ok (.iconst (-1), 1) := dk_2 (dk_at dksX9_isFollowing_1 22 rfl rfl)
theorem dX9_isFollowing_47 : decode cX9_isFollowing 47 = .ok (.ixor, 1) := dk_130 (dk_at dksX9_isFollowing_1 23 rfl rfl)
theorem dX9_isFollowing_48 : decode cX9_isFollowing 48 = .ok (.istore 6, 2) := dk_54 6 (dk_at dksX9_isFollowing_2 0 rfl rfl)
theorem dX9_isFollowing_50 : decode cX9_isFollowing 50 = .ok (.iload 5, 2) := dk_21 5 (dk_at dksX9_isFollowing_2 2 rfl rfl)
theorem dX9_isFollowing_52 : decode cX9_isFollowing 52 = .ok (.ifCond .ge 13, 3) := dk_156 0 13 (dk_at dksX9_isFollowing_2 4 rfl rfl)
theorem dX9_isFollowing_55 : decode cX9_isFollowing 55 = .ok (.aload_n 0, 1) := dk_42 (dk_at dksX9_isFollowing_2 7 rfl rfl)
theorem dX9_isFollowing_56 : decode cX9_isFollowing 56 = .ok (.getfield 37, 3) := dk_180 0 37 (dk_at dksX9_isFollowing_2 8 rfl rfl)
theorem dX9_isFollowing_59 : decode cX9_isFollowing 59 = .ok (.iload 4, 2) := dk_21 4 (dk_at dksX9_isFollowing_2 11 rfl rfl)
theorem dX9_isFollowing_61 : decode cX9_isFollowing 61 = .ok (.iaload, 1) := dk_46 (dk_at dksX9_isFollowing_2 13 rfl rfl)
theorem dX9_isFollowing_62 : decode cX9_isFollowing 62 = .ok (.goto 26, 3) := dk_167 0 26 (dk_at dksX9_isFollowing_2 14 rfl rfl)
theorem dX9_isFollowing_65 : decode cX9_isFollowing 65 = .ok (.aload_n 0, 1) := dk_42 (dk_at dksX9_isFollowing_2 17 rfl rfl)
theorem dX9_isFollowing_66 : decode cX9_isFollowing 66 = .ok (.getfield 40, 3) := dk_180 0 40 (dk_at dksX9_isFollowing_2 18 rfl rfl)
theorem dX9_isFollowing_69 : decode cX9_isFollowing 69 = .ok (.bipush 12, 2) := dk_16 12 (dk_at dksX9_isFollowing_2 21 rfl rfl)
theorem dX9_isFollowing_71 : decode cX9_isFollowing 71 = .ok (.iload 4, 2) := dk_21 4 (dk_at dksX9_isFollowing_3 0 rfl rfl)
theorem dX9_isFollowing_73 : decode cX9_isFollowing 73 = .ok (.iload 5, 2) := dk_21 5 (dk_at dksX9_isFollowing_3 2 rfl rfl)
theorem dX9_isFollowing_75 : decode cX9_isFollowing 75 = .ok (.invokestatic 119, 3) := dk_184 0 119 (dk_at dksX9_isFollowing_3 4 rfl rfl)
theorem dX9_isFollowing_78 : decode cX9_isFollowing 78 = .ok (.imul, 1) := dk_104 (dk_at dksX9_isFollowing_3 7 rfl rfl)
theorem dX9_isFollowing_79 : decode cX9_isFollowing 79 = .ok (.iload 4, 2) := dk_21 4 (dk_at dksX9_isFollowing_3 8 rfl rfl)
theorem dX9_isFollowing_81 : decode cX9_isFollowing 81 = .ok (.iload 5, 2) := dk_21 5 (dk_at dksX9_isFollowing_3 10 rfl rfl)
theorem dX9_isFollowing_83 : decode cX9_isFollowing 83 = .ok (.invokestatic 295, 3) := dk_184 1 39 (dk_at dksX9_isFollowing_3 12 rfl rfl)
theorem dX9_isFollowing_86 : decode cX9_isFollowing 86 = .ok (.iadd, 1) := dk_96 (dk_at dksX9_isFollowing_3 15 rfl rfl)
theorem dX9_isFollowing_87 : decode cX9_isFollowing 87 = .ok (.iaload, 1) := dk_46 (dk_at dksX9_isFollowing_3 16 rfl rfl)
theorem dX9_isFollowing_88 : decode cX9_isFollowing 88 = .ok (.istore 7, 2) := dk_54 7 (dk_at dksX9_isFollowing_3 17 rfl rfl)
theorem dX9_isFollowing_90 : decode cX9_isFollowing 90 = .ok (.iload 5, 2) := dk_21 5 (dk_at dksX9_isFollowing_3 19 rfl rfl)
theorem dX9_isFollowing_92 : decode cX9_isFollowing 92 = .ok (.ifCond .ge 37, 3) := dk_156 0 37 (dk_at dksX9_isFollowing_3 21 rfl rfl)
theorem dX9_isFollowing_95 : decode cX9_isFollowing 95 = .ok (.aload_n 0, 1) := dk_42 (dk_at dksX9_isFollowing_4 0 rfl rfl)
theorem dX9_isFollowing_96 : decode cX9_isFollowing 96 = .ok (.getfield 37, 3) := dk_180 0 37 (dk_at dksX9_isFollowing_4 1 rfl rfl)
theorem dX9_isFollowing_99 : decode cX9_isFollowing 99 = .ok (.iload 4, 2) := dk_21 4 (dk_at dksX9_isFollowing_4 4 rfl rfl)
theorem dX9_isFollowing_101 : decode cX9_isFollowing 101 = .ok (.iload 7, 2) := dk_21 7 (dk_at dksX9_isFollowing_4 6 rfl rfl)
theorem dX9_isFollowing_103 : decode cX9_isFollowing 103 = .ok (.iload 6, 2) := dk_21 6 (dk_at dksX9_isFollowing_4 8 rfl rfl)
theorem dX9_isFollowing_105 : decode cX9_isFollowing 105 = .ok (.iand, 1) := dk_126 (dk_at dksX9_isFollowing_4 10 rfl rfl)
theorem dX9_isFollowing_106 : decode cX9_isFollowing 106 = .ok (.iastore, 1) := dk_79 (dk_at dksX9_isFollowing_4 11 rfl rfl)
theorem dX9_isFollowing_107 : decode cX9_isFollowing 107 = .ok (.aload_n 0, 1) := dk_42 (dk_at dksX9_isFollowing_4 12 rfl rfl)
theorem dX9_isFollowing_108 : decode cX9_isFollowing 108 = .ok (.iconst 0, 1) := dk_3 (dk_at dksX9_isFollowing_4 13 rfl rfl)
theorem dX9_isFollowing_109 : decode cX9_isFollowing 109 = .ok (.sipush 4095, 3) := dk_17 15 255 (dk_at dksX9_isFollowing_4 14 rfl rfl)
theorem dX9_isFollowing_112 : decode cX9_isFollowing 112 = .ok (.invokevirtual 240, 3) := dk_182 0 240 (dk_at dksX9_isFollowing_4 17 rfl rfl)
theorem dX9_isFollowing_115 : decode cX9_isFollowing 115 = .ok (.istore 8, 2) := dk_54 8 (dk_at dksX9_isFollowing_4 20 rfl rfl)
theorem dX9_isFollowing_117 : decode cX9_isFollowing 117 = .ok (.aload_n 0, 1) := dk_42 (dk_at dksX9_isFollowing_4 22 rfl rfl)
theorem dX9_isFollowing_118 : decode cX9_isFollowing 118 = .ok (.getfield 37, 3) := dk_180 0 37 (dk_at dksX9_isFollowing_5 0 rfl rfl)
theorem dX9_isFollowing_121 : decode cX9_isFollowing 121 = .ok (.iload 4, 2) := dk_21 4 (dk_at dksX9_isFollowing_5 3 rfl rfl)
theorem dX9_isFollowing_123 : decode cX9_isFollowing 123 = .ok (.iload 7, 2) := dk_21 7 (dk_at dksX9_isFollowing_5 5 rfl rfl)
theorem dX9_isFollowing_125 : decode cX9_isFollowing 125 = .ok (.iastore, 1) := dk_79 (dk_at dksX9_isFollowing_5 7 rfl rfl)
theorem dX9_isFollowing_126 : decode cX9_isFollowing 126 = .ok (.goto 69, 3) := dk_167 0 69 (dk_at dksX9_isFollowing_5 8 rfl rfl)
theorem dX9_isFollowing_129 : decode cX9_isFollowing 129 = .ok (.bipush 12, 2) := dk_16 12 (dk_at dksX9_isFollowing_5 11 rfl rfl)
theorem dX9_isFollowing_131 : decode cX9_isFollowing 131 = .ok (.iload 4, 2) := dk_21 4 (dk_at dksX9_isFollowing_5 13 rfl rfl)
theorem dX9_isFollowing_133 : decode cX9_isFollowing 133 = .ok (.iload 5, 2) := dk_21 5 (dk_at dksX9_isFollowing_5 15 rfl rfl)
theorem dX9_isFollowing_135 : decode cX9_isFollowing 135 = .ok (.invokestatic 119, 3) := dk_184 0 119 (dk_at dksX9_isFollowing_5 17 rfl rfl)
theorem dX9_isFollowing_138 : decode cX9_isFollowing 138 = .ok (.imul, 1) := dk_104 (dk_at dksX9_isFollowing_5 20 rfl rfl)
theorem dX9_isFollowing_139 : decode cX9_isFollowing 139 = .ok (.iload 4, 2) := dk_21 4 (dk_at dksX9_isFollowing_5 21 rfl rfl)
theorem dX9_isFollowing_141 : decode cX9_isFollowing 141 = .ok (.iload 5, 2) := dk_21 5 (dk_at dksX9_isFollowing_6 0 rfl rfl)
theorem dX9_isFollowing_143 : decode cX9_isFollowing 143 = .ok (.invokestatic 295, 3) := dk_184 1 39 (dk_at dksX9_isFollowing_6 2 rfl rfl)
theorem dX9_isFollowing_146 : decode cX9_isFollowing 146 = .ok (.iadd, 1) := dk_96 (dk_at dksX9_isFollowing_6 5 rfl rfl)
theorem dX9_isFollowing_147 : decode cX9_isFollowing 147 = .ok (.istore 9, 2) := dk_54 9 (dk_at dksX9_isFollowing_6 6 rfl rfl)
theorem dX9_isFollowing_149 : decode cX9_isFollowing 149 = .ok (.aload_n 0, 1) := dk_42 (dk_at dksX9_isFollowing_6 8 rfl rfl)
theorem dX9_isFollowing_150 : decode cX9_isFollowing 150 = .ok (.getfield 40, 3) := dk_180 0 40 (dk_at dksX9_isFollowing_6 9 rfl rfl)
theorem dX9_isFollowing_153 : decode cX9_isFollowing 153 = .ok (.iload 9, 2) := dk_21 9 (dk_at dksX9_isFollowing_6 12 rfl rfl)
theorem dX9_isFollowing_155 : decode cX9_isFollowing 155 = .ok (.iload 7, 2) := dk_21 7 (dk_at dksX9_isFollowing_6 14 rfl rfl)
theorem dX9_isFollowing_157 : decode cX9_isFollowing 157 = .ok (.iload 4, 2) := dk_21 4 (dk_at dksX9_isFollowing_6 16 rfl rfl)
theorem dX9_isFollowing_159 : decode cX9_isFollowing 159 = .ok (.iload 5, 2) := dk_21 5 (dk_at dksX9_isFollowing_6 18 rfl rfl)
theorem dX9_isFollowing_161 : decode cX9_isFollowing 161 = .ok (.if_icmp .ge 8, 3) := dk_162 0 8 (dk_at dksX9_isFollowing_6 20 rfl rfl)
theorem dX9_isFollowing_164 : decode cX9_isFollowing 164 = .ok (.iload 6, 2) := dk_21 6 (dk_at dksX9_isFollowing_7 0 rfl rfl)
theorem dX9_isFollowing_166 : decode cX9_isFollowing 166 = .ok (.goto 8, 3) := dk_167 0 8 (dk_at dksX9_isFollowing_7 2 rfl rfl)
theorem dX9_isFollowing_169 : decode cX9_isFollowing 169 = .ok (.iload 6, 2) := dk_21 6 (dk_at dksX9_isFollowing_7 5 rfl rfl)
theorem dX9_isFollowing_171 : decode cX9_isFollowing 171 = .ok (.invokestatic 237, 3) := dk_184 0 237 (dk_at dksX9_isFollowing_7 7 rfl rfl)
theorem dX9_isFollowing_174 : decode cX9_isFollowing 174 = .ok (.iand, 1) := dk_126 (dk_at dksX9_isFollowing_7 10 rfl rfl)
theorem dX9_isFollowing_175 : decode cX9_isFollowing 175 = .ok (.iastore, 1) := dk_79 (dk_at dksX9_isFollowing_7 11 rfl rfl)
theorem dX9_isFollowing_176 : decode cX9_isFollowing 176 = .ok (.aload_n 0, 1) := dk_42 (dk_at dksX9_isFollowing_7 12 rfl rfl)
theorem dX9_isFollowing_177 : decode cX9_isFollowing 177 = .ok (.iconst 0, 1) := dk_3 (dk_at dksX9_isFollowing_7 13 rfl rfl)
theorem dX9_isFollowing_178 : decode cX9_isFollowing 178 = .ok (.sipush 4095, 3) := dk_17 15 255 (dk_at dksX9_isFollowing_7 14 rfl rfl)
theorem dX9_isFollowing_181 : decode cX9_isFollowing 181 = .ok (.invokevirtual 240, 3) := dk_182 0 240 (dk_at dksX9_isFollowing_7 17 rfl rfl)
theorem dX9_isFollowing_184 : decode cX9_isFollowing 184 = .ok (.istore 8, 2) := dk_54 8 (dk_at dksX9_isFollowing_7 20 rfl rfl)
theorem dX9_isFollowing_186 : decode cX9_isFollowing 186 = .ok (.aload_n 0, 1) := dk_42 (dk_at dksX9_isFollowing_7 22 rfl rfl)
theorem dX9_isFollowing_187 : decode cX9_isFollowing 187 = .ok (.getfield 40, 3) := dk_180 0 40 (dk_at dksX9_isFollowing_8 0 rfl rfl)
theorem dX9_isFollowing_190 : decode cX9_isFollowing 190 = .ok (.iload 9, 2) := dk_21 9 (dk_at dksX9_isFollowing_8 3 rfl rfl)
theorem dX9_isFollowing_192 : decode cX9_isFollowing 192 = .ok (.iload 7, 2) := dk_21 7 (dk_at dksX9_isFollowing_8 5 rfl rfl)
theorem dX9_isFollowing_194 : decode cX9_isFollowing 194 = .ok (.iastore, 1) := dk_79 (dk_at dksX9_isFollowing_8 7 rfl rfl)
theorem dX9_isFollowing_195 : decode cX9_isFollowing 195 = .ok (.iload 8, 2) := dk_21 8 (dk_at dksX9_isFollowing_8 8 rfl rfl)
theorem dX9_isFollowing_197 : decode cX9_isFollowing 197 = .ok (.ifCond .eq 5, 3) := dk_153 0 5 (dk_at dksX9_isFollowing_8 10 rfl rfl)
theorem dX9_isFollowing_200 : decode cX9_isFollowing 200 = .ok (.iconst 0, 1) := dk_3 (dk_at dksX9_isFollowing_8 13 rfl rfl)
theorem dX9_isFollowing_201 : decode cX9_isFollowing 201 = .ok (.ireturn, 1) := dk_172 (dk_at dksX9_isFollowing_8 14 rfl rfl)
theorem dX9_isFollowing_202 : decode cX9_isFollowing 202 = .ok (.iinc 3 1, 3) := dk_132 3 1 (dk_at dksX9_isFollowing_8 15 rfl rfl)
theorem dX9_isFollowing_205 : decode cX9_isFollowing 205 = .ok (.goto (-198), 3) := dk_167 255 58 (dk_at dksX9_isFollowing_8 18 rfl rfl)
theorem dX9_isFollowing_208 : decode cX9_isFollowing 208 = .ok (.iconst 1, 1) := dk_4 (dk_at dksX9_isFollowing_8 21 rfl rfl)
theorem dX9_isFollowing_209 : decode cX9_isFollowing 209 = .ok (.ireturn, 1) := dk_172 (dk_at dksX9_isFollowing_8 22 rfl rfl)
abbrev cX9_spare : ByteArray := prog_33_method_83_code
def yX9_spare : MethodName := ⟨RX9, "spare", "(I)I"⟩
def dkwX9_spare_2 : List UInt8 := [182, 1, 42, 153, 0, 9, 4, 29, 120, 167, 0, 4, 3, 128, 61, 132, 3, 1, 167, 255, 210, 28, 172]
abbrev dktX9_spare_2 : List UInt8 := dkwX9_spare_2 ++ []
def dkwX9_spare_1 : List UInt8 := [3, 46, 162, 0, 42, 28, 27, 29, 184, 0, 226, 153, 0, 24, 42, 27, 4, 29, 120, 2, 130, 126, 29]
abbrev dktX9_spare_1 : List UInt8 := dkwX9_spare_1 ++ dktX9_spare_2
def dkwX9_spare_0 : List UInt8 := [42, 27, 182, 0, 249, 154, 0, 10, 42, 18, 105, 182, 0, 106, 172, 3, 61, 3, 62, 29, 42, 180, 0, 9]
abbrev dktX9_spare_0 : List UInt8 := dkwX9_spare_0 ++ dktX9_spare_1
theorem dksX9_spare_0 : cX9_spare.data.toList.drop 0 = dktX9_spare_0 := by decide +kernel
theorem dksX9_spare_1 : cX9_spare.data.toList.drop 24 = dktX9_spare_1 := dk_seg dksX9_spare_0 24 rfl rfl
theorem dksX9_spare_2 : cX9_spare.data.toList.drop 47 = dktX9_spare_2 := dk_seg dksX9_spare_1 23 rfl rfl
theorem dX9_spare_0 : decode cX9_spare 0 = .ok (.aload_n 0, 1) := dk_42 (dk_at dksX9_spare_0 0 rfl rfl)
theorem dX9_spare_1 : decode cX9_spare 1 = .ok (.iload_n 1, 1) := dk_27 (dk_at dksX9_spare_0 1 rfl rfl)
theorem dX9_spare_2 : decode cX9_spare 2 = .ok (.invokevirtual 249, 3) := dk_182 0 249 (dk_at dksX9_spare_0 2 rfl rfl)
theorem dX9_spare_5 : decode cX9_spare 5 = .ok (.ifCond .ne 10, 3) := dk_154 0 10 (dk_at dksX9_spare_0 5 rfl rfl)
theorem dX9_spare_8 : decode cX9_spare 8 = .ok (.aload_n 0, 1) := dk_42 (dk_at dksX9_spare_0 8 rfl rfl)
theorem dX9_spare_9 : decode cX9_spare 9 = .ok (.ldc 105, 2) := dk_18 105 (dk_at dksX9_spare_0 9 rfl rfl)
theorem dX9_spare_11 : decode cX9_spare 11 = .ok (.invokevirtual 106, 3) := dk_182 0 106 (dk_at dksX9_spare_0 11 rfl rfl)
theorem dX9_spare_14 : decode cX9_spare 14 = .ok (.ireturn, 1) := dk_172 (dk_at dksX9_spare_0 14 rfl rfl)
theorem dX9_spare_15 : decode cX9_spare 15 = .ok (.iconst 0, 1) := dk_3 (dk_at dksX9_spare_0 15 rfl rfl)
theorem dX9_spare_16 : decode cX9_spare 16 = .ok (.istore_n 2, 1) := dk_61 (dk_at dksX9_spare_0 16 rfl rfl)
theorem dX9_spare_17 : decode cX9_spare 17 = .ok (.iconst 0, 1) := dk_3 (dk_at dksX9_spare_0 17 rfl rfl)
theorem dX9_spare_18 : decode cX9_spare 18 = .ok (.istore_n 3, 1) := dk_62 (dk_at dksX9_spare_0 18 rfl rfl)
theorem dX9_spare_19 : decode cX9_spare 19 = .ok (.iload_n 3, 1) := dk_29 (dk_at dksX9_spare_0 19 rfl rfl)
theorem dX9_spare_20 : decode cX9_spare 20 = .ok (.aload_n 0, 1) := dk_42 (dk_at dksX9_spare_0 20 rfl rfl)
theorem dX9_spare_21 : decode cX9_spare 21 = .ok (.getfield 9, 3) := dk_180 0 9 (dk_at dksX9_spare_0 21 rfl rfl)
theorem dX9_spare_24 : decode cX9_spare 24 = .ok (.iconst 0, 1) := dk_3 (dk_at dksX9_spare_1 0 rfl rfl)
theorem dX9_spare_25 : decode cX9_spare 25 = .ok (.iaload, 1) := dk_46 (dk_at dksX9_spare_1 1 rfl rfl)
theorem dX9_spare_26 : decode cX9_spare 26 = .ok (.if_icmp .ge 42, 3) := dk_162 0 42 (dk_at dksX9_spare_1 2 rfl rfl)
theorem dX9_spare_29 : decode cX9_spare 29 = .ok (.iload_n 2, 1) := dk_28 (dk_at dksX9_spare_1 5 rfl rfl)
theorem dX9_spare_30 : decode cX9_spare 30 = .ok (.iload_n 1, 1) := dk_27 (dk_at dksX9_spare_1 6 rfl rfl)
theorem dX9_spare_31 : decode cX9_spare 31 = .ok (.iload_n 3, 1) := dk_29 (dk_at dksX9_spare_1 7 rfl rfl)
theorem dX9_spare_32 : decode cX9_spare 32 = .ok (.invokestatic 226, 3) := dk_184 0 226 (dk_at dksX9_spare_1 8 rfl rfl)
theorem dX9_spare_35 : decode cX9_spare 35 = .ok (.ifCond .eq 24, 3) := dk_153 0 24 (dk_at dksX9_spare_1 11 rfl rfl)
theorem dX9_spare_38 : decode cX9_spare 38 = .ok (.aload_n 0, 1) := dk_42 (dk_at dksX9_spare_1 14 rfl rfl)
theorem dX9_spare_39 : decode cX9_spare 39 = .ok (.iload_n 1, 1) := dk_27 (dk_at dksX9_spare_1 15 rfl rfl)
theorem dX9_spare_40 : decode cX9_spare 40 = .ok (.iconst 1, 1) := dk_4 (dk_at dksX9_spare_1 16 rfl rfl)
theorem dX9_spare_41 : decode cX9_spare 41 = .ok (.iload_n 3, 1) := dk_29 (dk_at dksX9_spare_1 17 rfl rfl)
theorem dX9_spare_42 : decode cX9_spare 42 = .ok (.ishl, 1) := dk_120 (dk_at dksX9_spare_1 18 rfl rfl)
theorem dX9_spare_43 : decode cX9_spare 43 = .ok (.iconst (-1), 1) := dk_2 (dk_at dksX9_spare_1 19 rfl rfl)
theorem dX9_spare_44 : decode cX9_spare 44 = .ok (.ixor, 1) := dk_130 (dk_at dksX9_spare_1 20 rfl rfl)
theorem dX9_spare_45 : decode cX9_spare 45 = .ok (.iand, 1) := dk_126 (dk_at dksX9_spare_1 21 rfl rfl)
theorem dX9_spare_46 : decode cX9_spare 46 = .ok (.iload_n 3, 1) := dk_29 (dk_at dksX9_spare_1 22 rfl rfl)
theorem dX9_spare_47 : decode cX9_spare 47 = .ok (.invokevirtual 298, 3) := dk_182 1 42 (dk_at dksX9_spare_2 0 rfl rfl)
theorem dX9_spare_50 : decode cX9_spare 50 = .ok (.ifCond .eq 9, 3) := dk_153 0 9 (dk_at dksX9_spare_2 3 rfl rfl)
theorem dX9_spare_53 : decode cX9_spare 53 = .ok (.iconst 1, 1) := dk_4 (dk_at dksX9_spare_2 6 rfl rfl)
theorem dX9_spare_54 : decode cX9_spare 54 = .ok (.iload_n 3, 1) := dk_29 (dk_at dksX9_spare_2 7 rfl rfl)
theorem dX9_spare_55 : decode cX9_spare 55 = .ok (.ishl, 1) := dk_120 (dk_at dksX9_spare_2 8 rfl rfl)
theorem dX9_spare_56 : decode cX9_spare 56 = .ok (.goto 4, 3) := dk_167 0 4 (dk_at dksX9_spare_2 9 rfl rfl)
theorem dX9_spare_59 : decode cX9_spare 59 = .ok (.iconst 0, 1) := dk_3 (dk_at dksX9_spare_2 12 rfl rfl)
theorem dX9_spare_60 : decode cX9_spare 60 = .ok (.ior, 1) := dk_128 (dk_at dksX9_spare_2 13 rfl rfl)
theorem dX9_spare_61 : decode cX9_spare 61 = .ok (.istore_n 2, 1) := dk_61 (dk_at dksX9_spare_2 14 rfl rfl)
theorem dX9_spare_62 : decode cX9_spare 62 = .ok (.iinc 3 1, 3) := dk_132 3 1 (dk_at dksX9_spare_2 15 rfl rfl)
theorem dX9_spare_65 : decode cX9_spare 65 = .ok (.goto (-46), 3) := dk_167 255 210 (dk_at dksX9_spare_2 18 rfl rfl)
theorem dX9_spare_68 : decode cX9_spare 68 = .ok (.iload_n 2, 1) := dk_28 (dk_at dksX9_spare_2 21 rfl rfl)
theorem dX9_spare_69 : decode cX9_spare 69 = .ok (.ireturn, 1) := dk_172 (dk_at dksX9_spare_2 22 rfl rfl)
abbrev cX9_same : ByteArray := prog_33_method_85_code
def yX9_same : MethodName := ⟨RX9, "same", "(II)I"⟩
def dkwX9_same_1 : List UInt8 := [27, 28, 182, 1, 45, 153, 0, 16, 42, 28, 27, 182, 1, 45, 153, 0, 7, 4, 167, 0, 4, 3, 172]
abbrev dktX9_same_1 : List UInt8 := dkwX9_same_1 ++ []
def dkwX9_same_0 : List UInt8 := [42, 27, 182, 0, 249, 153, 0, 11, 42, 28, 182, 0, 249, 154, 0, 10, 42, 18, 105, 182, 0, 106, 172, 42]
abbrev dktX9_same_0 : List UInt8 := dkwX9_same_0 ++ dktX9_same_1
theorem dksX9_same_0 : cX9_same.data.toList.drop 0 = dktX9_same_0 := by decide +kernel
theorem dksX9_same_1 : cX9_same.data.toList.drop 24 = dktX9_same_1 := dk_seg dksX9_same_0 24 rfl rfl
theorem dX9_same_0 : decode cX9_same 0 = .ok (.aload_n 0, 1) := dk_42 (dk_at dksX9_same_0 0 rfl rfl)
theorem dX9_same_1 : decode cX9_same 1 = .ok (.iload_n 1, 1) := dk_27 (dk_at dksX9_same_0 1 rfl rfl)
theorem dX9_same_2 : decode cX9_same 2 = .ok (.invokevirtual 249, 3) := dk_182 0 249 (dk_at dksX9_same_0 2 rfl rfl)
theorem dX9_same_5 : decode cX9_same 5 = .ok (.ifCond .eq 11, 3) := dk_153 0 11 (dk_at dksX9_same_0 5 rfl rfl)
theorem dX9_same_8 : decode cX9_same 8 = .ok (.aload_n 0, 1) := dk_42 (dk_at dksX9_same_0 8 rfl rfl)
theorem dX9_same_9 : decode cX9_same 9 = .ok (.iload_n 2, 1) := dk_28 (dk_at dksX9_same_0 9 rfl rfl)
theorem dX9_same_10 : decode cX9_same 10 = .ok (.invokevirtual 249, 3) := dk_182 0 249 (dk_at dksX9_same_0 10 rfl rfl)
theorem dX9_same_13 : decode cX9_same 13 = .ok (.ifCond .ne 10, 3) := dk_154 0 10 (dk_at dksX9_same_0 13 rfl rfl)
theorem dX9_same_16 : decode cX9_same 16 = .ok (.aload_n 0, 1) := dk_42 (dk_at dksX9_same_0 16 rfl rfl)
theorem dX9_same_17 : decode cX9_same 17 = .ok (.ldc 105, 2) := dk_18 105 (dk_at dksX9_same_0 17 rfl rfl)
theorem dX9_same_19 : decode cX9_same 19 = .ok (.invokevirtual 106, 3) := dk_182 0 106 (dk_at dksX9_same_0 19 rfl rfl)
theorem dX9_same_22 : decode cX9_same 22 = .ok (.ireturn, 1) := dk_172 (dk_at dksX9_same_0 22 rfl rfl)
theorem dX9_same_23 : decode cX9_same 23 = .ok (.aload_n 0, 1) := dk_42 (dk_at dksX9_same_0 23 rfl rfl)
theorem dX9_same_24 : decode cX9_same 24 = .ok (.iload_n 1, 1) := dk_27 (dk_at dksX9_same_1 0 rfl rfl)
theorem dX9_same_25 : decode cX9_same 25 = .ok (.iload_n 2, 1) := dk_28 (dk_at dksX9_same_1 1 rfl rfl)
theorem dX9_same_26 : decode cX9_same 26 = .ok (.invokevirtual 301, 3) := dk_182 1 45 (dk_at dksX9_same_1 2 rfl rfl)
theorem dX9_same_29 : decode cX9_same 29 = .ok (.ifCond .eq 16, 3) := dk_153 0 16 (dk_at dksX9_same_1 5 rfl rfl)
theorem dX9_same_32 : decode cX9_same 32 = .ok (.aload_n 0, 1) := dk_42 (dk_at dksX9_same_1 8 rfl rfl)
theorem dX9_same_33 : decode cX9_same 33 = .ok (.iload_n 2, 1) := dk_28 (dk_at dksX9_same_1 9 rfl rfl)
theorem dX9_same_34 : decode cX9_same 34 = .ok (.iload_n 1, 1) := dk_27 (dk_at dksX9_same_1 10 rfl rfl)
theorem dX9_same_35 : decode cX9_same 35 = .ok (.invokevirtual 301, 3) := dk_182 1 45 (dk_at dksX9_same_1 11 rfl rfl)
theorem dX9_same_38 : decode cX9_same 38 = .ok (.ifCond .eq 7, 3) := dk_153 0 7 (dk_at dksX9_same_1 14 rfl rfl)
theorem dX9_same_41 : decode cX9_same 41 = .ok (.iconst 1, 1) := dk_4 (dk_at dksX9_same_1 17 rfl rfl)
theorem dX9_same_42 : decode cX9_same 42 = .ok (.goto 4, 3) := dk_167 0 4 (dk_at dksX9_same_1 18 rfl rfl)
theorem dX9_same_45 : decode cX9_same 45 = .ok (.iconst 0, 1) := dk_3 (dk_at dksX9_same_1 21 rfl rfl)
theorem dX9_same_46 : decode cX9_same 46 = .ok (.ireturn, 1) := dk_172 (dk_at dksX9_same_1 22 rfl rfl)
abbrev cX9_allFollow : ByteArray := prog_33_method_84_code
def yX9_allFollow : MethodName := ⟨RX9, "allFollow", "(II)Z"⟩
def dkwX9_allFollow_2 : List UInt8 := [132, 4, 1, 167, 255, 213, 29, 172]
abbrev dktX9_allFollow_2 : List UInt8 := dkwX9_allFollow_2 ++ []
def dkwX9_allFollow_1 : List UInt8 := [184, 0, 226, 153, 0, 13, 42, 27, 21, 4, 182, 1, 42, 153, 0, 7, 4, 167, 0, 4, 3, 62]
abbrev dktX9_allFollow_1 : List UInt8 := dkwX9_allFollow_1 ++ dktX9_allFollow_2
def dkwX9_allFollow_0 : List UInt8 := [4, 62, 3, 54, 4, 21, 4, 42, 180, 0, 9, 3, 46, 162, 0, 38, 29, 153, 0, 34, 28, 21, 4]
abbrev dktX9_allFollow_0 : List UInt8 := dkwX9_allFollow_0 ++ dktX9_allFollow_1
theorem dksX9_allFollow_0 : cX9_allFollow.data.toList.drop 0 = dktX9_allFollow_0 := by decide +kernel
theorem dksX9_allFollow_1 : cX9_allFollow.data.toList.drop 23 = dktX9_allFollow_1 := dk_seg dksX9_allFollow_0 23 rfl rfl
theorem dksX9_allFollow_2 : cX9_allFollow.data.toList.drop 45 = dktX9_allFollow_2 := dk_seg dksX9_allFollow_1 22 rfl rfl
theorem dX9_allFollow_0 : decode cX9_allFollow 0 = .ok (.iconst 1, 1) := dk_4 (dk_at dksX9_allFollow_0 0 rfl rfl)
theorem dX9_allFollow_1 : decode cX9_allFollow 1 = .ok (.istore_n 3, 1) := dk_62 (dk_at dksX9_allFollow_0 1 rfl rfl)
theorem dX9_allFollow_2 : decode cX9_allFollow 2 = .ok (.iconst 0, 1) := dk_3 (dk_at dksX9_allFollow_0 2 rfl rfl)
theorem dX9_allFollow_3 : decode cX9_allFollow 3 = .ok (.istore 4, 2) := dk_54 4 (dk_at dksX9_allFollow_0 3 rfl rfl)
theorem dX9_allFollow_5 : decode cX9_allFollow 5 = .ok (.iload 4, 2) := dk_21 4 (dk_at dksX9_allFollow_0 5 rfl rfl)
theorem dX9_allFollow_7 : decode cX9_allFollow 7 = .ok (.aload_n 0, 1) := dk_42 (dk_at dksX9_allFollow_0 7 rfl rfl)
theorem dX9_allFollow_8 : decode cX9_allFollow 8 = .ok (.getfield 9, 3) := dk_180 0 9 (dk_at dksX9_allFollow_0 8 rfl rfl)
theorem dX9_allFollow_11 : decode cX9_allFollow 11 = .ok (.iconst 0, 1) := dk_3 (dk_at dksX9_allFollow_0 11 rfl rfl)
theorem dX9_allFollow_12 : decode cX9_allFollow 12 = .ok (.iaload, 1) := dk_46 (dk_at dksX9_allFollow_0 12 rfl rfl)
theorem dX9_allFollow_13 : decode cX9_allFollow 13 = .ok (.if_icmp .ge 38, 3) := dk_162 0 38 (dk_at dksX9_allFollow_0 13 rfl rfl)
theorem dX9_allFollow_16 : decode cX9_allFollow 16 = .ok (.iload_n 3, 1) := dk_29 (dk_at dksX9_allFollow_0 16 rfl rfl)
theorem dX9_allFollow_17 : decode cX9_allFollow 17 = .ok (.ifCond .eq 34, 3) := dk_153 0 34 (dk_at dksX9_allFollow_0 17 rfl rfl)
theorem dX9_allFollow_20 : decode cX9_allFollow 20 = .ok (.iload_n 2, 1) := dk_28 (dk_at dksX9_allFollow_0 20 rfl rfl)
theorem dX9_allFollow_21 : decode cX9_allFollow 21 = .ok (.iload 4, 2) := dk_21 4 (dk_at dksX9_allFollow_0 21 rfl rfl)
theorem dX9_allFollow_23 : decode cX9_allFollow 23 = .ok (.invokestatic 226, 3) := dk_184 0 226 (dk_at dksX9_allFollow_1 0 rfl rfl)
theorem dX9_allFollow_26 : decode cX9_allFollow 26 = .ok (.ifCond .eq 13, 3) := dk_153 0 13 (dk_at dksX9_allFollow_1 3 rfl rfl)
theorem dX9_allFollow_29 : decode cX9_allFollow 29 = .ok (.aload_n 0, 1) := dk_42 (dk_at dksX9_allFollow_1 6 rfl rfl)
theorem dX9_allFollow_30 : decode cX9_allFollow 30 = .ok (.iload_n 1, 1) := dk_27 (dk_at dksX9_allFollow_1 7 rfl rfl)
theorem dX9_allFollow_31 : decode cX9_allFollow 31 = .ok (.iload 4, 2) := dk_21 4 (dk_at dksX9_allFollow_1 8 rfl rfl)
theorem dX9_allFollow_33 : decode cX9_allFollow 33 = .ok (.invokevirtual 298, 3) := dk_182 1 42 (dk_at dksX9_allFollow_1 10 rfl rfl)
theorem dX9_allFollow_36 : decode cX9_allFollow 36 = .ok (.ifCond .eq 7, 3) := dk_153 0 7 (dk_at dksX9_allFollow_1 13 rfl rfl)
theorem dX9_allFollow_39 : decode cX9_allFollow 39 = .ok (.iconst 1, 1) := dk_4 (dk_at dksX9_allFollow_1 16 rfl rfl)
theorem dX9_allFollow_40 : decode cX9_allFollow 40 = .ok (.goto 4, 3) := dk_167 0 4 (dk_at dksX9_allFollow_1 17 rfl rfl)
theorem dX9_allFollow_43 : decode cX9_allFollow 43 = .ok (.iconst 0, 1) := dk_3 (dk_at dksX9_allFollow_1 20 rfl rfl)
theorem dX9_allFollow_44 : decode cX9_allFollow 44 = .ok (.istore_n 3, 1) := dk_62 (dk_at dksX9_allFollow_1 21 rfl rfl)
theorem dX9_allFollow_45 : decode cX9_allFollow 45 = .ok (.iinc 4 1, 3) := dk_132 4 1 (dk_at dksX9_allFollow_2 0 rfl rfl)
theorem dX9_allFollow_48 : decode cX9_allFollow 48 = .ok (.goto (-43), 3) := dk_167 255 213 (dk_at dksX9_allFollow_2 3 rfl rfl)
theorem dX9_allFollow_51 : decode cX9_allFollow 51 = .ok (.iload_n 3, 1) := dk_29 (dk_at dksX9_allFollow_2 6 rfl rfl)
theorem dX9_allFollow_52 : decode cX9_allFollow 52 = .ok (.ireturn, 1) := dk_172 (dk_at dksX9_allFollow_2 7 rfl rfl)
abbrev cX9_voice : ByteArray := prog_33_method_91_code
def yX9_voice : MethodName := ⟨RX9, "voice", "(III)I"⟩
def dkwX9_voice_1 : List UInt8 := [42, 3, 181, 1, 48, 42, 27, 181, 1, 51, 42, 28, 29, 182, 1, 66, 172]
abbrev dktX9_voice_1 : List UInt8 := dkwX9_voice_1 ++ []
def dkwX9_voice_0 : List UInt8 := [42, 27, 182, 0, 204, 153, 0, 12, 28, 3, 6, 184, 0, 94, 154, 0, 10, 42, 18, 105, 182, 0, 106, 172]
abbrev dktX9_voice_0 : List UInt8 := dkwX9_voice_0 ++ dktX9_voice_1
theorem dksX9_voice_0 : cX9_voice.data.toList.drop 0 = dktX9_voice_0 := by decide +kernel
theorem dksX9_voice_1 : cX9_voice.data.toList.drop 24 = dktX9_voice_1 := dk_seg dksX9_voice_0 24 rfl rfl
theorem dX9_voice_0 : decode cX9_voice 0 = .ok (.aload_n 0, 1) := dk_42 (dk_at dksX9_voice_0 0 rfl rfl)
theorem dX9_voice_1 : decode cX9_voice 1 = .ok (.iload_n 1, 1) := dk_27 (dk_at dksX9_voice_0 1 rfl rfl)
theorem dX9_voice_2 : decode cX9_voice 2 = .ok (.invokevirtual 204, 3) := dk_182 0 204 (dk_at dksX9_voice_0 2 rfl rfl)
theorem dX9_voice_5 : decode cX9_voice 5 = .ok (.ifCond .eq 12, 3) := dk_153 0 12 (dk_at dksX9_voice_0 5 rfl rfl)
theorem dX9_voice_8 : decode cX9_voice 8 = .ok (.iload_n 2, 1) := dk_28 (dk_at dksX9_voice_0 8 rfl rfl)
theorem dX9_voice_9 : decode cX9_voice 9 = .ok (.iconst 0, 1) := dk_3 (dk_at dksX9_voice_0 9 rfl rfl)
theorem dX9_voice_10 : decode cX9_voice 10 = .ok (.iconst 3, 1) := dk_6 (dk_at dksX9_voice_0 10 rfl rfl)
theorem dX9_voice_11 : decode cX9_voice 11 = .ok (.invokestatic 94, 3) := dk_184 0 94 (dk_at dksX9_voice_0 11 rfl rfl)
theorem dX9_voice_14 : decode cX9_voice 14 = .ok (.ifCond .ne 10, 3) := dk_154 0 10 (dk_at dksX9_voice_0 14 rfl rfl)
theorem dX9_voice_17 : decode cX9_voice 17 = .ok (.aload_n 0, 1) := dk_42 (dk_at dksX9_voice_0 17 rfl rfl)
theorem dX9_voice_18 : decode cX9_voice 18 = .ok (.ldc 105, 2) := dk_18 105 (dk_at dksX9_voice_0 18 rfl rfl)
theorem dX9_voice_20 : decode cX9_voice 20 = .ok (.invokevirtual 106, 3) := dk_182 0 106 (dk_at dksX9_voice_0 20 rfl rfl)
theorem dX9_voice_23 : decode cX9_voice 23 = .ok (.ireturn, 1) := dk_172 (dk_at dksX9_voice_0 23 rfl rfl)
theorem dX9_voice_24 : decode cX9_voice 24 = .ok (.aload_n 0, 1) := dk_42 (dk_at dksX9_voice_1 0 rfl rfl)
theorem dX9_voice_25 : decode cX9_voice 25 = .ok (.iconst 0, 1) := dk_3 (dk_at dksX9_voice_1 1 rfl rfl)
theorem dX9_voice_26 : decode cX9_voice 26 = .ok (.putfield 304, 3) := dk_181 1 48 (dk_at dksX9_voice_1 2 rfl rfl)
theorem dX9_voice_29 : decode cX9_voice 29 = .ok (.aload_n 0, 1) := dk_42 (dk_at dksX9_voice_1 5 rfl rfl)
theorem dX9_voice_30 : decode cX9_voice 30 = .ok (.iload_n 1, 1) := dk_27 (dk_at dksX9_voice_1 6 rfl rfl)
theorem dX9_voice_31 : decode cX9_voice 31 = .ok (.putfield 307, 3) := dk_181 1 51 (dk_at dksX9_voice_1 7 rfl rfl)
theorem dX9_voice_34 : decode cX9_voice 34 = .ok (.aload_n 0, 1) := dk_42 (dk_at dksX9_voice_1 10 rfl rfl)
theorem dX9_voice_35 : decode cX9_voice 35 = .ok (.iload_n 2, 1) := dk_28 (dk_at dksX9_voice_1 11 rfl rfl)
theorem dX9_voice_36 : decode cX9_voice 36 = .ok (.iload_n 3, 1) := dk_29 (dk_at dksX9_voice_1 12 rfl rfl)
theorem dX9_voice_37 : decode cX9_voice 37 = .ok (.invokevirtual 322, 3) := dk_182 1 66 (dk_at dksX9_voice_1 13 rfl rfl)
theorem dX9_voice_40 : decode cX9_voice 40 = .ok (.ireturn, 1) := dk_172 (dk_at dksX9_voice_1 16 rfl rfl)
abbrev cX9_voiced : ByteArray := prog_33_method_88_code
def yX9_voiced : MethodName := ⟨RX9, "voiced", "(II)I"⟩
def dkwX9_voiced_0 : List UInt8 := [42, 42, 42, 180, 1, 51, 182, 0, 98, 27, 28, 182, 1, 54, 172]
abbrev dktX9_voiced_0 : List UInt8 := dkwX9_voiced_0 ++ []
theorem dksX9_voiced_0 : cX9_voiced.data.toList.drop 0 = dktX9_voiced_0 := by decide +kernel
theorem dX9_voiced_0 : decode cX9_voiced 0 = .ok (.aload_n 0, 1) := dk_42 (dk_at dksX9_voiced_0 0 rfl rfl)
theorem dX9_voiced_1 : decode cX9_voiced 1 = .ok (.aload_n 0, 1) := dk_42 (dk_at dksX9_voiced_0 1 rfl rfl)
theorem dX9_voiced_2 : decode cX9_voiced 2 = .ok (.aload_n 0, 1) := dk_42 (dk_at dksX9_voiced_0 2 rfl rfl)
theorem dX9_voiced_3 : decode cX9_voiced 3 = .ok (.getfield 307, 3) := dk_180 1 51 (dk_at dksX9_voiced_0 3 rfl rfl)
theorem dX9_voiced_6 : decode cX9_voiced 6 = .ok (.invokevirtual 98, 3) := dk_182 0 98 (dk_at dksX9_voiced_0 6 rfl rfl)
theorem dX9_voiced_9 : decode cX9_voiced 9 = .ok (.iload_n 1, 1) := dk_27 (dk_at dksX9_voiced_0 9 rfl rfl)
theorem dX9_voiced_10 : decode cX9_voiced 10 = .ok (.iload_n 2, 1) := dk_28 (dk_at dksX9_voiced_0 10 rfl rfl)
theorem dX9_voiced_11 : decode cX9_voiced 11 = .ok (.invokevirtual 310, 3) := dk_182 1 54 (dk_at dksX9_voiced_0 11 rfl rfl)
theorem dX9_voiced_14 : decode cX9_voiced 14 = .ok (.ireturn, 1) := dk_172 (dk_at dksX9_voiced_0 14 rfl rfl)
abbrev cX9_bodyFrom : ByteArray := prog_33_method_89_code
def yX9_bodyFrom : MethodName := ⟨RX9, "bodyFrom", "(III)I"⟩
def dkwX9_bodyFrom_1 : List UInt8 := [21, 4, 28, 29, 182, 1, 60, 172]
abbrev dktX9_bodyFrom_1 : List UInt8 := dkwX9_bodyFrom_1 ++ []
def dkwX9_bodyFrom_0 : List UInt8 := [27, 54, 4, 21, 4, 28, 184, 1, 57, 154, 0, 13, 21, 4, 184, 0, 207, 54, 4, 167, 255, 240, 42]
abbrev dktX9_bodyFrom_0 : List UInt8 := dkwX9_bodyFrom_0 ++ dktX9_bodyFrom_1
theorem dksX9_bodyFrom_0 : cX9_bodyFrom.data.toList.drop 0 = dktX9_bodyFrom_0 := by decide +kernel
theorem dksX9_bodyFrom_1 : cX9_bodyFrom.data.toList.drop 23 = dktX9_bodyFrom_1 := dk_seg dksX9_bodyFrom_0 23 rfl rfl
theorem dX9_bodyFrom_0 : decode cX9_bodyFrom 0 = .ok (.iload_n 1, 1) := dk_27 (dk_at dksX9_bodyFrom_0 0 rfl rfl)
theorem dX9_bodyFrom_1 : decode cX9_bodyFrom 1 = .ok (.istore 4, 2) := dk_54 4 (dk_at dksX9_bodyFrom_0 1 rfl rfl)
theorem dX9_bodyFrom_3 : decode cX9_bodyFrom 3 = .ok (.iload 4, 2) := dk_21 4 (dk_at dksX9_bodyFrom_0 3 rfl rfl)
theorem dX9_bodyFrom_5 : decode cX9_bodyFrom 5 = .ok (.iload_n 2, 1) := dk_28 (dk_at dksX9_bodyFrom_0 5 rfl rfl)
theorem dX9_bodyFrom_6 : decode cX9_bodyFrom 6 = .ok (.invokestatic 313, 3) := dk_184 1 57 (dk_at dksX9_bodyFrom_0 6 rfl rfl)
theorem dX9_bodyFrom_9 : decode cX9_bodyFrom 9 = .ok (.ifCond .ne 13, 3) := dk_154 0 13 (dk_at dksX9_bodyFrom_0 9 rfl rfl)
theorem dX9_bodyFrom_12 : decode cX9_bodyFrom 12 = .ok (.iload 4, 2) := dk_21 4 (dk_at dksX9_bodyFrom_0 12 rfl rfl)
theorem dX9_bodyFrom_14 : decode cX9_bodyFrom 14 = .ok (.invokestatic 207, 3) := dk_184 0 207 (dk_at dksX9_bodyFrom_0 14 rfl rfl)
theorem dX9_bodyFrom_17 : decode cX9_bodyFrom 17 = .ok (.istore 4, 2) := dk_54 4 (dk_at dksX9_bodyFrom_0 17 rfl rfl)
theorem dX9_bodyFrom_19 : decode cX9_bodyFrom 19 = .ok (.goto (-16), 3) := dk_167 255 240 (dk_at dksX9_bodyFrom_0 19 rfl rfl)
theorem dX9_bodyFrom_22 : decode cX9_bodyFrom 22 = .ok (.aload_n 0, 1) := dk_42 (dk_at dksX9_bodyFrom_0 22 rfl rfl)
theorem dX9_bodyFrom_23 : decode cX9_bodyFrom 23 = .ok (.iload 4, 2) := dk_21 4 (dk_at dksX9_bodyFrom_1 0 rfl rfl)
theorem dX9_bodyFrom_25 : decode cX9_bodyFrom 25 = .ok (.iload_n 2, 1) := dk_28 (dk_at dksX9_bodyFrom_1 2 rfl rfl)
theorem dX9_bodyFrom_26 : decode cX9_bodyFrom 26 = .ok (.iload_n 3, 1) := dk_29 (dk_at dksX9_bodyFrom_1 3 rfl rfl)
theorem dX9_bodyFrom_27 : decode cX9_bodyFrom 27 = .ok (.invokevirtual 316, 3) := dk_182 1 60 (dk_at dksX9_bodyFrom_1 4 rfl rfl)
theorem dX9_bodyFrom_30 : decode cX9_bodyFrom 30 = .ok (.ireturn, 1) := dk_172 (dk_at dksX9_bodyFrom_1 7 rfl rfl)
abbrev cX9_hasOwn : ByteArray := prog_33_method_87_code
def yX9_hasOwn : MethodName := ⟨RX9, "hasOwn", "(II)Z"⟩
def dkwX9_hasOwn_4 : List UInt8 := [160, 0, 7, 4, 167, 0, 4, 3, 172, 27, 153, 0, 8, 27, 5, 160, 0, 7, 4, 167, 0, 4, 3, 172]
abbrev dktX9_hasOwn_4 : List UInt8 := dkwX9_hasOwn_4 ++ []
def dkwX9_hasOwn_3 : List UInt8 := [167, 0, 4, 3, 172, 27, 5, 160, 0, 7, 4, 167, 0, 4, 3, 172, 27, 4, 159, 0, 8, 27, 6]
abbrev dktX9_hasOwn_3 : List UInt8 := dkwX9_hasOwn_3 ++ dktX9_hasOwn_4
def dkwX9_hasOwn_2 : List UInt8 := [4, 172, 27, 4, 160, 0, 7, 4, 167, 0, 4, 3, 172, 27, 153, 0, 8, 27, 6, 160, 0, 7, 4]
abbrev dktX9_hasOwn_2 : List UInt8 := dkwX9_hasOwn_2 ++ dktX9_hasOwn_3
def dkwX9_hasOwn_1 : List UInt8 := [170, 0, 0, 0, 0, 0, 90, 0, 0, 0, 0, 0, 0, 0, 4, 0, 0, 0, 35, 0, 0, 0, 37, 0, 0, 0, 48, 0, 0, 0, 63, 0, 0, 0, 74]
abbrev dktX9_hasOwn_1 : List UInt8 := dkwX9_hasOwn_1 ++ dktX9_hasOwn_2
def dkwX9_hasOwn_0 : List UInt8 := [26]
abbrev dktX9_hasOwn_0 : List UInt8 := dkwX9_hasOwn_0 ++ dktX9_hasOwn_1
theorem dksX9_hasOwn_0 : cX9_hasOwn.data.toList.drop 0 = dktX9_hasOwn_0 := by decide +kernel
theorem dksX9_hasOwn_1 : cX9_hasOwn.data.toList.drop 1 = dktX9_hasOwn_1 := dk_seg dksX9_hasOwn_0 1 rfl rfl
theorem dksX9_hasOwn_2 : cX9_hasOwn.data.toList.drop 36 = dktX9_hasOwn_2 := dk_seg dksX9_hasOwn_1 35 rfl rfl
theorem dksX9_hasOwn_3 : cX9_hasOwn.data.toList.drop 59 = dktX9_hasOwn_3 := dk_seg dksX9_hasOwn_2 23 rfl rfl
theorem dksX9_hasOwn_4 : cX9_hasOwn.data.toList.drop 82 = dktX9_hasOwn_4 := dk_seg dksX9_hasOwn_3 23 rfl rfl
theorem dX9_hasOwn_0 : decode cX9_hasOwn 0 = .ok (.iload_n 0, 1) := dk_26 (dk_at dksX9_hasOwn_0 0 rfl rfl)
theorem dX9_hasOwn_1 : decode cX9_hasOwn 1 = .ok (.tableswitch 90 0 4 #[35, 37, 48, 63, 74], 35) := by decide +kernel
theorem dX9_hasOwn_36 : decode cX9_hasOwn 36 = .ok (.iconst 1, 1) := dk_4 (dk_at dksX9_hasOwn_2 0 rfl rfl)
theorem dX9_hasOwn_37 : decode cX9_hasOwn 37 = .ok (.ireturn, 1) := dk_172 (dk_at dksX9_hasOwn_2 1 rfl rfl)
theorem dX9_hasOwn_38 : decode cX9_hasOwn 38 = .ok (.iload_n 1, 1) := dk_27 (dk_at dksX9_hasOwn_2 2 rfl rfl)
theorem dX9_hasOwn_39 : decode cX9_hasOwn 39 = .ok (.iconst 1, 1) := dk_4 (dk_at dksX9_hasOwn_2 3 rfl rfl)
theorem dX9_hasOwn_40 : decode cX9_hasOwn 40 = .ok (.if_icmp .ne 7, 3) := dk_160 0 7 (dk_at dksX9_hasOwn_2 4 rfl rfl)
theorem dX9_hasOwn_43 : decode cX9_hasOwn 43 = .ok (.iconst 1, 1) := dk_4 (dk_at dksX9_hasOwn_2 7 rfl rfl)
theorem dX9_hasOwn_44 : decode cX9_hasOwn 44 = .ok (.goto 4, 3) := dk_167 0 4 (dk_at dksX9_hasOwn_2 8 rfl rfl)
theorem dX9_hasOwn_47 : decode cX9_hasOwn 47 = .ok (.iconst 0, 1) := dk_3 (dk_at dksX9_hasOwn_2 11 rfl rfl)
theorem dX9_hasOwn_48 : decode cX9_hasOwn 48 = .ok (.ireturn, 1) := dk_172 (dk_at dksX9_hasOwn_2 12 rfl rfl)
theorem dX9_hasOwn_49 : decode cX9_hasOwn 49 = .ok (.iload_n 1, 1) := dk_27 (dk_at dksX9_hasOwn_2 13 rfl rfl)
theorem dX9_hasOwn_50 : decode cX9_hasOwn 50 = .ok (.ifCond .eq 8, 3) := dk_153 0 8 (dk_at dksX9_hasOwn_2 14 rfl rfl)
theorem dX9_hasOwn_53 : decode cX9_hasOwn 53 = .ok (.iload_n 1, 1) := dk_27 (dk_at dksX9_hasOwn_2 17 rfl rfl)
theorem dX9_hasOwn_54 : decode cX9_hasOwn 54 = .ok (.iconst 3, 1) := dk_6 (dk_at dksX9_hasOwn_2 18 rfl rfl)
theorem dX9_hasOwn_55 : decode cX9_hasOwn 55 = .ok (.if_icmp .ne 7, 3) := dk_160 0 7 (dk_at dksX9_hasOwn_2 19 rfl rfl)
theorem dX9_hasOwn_58 : decode cX9_hasOwn 58 = .ok (.iconst 1, 1) := dk_4 (dk_at dksX9_hasOwn_2 22 rfl rfl)
theorem dX9_hasOwn_59 : decode cX9_hasOwn 59 = .ok (.goto 4, 3) := dk_167 0 4 (dk_at dksX9_hasOwn_3 0 rfl rfl)
theorem dX9_hasOwn_62 : decode cX9_hasOwn 62 = .ok (.iconst 0, 1) := dk_3 (dk_at dksX9_hasOwn_3 3 rfl rfl)
theorem dX9_hasOwn_63 : decode cX9_hasOwn 63 = .ok (.ireturn, 1) := dk_172 (dk_at dksX9_hasOwn_3 4 rfl rfl)
theorem dX9_hasOwn_64 : decode cX9_hasOwn 64 = .ok (.iload_n 1, 1) := dk_27 (dk_at dksX9_hasOwn_3 5 rfl rfl)
theorem dX9_hasOwn_65 : decode cX9_hasOwn 65 = .ok (.iconst 2, 1) := dk_5 (dk_at dksX9_hasOwn_3 6 rfl rfl)
theorem dX9_hasOwn_66 : decode cX9_hasOwn 66 = .ok (.if_icmp .ne 7, 3) := dk_160 0 7 (dk_at dksX9_hasOwn_3 7 rfl rfl)
theorem dX9_hasOwn_69 : decode cX9_hasOwn 69 = .ok (.iconst 1, 1) := dk_4 (dk_at dksX9_hasOwn_3 10 rfl rfl)
theorem dX9_hasOwn_70 : decode cX9_hasOwn 70 = .ok (.goto 4, 3) := dk_167 0 4 (dk_at dksX9_hasOwn_3 11 rfl rfl)
theorem dX9_hasOwn_73 : decode cX9_hasOwn 73 = .ok (.iconst 0, 1) := dk_3 (dk_at dksX9_hasOwn_3 14 rfl rfl)
theorem dX9_hasOwn_74 : decode cX9_hasOwn 74 = .ok (.ireturn, 1) := dk_172 (dk_at dksX9_hasOwn_3 15 rfl rfl)
theorem dX9_hasOwn_75 : decode cX9_hasOwn 75 = .ok (.iload_n 1, 1) := dk_27 (dk_at dksX9_hasOwn_3 16 rfl rfl)
theorem dX9_hasOwn_76 : decode cX9_hasOwn 76 = .ok (.iconst 1, 1) := dk_4 (dk_at dksX9_hasOwn_3 17 rfl rfl)
theorem dX9_hasOwn_77 : decode cX9_hasOwn 77 = .ok (.if_icmp .eq 8, 3) := dk_159 0 8 (dk_at dksX9_hasOwn_3 18 rfl rfl)
theorem dX9_hasOwn_80 : decode cX9_hasOwn 80 = .ok (.iload_n 1, 1) := dk_27 (dk_at dksX9_hasOwn_3 21 rfl rfl)
theorem dX9_hasOwn_81 : decode cX9_hasOwn 81 = .ok (.iconst 3, 1) := dk_6 (dk_at dksX9_hasOwn_3 22 rfl rfl)
theorem dX9_hasOwn_82 : decode cX9_hasOwn 82 = .ok (.if_icmp .ne 7, 3) := dk_160 0 7 (dk_at dksX9_hasOwn_4 0 rfl rfl)
theorem dX9_hasOwn_85 : decode cX9_hasOwn 85 = .ok (.iconst 1, 1) := dk_4 (dk_at dksX9_hasOwn_4 3 rfl rfl)
theorem dX9_hasOwn_86 : decode cX9_hasOwn 86 = .ok (.goto 4, 3) := dk_167 0 4 (dk_at dksX9_hasOwn_4 4 rfl rfl)
theorem dX9_hasOwn_89 : decode cX9_hasOwn 89 = .ok (.iconst 0, 1) := dk_3 (dk_at dksX9_hasOwn_4 7 rfl rfl)
theorem dX9_hasOwn_90 : decode cX9_hasOwn 90 = .ok (.ireturn, 1) := dk_172 (dk_at dksX9_hasOwn_4 8 rfl rfl)
theorem dX9_hasOwn_91 : decode cX9_hasOwn 91 = .ok (.iload_n 1, 1) := dk_27 (dk_at dksX9_hasOwn_4 9 rfl rfl)
theorem dX9_hasOwn_92 : decode cX9_hasOwn 92 = .ok (.ifCond .eq 8, 3) := dk_153 0 8 (dk_at dksX9_hasOwn_4 10 rfl rfl)
theorem dX9_hasOwn_95 : decode cX9_hasOwn 95 = .ok (.iload_n 1, 1) := dk_27 (dk_at dksX9_hasOwn_4 13 rfl rfl)
theorem dX9_hasOwn_96 : decode cX9_hasOwn 96 = .ok (.iconst 2, 1) := dk_5 (dk_at dksX9_hasOwn_4 14 rfl rfl)
theorem dX9_hasOwn_97 : decode cX9_hasOwn 97 = .ok (.if_icmp .ne 7, 3) := dk_160 0 7 (dk_at dksX9_hasOwn_4 15 rfl rfl)
theorem dX9_hasOwn_100 : decode cX9_hasOwn 100 = .ok (.iconst 1, 1) := dk_4 (dk_at dksX9_hasOwn_4 18 rfl rfl)
theorem dX9_hasOwn_101 : decode cX9_hasOwn 101 = .ok (.goto 4, 3) := dk_167 0 4 (dk_at dksX9_hasOwn_4 19 rfl rfl)
theorem dX9_hasOwn_104 : decode cX9_hasOwn 104 = .ok (.iconst 0, 1) := dk_3 (dk_at dksX9_hasOwn_4 22 rfl rfl)
theorem dX9_hasOwn_105 : decode cX9_hasOwn 105 = .ok (.ireturn, 1) := dk_172 (dk_at dksX9_hasOwn_4 23 rfl rfl)
abbrev cX9_body : ByteArray := prog_33_method_90_code
def yX9_body : MethodName := ⟨RX9, "body", "(III)I"⟩
def dkwX9_body_11 : List UInt8 := [21, 5, 42, 3, 4, 182, 1, 66, 104, 172]
abbrev dktX9_body_11 : List UInt8 := dkwX9_body_11 ++ []
def dkwX9_body_10 : List UInt8 := [3, 29, 182, 1, 54, 8, 130, 172, 42, 16, 61, 182, 1, 63, 42, 3, 5, 29, 182, 1, 54, 54, 5]
abbrev dktX9_body_10 : List UInt8 := dkwX9_body_10 ++ dktX9_body_11
def dkwX9_body_9 : List UInt8 := [16, 51, 182, 1, 63, 42, 4, 4, 29, 21, 4, 100, 182, 1, 54, 172, 42, 16, 60, 182, 1, 63, 42, 3]
abbrev dktX9_body_9 : List UInt8 := dkwX9_body_9 ++ dktX9_body_10
def dkwX9_body_8 : List UInt8 := [182, 1, 63, 42, 5, 29, 182, 1, 66, 54, 5, 21, 5, 42, 4, 6, 29, 182, 1, 54, 100, 172, 42]
abbrev dktX9_body_8 : List UInt8 := dkwX9_body_8 ++ dktX9_body_9
def dkwX9_body_7 : List UInt8 := [182, 1, 54, 172, 42, 16, 40, 182, 1, 63, 42, 4, 5, 29, 182, 1, 54, 116, 172, 42, 16, 50]
abbrev dktX9_body_7 : List UInt8 := dkwX9_body_7 ++ dktX9_body_8
def dkwX9_body_6 : List UInt8 := [42, 4, 3, 29, 182, 1, 54, 4, 100, 172, 42, 16, 31, 182, 1, 63, 42, 4, 6, 29, 4, 96]
abbrev dktX9_body_6 : List UInt8 := dkwX9_body_6 ++ dktX9_body_7
def dkwX9_body_5 : List UInt8 := [3, 4, 29, 182, 1, 54, 54, 5, 21, 5, 42, 5, 29, 182, 1, 66, 96, 172, 42, 16, 30, 182, 1, 63]
abbrev dktX9_body_5 : List UInt8 := dkwX9_body_5 ++ dktX9_body_6
def dkwX9_body_4 : List UInt8 := [4, 29, 182, 1, 66, 54, 5, 21, 5, 42, 5, 29, 182, 1, 66, 130, 172, 42, 16, 20, 182, 1, 63, 42]
abbrev dktX9_body_4 : List UInt8 := dkwX9_body_4 ++ dktX9_body_5
def dkwX9_body_3 : List UInt8 := [182, 1, 66, 5, 104, 172, 42, 16, 12, 182, 1, 63, 29, 21, 4, 100, 172, 42, 16, 13, 182, 1, 63, 42]
abbrev dktX9_body_3 : List UInt8 := dkwX9_body_3 ++ dktX9_body_4
def dkwX9_body_2 : List UInt8 := [42, 16, 10, 182, 1, 63, 29, 42, 180, 1, 51, 96, 172, 42, 16, 11, 182, 1, 63, 42, 3, 29]
abbrev dktX9_body_2 : List UInt8 := dkwX9_body_2 ++ dktX9_body_3
def dkwX9_body_1 : List UInt8 := [170, 0, 0, 1, 34, 0, 0, 0, 0, 0, 0, 0, 20, 0, 0, 0, 97, 0, 0, 0, 110, 0, 0, 0, 125, 0, 0, 0, 136, 0, 0, 1, 34, 0, 0, 0, 160, 0, 0, 1, 34, 0, 0, 1, 34, 0, 0, 0, 185, 0, 0, 1, 34, 0, 0, 1, 34, 0, 0, 0, 201, 0, 0, 1, 34, 0, 0, 1, 34, 0, 0, 0, 217, 0, 0, 1, 34, 0, 0, 1, 34, 0, 0, 1, 1, 0, 0, 1, 34, 0, 0, 0, 232, 0, 0, 1, 18]
abbrev dktX9_body_1 : List UInt8 := dkwX9_body_1 ++ dktX9_body_2
def dkwX9_body_0 : List UInt8 := [42, 180, 0, 9, 16, 30, 42, 180, 1, 51, 96, 46, 54, 4, 7, 27, 104, 28, 96]
abbrev dktX9_body_0 : List UInt8 := dkwX9_body_0 ++ dktX9_body_1
theorem dksX9_body_0 : cX9_body.data.toList.drop 0 = dktX9_body_0 := by decide +kernel
theorem dksX9_body_1 : cX9_body.data.toList.drop 19 = dktX9_body_1 := dk_seg dksX9_body_0 19 rfl rfl
theorem dksX9_body_2 : cX9_body.data.toList.drop 116 = dktX9_body_2 := dk_seg dksX9_body_1 97 rfl rfl
theorem dksX9_body_3 : cX9_body.data.toList.drop 138 = dktX9_body_3 := dk_seg dksX9_body_2 22 rfl rfl
theorem dksX9_body_4 : cX9_body.data.toList.drop 162 = dktX9_body_4 := dk_seg dksX9_body_3 24 rfl rfl
theorem dksX9_body_5 : cX9_body.data.toList.drop 186 = dktX9_body_5 := dk_seg dksX9_body_4 24 rfl rfl
theorem dksX9_body_6 : cX9_body.data.toList.drop 210 = dktX9_body_6 := dk_seg dksX9_body_5 24 rfl rfl
theorem dksX9_body_7 : cX9_body.data.toList.drop 232 = dktX9_body_7 := dk_seg dksX9_body_6 22 rfl rfl
theorem dksX9_body_8 : cX9_body.data.toList.drop 254 = dktX9_body_8 := dk_seg dksX9_body_7 22 rfl rfl
theorem dksX9_body_9 : cX9_body.data.toList.drop 277 = dktX9_body_9 := dk_seg dksX9_body_8 23 rfl rfl
theorem dksX9_body_10 : cX9_body.data.toList.drop 301 = dktX9_body_10 := dk_seg dksX9_body_9 24 rfl rfl
theorem dksX9_body_11 : cX9_body.data.toList.drop 324 = dktX9_body_11 := dk_seg dksX9_body_10 23 rfl rfl
theorem dX9_body_0 : decode cX9_body 0 = .ok (.aload_n 0, 1) := dk_42 (dk_at dksX9_body_0 0 rfl rfl)
theorem dX9_body_1 : decode cX9_body 1 = .ok (.getfield 9, 3) := dk_180 0 9 (dk_at dksX9_body_0 1 rfl rfl)
theorem dX9_body_4 : decode cX9_body 4 = .ok (.bipush 30, 2) := dk_16 30 (dk_at dksX9_body_0 4 rfl rfl)
theorem dX9_body_6 : decode cX9_body 6 = .ok (.aload_n 0, 1) := dk_42 (dk_at dksX9_body_0 6 rfl rfl)
theorem dX9_body_7 : decode cX9_body 7 = .ok (.getfield 307, 3) := dk_180 1 51 (dk_at dksX9_body_0 7 rfl rfl)
theorem dX9_body_10 : decode cX9_body 10 = .ok (.iadd, 1) := dk_96 (dk_at dksX9_body_0 10 rfl rfl)
theorem dX9_body_11 : decode cX9_body 11 = .ok (.iaload, 1) := dk_46 (dk_at dksX9_body_0 11 rfl rfl)
theorem dX9_body_12 : decode cX9_body 12 = .ok (.istore 4, 2) := dk_54 4 (dk_at dksX9_body_0 12 rfl rfl)
theorem dX9_body_14 : decode cX9_body 14 = .ok (.iconst 4, 1) := dk_7 (dk_at dksX9_body_0 14 rfl rfl)
theorem dX9_body_15 : decode cX9_body 15 = .ok (.iload_n 1, 1) := dk_27 (dk_at dksX9_body_0 15 rfl rfl)
theorem dX9_body_16 : decode cX9_body 16 = .ok (.imul, 1) := dk_104 (dk_at dksX9_body_0 16 rfl rfl)
theorem dX9_body_17 : decode cX9_body 17 = .ok (.iload_n 2, 1) := dk_28 (dk_at dksX9_body_0 17 rfl rfl)
theorem dX9_body_18 : decode cX9_body 18 = .ok (.iadd, 1) := dk_96 (dk_at dksX9_body_0 18 rfl rfl)
theorem dX9_body_19 : decode cX9_body 19 = .ok (.tableswitch 290 0 20 #[97, 110, 125, 136, 290, 160, 290, 290, 185, 290, 290, 201, 290, 290, 217, 290, 290, 257, 290, 232, 274], 97) := by decide +kernel
theorem dX9_body_116 : decode cX9_body 116 = .ok (.aload_n 0, 1) := dk_42 (dk_at dksX9_body_2 0 rfl rfl)
theorem dX9_body_117 : decode cX9_body 117 = .ok (.bipush 10, 2) := dk_16 10 (dk_at dksX9_body_2 1 rfl rfl)
theorem dX9_body_119 : decode cX9_body 119 = .ok (.invokevirtual 319, 3) := dk_182 1 63 (dk_at dksX9_body_2 3 rfl rfl)
theorem dX9_body_122 : decode cX9_body 122 = .ok (.iload_n 3, 1) := dk_29 (dk_at dksX9_body_2 6 rfl rfl)
theorem dX9_body_123 : decode cX9_body 123 = .ok (.aload_n 0, 1) := dk_42 (dk_at dksX9_body_2 7 rfl rfl)
theorem dX9_body_124 : decode cX9_body 124 = .ok (.getfield 307, 3) := dk_180 1 51 (dk_at dksX9_body_2 8 rfl rfl)
theorem dX9_body_127 : decode cX9_body 127 = .ok (.iadd, 1) := dk_96 (dk_at dksX9_body_2 11 rfl rfl)
theorem dX9_body_128 : decode cX9_body 128 = .ok (.ireturn, 1) := dk_172 (dk_at dksX9_body_2 12 rfl rfl)
theorem dX9_body_129 : decode cX9_body 129 = .ok (.aload_n 0, 1) := dk_42 (dk_at dksX9_body_2 13 rfl rfl)
theorem dX9_body_130 : decode cX9_body 130 = .ok (.bipush 11, 2) := dk_16 11 (dk_at dksX9_body_2 14 rfl rfl)
theorem dX9_body_132 : decode cX9_body 132 = .ok (.invokevirtual 319, 3) := dk_182 1 63 (dk_at dksX9_body_2 16 rfl rfl)
theorem dX9_body_135 : decode cX9_body 135 = .ok (.aload_n 0, 1) := dk_42 (dk_at dksX9_body_2 19 rfl rfl)
theorem dX9_body_136 : decode cX9_body 136 = .ok (.iconst 0, 1) := dk_3 (dk_at dksX9_body_2 20 rfl rfl)
theorem dX9_body_137 : decode cX9_body 137 = .ok (.iload_n 3, 1) := dk_29 (dk_at dksX9_body_2 21 rfl rfl)
theorem dX9_body_138 : decode cX9_body 138 = .ok (.invokevirtual 322, 3) := dk_182 1 66 (dk_at dksX9_body_3 0 rfl rfl)
theorem dX9_body_141 : decode cX9_body 141 = .ok (.iconst 2, 1) := dk_5 (dk_at dksX9_body_3 3 rfl rfl)
theorem dX9_body_142 : decode cX9_body 142 = .ok (.imul, 1) := dk_104 (dk_at dksX9_body_3 4 rfl rfl)
theorem dX9_body_143 : decode cX9_body 143 = .ok (.ireturn, 1) := dk_172 (dk_at dksX9_body_3 5 rfl rfl)
theorem dX9_body_144 : decode cX9_body 144 = .ok (.aload_n 0, 1) := dk_42 (dk_at dksX9_body_3 6 rfl rfl)
theorem dX9_body_145 : decode cX9_body 145 = .ok (.bipush 12, 2) := dk_16 12 (dk_at dksX9_body_3 7 rfl rfl)
theorem dX9_body_147 : decode cX9_body 147 = .ok (.invokevirtual 319, 3) := dk_182 1 63 (dk_at dksX9_body_3 9 rfl rfl)
theorem dX9_body_150 : decode cX9_body 150 = .ok (.iload_n 3, 1) := dk_29 (dk_at dksX9_body_3 12 rfl rfl)
theorem dX9_body_151 : decode cX9_body 151 = .ok (.iload 4, 2) := dk_21 4 (dk_at dksX9_body_3 13 rfl rfl)
theorem dX9_body_153 : decode cX9_body 153 = .ok (.isub, 1) := dk_100 (dk_at dksX9_body_3 15 rfl rfl)
theorem dX9_body_154 : decode cX9_body 154 = .ok (.ireturn, 1) := dk_172 (dk_at dksX9_body_3 16 rfl rfl)
theorem dX9_body_155 : decode cX9_body 155 = .ok (.aload_n 0, 1) := dk_42 (dk_at dksX9_body_3 17 rfl rfl)
theorem dX9_body_156 : decode cX9_body 156 = .ok (.bipush 13, 2) := dk_16 13 (dk_at dksX9_body_3 18 rfl rfl)
theorem dX9_body_158 : decode cX9_body 158 = .ok (.invokevirtual 319, 3) := dk_182 1 63 (dk_at dksX9_body_3 20 rfl rfl)
theorem dX9_body_161 : decode cX9_body 161 = .ok (.aload_n 0, 1) := dk_42 (dk_at dksX9_body_3 23 rfl rfl)
theorem dX9_body_162 : decode cX9_body 162 = .ok (.iconst 1, 1) := dk_4 (dk_at dksX9_body_4 0 rfl rfl)
theorem dX9_body_163 : decode cX9_body 163 = .ok (.iload_n 3, 1) := dk_29 (dk_at dksX9_body_4 1 rfl rfl)
theorem dX9_body_164 : decode cX9_body 164 = .ok (.invokevirtual 322, 3) := dk_182 1 66 (dk_at dksX9_body_4 2 rfl rfl)
theorem dX9_body_167 : decode cX9_body 167 = .ok (.istore 5, 2) := dk_54 5 (dk_at dksX9_body_4 5 rfl rfl)
theorem dX9_body_169 : decode cX9_body 169 = .ok (.iload 5, 2) := dk_21 5 (dk_at dksX9_body_4 7 rfl rfl)
theorem dX9_body_171 : decode cX9_body 171 = .ok (.aload_n 0, 1) := dk_42 (dk_at dksX9_body_4 9 rfl rfl)
theorem dX9_body_172 : decode cX9_body 172 = .ok (.iconst 2, 1) := dk_5 (dk_at dksX9_body_4 10 rfl rfl)
theorem dX9_body_173 : decode cX9_body 173 = .ok (.iload_n 3, 1) := dk_29 (dk_at dksX9_body_4 11 rfl rfl)
theorem dX9_body_174 : decode cX9_body 174 = .ok (.invokevirtual 322, 3) := dk_182 1 66 (dk_at dksX9_body_4 12 rfl rfl)
theorem dX9_body_177 : decode cX9_body 177 = .ok (.ixor, 1) := dk_130 (dk_at dksX9_body_4 15 rfl rfl)
theorem dX9_body_178 : decode cX9_body 178 = .ok (.ireturn, 1) := dk_172 (dk_at dksX9_body_4 16 rfl rfl)
theorem dX9_body_179 : decode cX9_body 179 = .ok (.aload_n 0, 1) := dk_42 (dk_at dksX9_body_4 17 rfl rfl)
theorem dX9_body_180 : decode cX9_body 180 = .ok (.bipush 20, 2) := dk_16 20 (dk_at dksX9_body_4 18 rfl rfl)
theorem dX9_body_182 : decode cX9_body 182 = .ok (.invokevirtual 319, 3) := dk_182 1 63 (dk_at dksX9_body_4 20 rfl rfl)
theorem dX9_body_185 : decode cX9_body 185 = .ok (.aload_n 0, 1) := dk_42 (dk_at dksX9_body_4 23 rfl rfl)
theorem dX9_body_186 : decode cX9_body 186 = .ok (.iconst 0, 1) := dk_3 (dk_at dksX9_body_5 0 rfl rfl)
theorem dX9_body_187 : decode cX9_body 187 = .ok (.iconst 1, 1) := dk_4 (dk_at dksX9_body_5 1 rfl rfl)
theorem dX9_body_188 : decode cX9_body 188 = .ok (.iload_n 3, 1) := dk_29 (dk_at dksX9_body_5 2 rfl rfl)
theorem dX9_body_189 : decode cX9_body 189 = .ok (.invokevirtual 310, 3) := dk_182 1 54 (dk_at dksX9_body_5 3 rfl rfl)
theorem dX9_body_192 : decode cX9_body 192 = .ok (.istore 5, 2) := dk_54 5 (dk_at dksX9_body_5 6 rfl rfl)
theorem dX9_body_194 : decode cX9_body 194 = .ok (.iload 5, 2) := dk_21 5 (dk_at dksX9_body_5 8 rfl rfl)
theorem dX9_body_196 : decode cX9_body 196 = .ok (.aload_n 0, 1) := dk_42 (dk_at dksX9_body_5 10 rfl rfl)
theorem dX9_body_197 : decode cX9_body 197 = .ok (.iconst 2, 1) := dk_5 (dk_at dksX9_body_5 11 rfl rfl)
theorem dX9_body_198 : decode cX9_body 198 = .ok (.iload_n 3, 1) := dk_29 (dk_at dksX9_body_5 12 rfl rfl)
theorem dX9_body_199 : decode cX9_body 199 = .ok (.invokevirtual 322, 3) := dk_182 1 66 (dk_at dksX9_body_5 13 rfl rfl)
theorem dX9_body_202 : decode cX9_body 202 = .ok (.iadd, 1) := dk_96 (dk_at dksX9_body_5 16 rfl rfl)
theorem dX9_body_203 : decode cX9_body 203 = .ok (.ireturn, 1) := dk_172 (dk_at dksX9_body_5 17 rfl rfl)
theorem dX9_body_204 : decode cX9_body 204 = .ok (.aload_n 0, 1) := dk_42 (dk_at dksX9_body_5 18 rfl rfl)
theorem dX9_body_205 : decode cX9_body 205 = .ok (.bipush 30, 2) := dk_16 30 (dk_at dksX9_body_5 19 rfl rfl)
theorem dX9_body_207 : decode cX9_body 207 = .ok (.invokevirtual 319, 3) := dk_182 1 63 (dk_at dksX9_body_5 21 rfl rfl)
theorem dX9_body_210 : decode cX9_body 210 = .ok (.aload_n 0, 1) := dk_42 (dk_at dksX9_body_6 0 rfl rfl)
theorem dX9_body_211 : decode cX9_body 211 = .ok (.iconst 1, 1) := dk_4 (dk_at dksX9_body_6 1 rfl rfl)
theorem dX9_body_212 : decode cX9_body 212 = .ok (.iconst 0, 1) := dk_3 (dk_at dksX9_body_6 2 rfl rfl)
theorem dX9_body_213 : decode cX9_body 213 = .ok (.iload_n 3, 1) := dk_29 (dk_at dksX9_body_6 3 rfl rfl)
theorem dX9_body_214 : decode cX9_body 214 = .ok (.invokevirtual 310, 3) := dk_182 1 54 (dk_at dksX9_body_6 4 rfl rfl)
theorem dX9_body_217 : decode cX9_body 217 = .ok (.iconst 1, 1) := dk_4 (dk_at dksX9_body_6 7 rfl rfl)
theorem dX9_body_218 : decode cX9_body 218 = .ok (.isub, 1) := dk_100 (dk_at dksX9_body_6 8 rfl rfl)
theorem dX9_body_219 : decode cX9_body 219 = .ok (.ireturn, 1) := dk_172 (dk_at dksX9_body_6 9 rfl rfl)
theorem dX9_body_220 : decode cX9_body 220 = .ok (.aload_n 0, 1) := dk_42 (dk_at dksX9_body_6 10 rfl rfl)
theorem dX9_body_221 : decode cX9_body 221 = .ok (.bipush 31, 2) := dk_16 31 (dk_at dksX9_body_6 11 rfl rfl)
theorem dX9_body_223 : decode cX9_body 223 = .ok (.invokevirtual 319, 3) := dk_182 1 63 (dk_at dksX9_body_6 13 rfl rfl)
theorem dX9_body_226 : decode cX9_body 226 = .ok (.aload_n 0, 1) := dk_42 (dk_at dksX9_body_6 16 rfl rfl)
theorem dX9_body_227 : decode cX9_body 227 = .ok (.iconst 1, 1) := dk_4 (dk_at dksX9_body_6 17 rfl rfl)
theorem dX9_body_228 : decode cX9_body 228 = .ok (.iconst 3, 1) := dk_6 (dk_at dksX9_body_6 18 rfl rfl)
theorem dX9_body_229 : decode cX9_body 229 = .ok (.iload_n 3, 1) := dk_29 (dk_at dksX9_body_6 19 rfl rfl)
theorem dX9_body_230 : decode cX9_body 230 = .ok (.iconst 1, 1) := dk_4 (dk_at dksX9_body_6 20 rfl rfl)
theorem dX9_body_231 : decode cX9_body 231 = .ok (.iadd, 1) := dk_96 (dk_at dksX9_body_6 21 rfl rfl)
theorem dX9_body_232 : decode cX9_body 232 = .ok (.invokevirtual 310, 3) := dk_182 1 54 (dk_at dksX9_body_7 0 rfl rfl)
theorem dX9_body_235 : decode cX9_body 235 = .ok (.ireturn, 1) := dk_172 (dk_at dksX9_body_7 3 rfl rfl)
theorem dX9_body_236 : decode cX9_body 236 = .ok (.aload_n 0, 1) := dk_42 (dk_at dksX9_body_7 4 rfl rfl)
theorem dX9_body_237 : decode cX9_body 237 = .ok (.bipush 40, 2) := dk_16 40 (dk_at dksX9_body_7 5 rfl rfl)
theorem dX9_body_239 : decode cX9_body 239 = .ok (.invokevirtual 319, 3) := dk_182 1 63 (dk_at dksX9_body_7 7 rfl rfl)
theorem dX9_body_242 : decode cX9_body 242 = .ok (.aload_n 0, 1) := dk_42 (dk_at dksX9_body_7 10 rfl rfl)
theorem dX9_body_243 : decode cX9_body 243 = .ok (.iconst 1, 1) := dk_4 (dk_at dksX9_body_7 11 rfl rfl)
theorem dX9_body_244 : decode cX9_body 244 = .ok (.iconst 2, 1) := dk_5 (dk_at dksX9_body_7 12 rfl rfl)
theorem dX9_body_245 : decode cX9_body 245 = .ok (.iload_n 3, 1) := dk_29 (dk_at dksX9_body_7 13 rfl rfl)
theorem dX9_body_246 : decode cX9_body 246 = .ok (.invokevirtual 310, 3) := dk_182 1 54 (dk_at dksX9_body_7 14 rfl rfl)
theorem dX9_body_249 : decode cX9_body 249 = .ok (.ineg, 1) := dk_116 (dk_at dksX9_body_7 17 rfl rfl)
theorem dX9_body_250 : decode cX9_body 250 = .ok (.ireturn, 1) := dk_172 (dk_at dksX9_body_7 18 rfl rfl)
theorem dX9_body_251 : decode cX9_body 251 = .ok (.aload_n 0, 1) := dk_42 (dk_at dksX9_body_7 19 rfl rfl)
theorem dX9_body_252 : decode cX9_body 252 = .ok (.bipush 50, 2) := dk_16 50 (dk_at dksX9_body_7 20 rfl rfl)
theorem dX9_body_254 : decode cX9_body 254 = .ok (.invokevirtual 319, 3) := dk_182 1 63 (dk_at dksX9_body_8 0 rfl rfl)
theorem dX9_body_257 : decode cX9_body 257 = .ok (.aload_n 0, 1) := dk_42 (dk_at dksX9_body_8 3 rfl rfl)
theorem dX9_body_258 : decode cX9_body 258 = .ok (.iconst 2, 1) := dk_5 (dk_at dksX9_body_8 4 rfl rfl)
theorem dX9_body_259 : decode cX9_body 259 = .ok (.iload_n 3, 1) := dk_29 (dk_at dksX9_body_8 5 rfl rfl)
theorem dX9_body_260 : decode cX9_body 260 = .ok (.invokevirtual 322, 3) := dk_182 1 66 (dk_at dksX9_body_8 6 rfl rfl)
theorem dX9_body_263 : decode cX9_body 263 = .ok (.istore 5, 2) := dk_54 5 (dk_at dksX9_body_8 9 rfl rfl)
theorem dX9_body_265 : decode cX9_body 265 = .ok (.iload 5, 2) := dk_21 5 (dk_at dksX9_body_8 11 rfl rfl)
theorem dX9_body_267 : decode cX9_body 267 = .ok (.aload_n 0, 1) := dk_42 (dk_at dksX9_body_8 13 rfl rfl)
theorem dX9_body_268 : decode cX9_body 268 = .ok (.iconst 1, 1) := dk_4 (dk_at dksX9_body_8 14 rfl rfl)
theorem dX9_body_269 : decode cX9_body 269 = .ok (.iconst 3, 1) := dk_6 (dk_at dksX9_body_8 15 rfl rfl)
theorem dX9_body_270 : decode cX9_body 270 = .ok (.iload_n 3, 1) := dk_29 (dk_at dksX9_body_8 16 rfl rfl)
theorem dX9_body_271 : decode cX9_body 271 = .ok (.invokevirtual 310, 3) := dk_182 1 54 (dk_at dksX9_body_8 17 rfl rfl)
theorem dX9_body_274 : decode cX9_body 274 = .ok (.isub, 1) := dk_100 (dk_at dksX9_body_8 20 rfl rfl)
theorem dX9_body_275 : decode cX9_body 275 = .ok (.ireturn, 1) := dk_172 (dk_at dksX9_body_8 21 rfl rfl)
theorem dX9_body_276 : decode cX9_body 276 = .ok (.aload_n 0, 1) := dk_42 (dk_at dksX9_body_8 22 rfl rfl)
theorem dX9_body_277 : decode cX9_body 277 = .ok (.bipush 51, 2) := dk_16 51 (dk_at dksX9_body_9 0 rfl rfl)
theorem dX9_body_279 : decode cX9_body 279 = .ok (.invokevirtual 319, 3) := dk_182 1 63 (dk_at dksX9_body_9 2 rfl rfl)
theorem dX9_body_282 : decode cX9_body 282 = .ok (.aload_n 0, 1) := dk_42 (dk_at dksX9_body_9 5 rfl rfl)
theorem dX9_body_283 : decode cX9_body 283 = .ok (.iconst 1, 1) := dk_4 (dk_at dksX9_body_9 6 rfl rfl)
theorem dX9_body_284 : decode cX9_body 284 = .ok (.iconst 1, 1) := dk_4 (dk_at dksX9_body_9 7 rfl rfl)
theorem dX9_body_285 : decode cX9_body 285 = .ok (.iload_n 3, 1) := dk_29 (dk_at dksX9_body_9 8 rfl rfl)
theorem dX9_body_286 : decode cX9_body 286 = .ok (.iload 4, 2) := dk_21 4 (dk_at dksX9_body_9 9 rfl rfl)
theorem dX9_body_288 : decode cX9_body 288 = .ok (.isub, 1) := dk_100 (dk_at dksX9_body_9 11 rfl rfl)
theorem dX9_body_289 : decode cX9_body 289 = .ok (.invokevirtual 310, 3) := dk_182 1 54 (dk_at dksX9_body_9 12 rfl rfl)
theorem dX9_body_292 : decode cX9_body 292 = .ok (.ireturn, 1) := dk_172 (dk_at dksX9_body_9 15 rfl rfl)
theorem dX9_body_293 : decode cX9_body 293 = .ok (.aload_n 0, 1) := dk_42 (dk_at dksX9_body_9 16 rfl rfl)
theorem dX9_body_294 : decode cX9_body 294 = .ok (.bipush 60, 2) := dk_16 60 (dk_at dksX9_body_9 17 rfl rfl)
theorem dX9_body_296 : decode cX9_body 296 = .ok (.invokevirtual 319, 3) := dk_182 1 63 (dk_at dksX9_body_9 19 rfl rfl)
theorem dX9_body_299 : decode cX9_body 299 = .ok (.aload_n 0, 1) := dk_42 (dk_at dksX9_body_9 22 rfl rfl)
theorem dX9_body_300 : decode cX9_body 300 = .ok (.iconst 0, 1) := dk_3 (dk_at dksX9_body_9 23 rfl rfl)
theorem dX9_body_301 : decode cX9_body 301 = .ok (.iconst 0, 1) := dk_3 (dk_at dksX9_body_10 0 rfl rfl)
theorem dX9_body_302 : decode cX9_body 302 = .ok (.iload_n 3, 1) := dk_29 (dk_at dksX9_body_10 1 rfl rfl)
theorem dX9_body_303 : decode cX9_body 303 = .ok (.invokevirtual 310, 3) := dk_182 1 54 (dk_at dksX9_body_10 2 rfl rfl)
theorem dX9_body_306 : decode cX9_body 306 = .ok (.iconst 5, 1) := dk_8 (dk_at dksX9_body_10 5 rfl rfl)
theorem dX9_body_307 : decode cX9_body 307 = .ok (.ixor, 1) := dk_130 (dk_at dksX9_body_10 6 rfl rfl)
theorem dX9_body_308 : decode cX9_body 308 = .ok (.ireturn, 1) := dk_172 (dk_at dksX9_body_10 7 rfl rfl)
theorem dX9_body_309 : decode cX9_body 309 = .ok (.aload_n 0, 1) := dk_42 (dk_at dksX9_body_10 8 rfl rfl)
theorem dX9_body_310 : decode cX9_body 310 = .ok (.bipush 61, 2) := dk_16 61 (dk_at dksX9_body_10 9 rfl rfl)
theorem dX9_body_312 : decode cX9_body 312 = .ok (.invokevirtual 319, 3) := dk_182 1 63 (dk_at dksX9_body_10 11 rfl rfl)
theorem dX9_body_315 : decode cX9_body 315 = .ok (.aload_n 0, 1) := dk_42 (dk_at dksX9_body_10 14 rfl rfl)
theorem dX9_body_316 : decode cX9_body 316 = .ok (.iconst 0, 1) := dk_3 (dk_at dksX9_body_10 15 rfl rfl)
theorem dX9_body_317 : decode cX9_body 317 = .ok (.iconst 2, 1) := dk_5 (dk_at dksX9_body_10 16 rfl rfl)
theorem dX9_body_318 : decode cX9_body 318 = .ok (.iload_n 3, 1) := dk_29 (dk_at dksX9_body_10 17 rfl rfl)
theorem dX9_body_319 : decode cX9_body 319 = .ok (.invokevirtual 310, 3) := dk_182 1 54 (dk_at dksX9_body_10 18 rfl rfl)
theorem dX9_body_322 : decode cX9_body 322 = .ok (.istore 5, 2) := dk_54 5 (dk_at dksX9_body_10 21 rfl rfl)
theorem dX9_body_324 : decode cX9_body 324 = .ok (.iload 5, 2) := dk_21 5 (dk_at dksX9_body_11 0 rfl rfl)
theorem dX9_body_326 : decode cX9_body 326 = .ok (.aload_n 0, 1) := dk_42 (dk_at dksX9_body_11 2 rfl rfl)
theorem dX9_body_327 : decode cX9_body 327 = .ok (.iconst 0, 1) := dk_3 (dk_at dksX9_body_11 3 rfl rfl)
theorem dX9_body_328 : decode cX9_body 328 = .ok (.iconst 1, 1) := dk_4 (dk_at dksX9_body_11 4 rfl rfl)
theorem dX9_body_329 : decode cX9_body 329 = .ok (.invokevirtual 322, 3) := dk_182 1 66 (dk_at dksX9_body_11 5 rfl rfl)
theorem dX9_body_332 : decode cX9_body 332 = .ok (.imul, 1) := dk_104 (dk_at dksX9_body_11 8 rfl rfl)
theorem dX9_body_333 : decode cX9_body 333 = .ok (.ireturn, 1) := dk_172 (dk_at dksX9_body_11 9 rfl rfl)
abbrev cX9_began : ByteArray := prog_33_method_86_code
def yX9_began : MethodName := ⟨RX9, "began", "(I)V"⟩
def dkwX9_began_1 : List UInt8 := [4, 96, 181, 1, 48, 177]
abbrev dktX9_began_1 : List UInt8 := dkwX9_began_1 ++ []
def dkwX9_began_0 : List UInt8 := [42, 180, 1, 48, 16, 40, 162, 0, 23, 42, 180, 0, 55, 42, 180, 1, 48, 27, 79, 42, 89, 180, 1, 48]
abbrev dktX9_began_0 : List UInt8 := dkwX9_began_0 ++ dktX9_began_1
theorem dksX9_began_0 : cX9_began.data.toList.drop 0 = dktX9_began_0 := by decide +kernel
theorem dksX9_began_1 : cX9_began.data.toList.drop 24 = dktX9_began_1 := dk_seg dksX9_began_0 24 rfl rfl
theorem dX9_began_0 : decode cX9_began 0 = .ok (.aload_n 0, 1) := dk_42 (dk_at dksX9_began_0 0 rfl rfl)
theorem dX9_began_1 : decode cX9_began 1 = .ok (.getfield 304, 3) := dk_180 1 48 (dk_at dksX9_began_0 1 rfl rfl)
theorem dX9_began_4 : decode cX9_began 4 = .ok (.bipush 40, 2) := dk_16 40 (dk_at dksX9_began_0 4 rfl rfl)
theorem dX9_began_6 : decode cX9_began 6 = .ok (.if_icmp .ge 23, 3) := dk_162 0 23 (dk_at dksX9_began_0 6 rfl rfl)
theorem dX9_began_9 : decode cX9_began 9 = .ok (.aload_n 0, 1) := dk_42 (dk_at dksX9_began_0 9 rfl rfl)
theorem dX9_began_10 : decode cX9_began 10 = .ok (.getfield 55, 3) := dk_180 0 55 (dk_at dksX9_began_0 10 rfl rfl)
theorem dX9_began_13 : decode cX9_began 13 = .ok (.aload_n 0, 1) := dk_42 (dk_at dksX9_began_0 13 rfl rfl)
theorem dX9_began_14 : decode cX9_began 14 = .ok (.getfield 304, 3) := dk_180 1 48 (dk_at dksX9_began_0 14 rfl rfl)
theorem dX9_began_17 : decode cX9_began 17 = .ok (.iload_n 1, 1) := dk_27 (dk_at dksX9_began_0 17 rfl rfl)
theorem dX9_began_18 : decode cX9_began 18 = .ok (.iastore, 1) := dk_79 (dk_at dksX9_began_0 18 rfl rfl)
theorem dX9_began_19 : decode cX9_began 19 = .ok (.aload_n 0, 1) := dk_42 (dk_at dksX9_began_0 19 rfl rfl)
theorem dX9_began_20 : decode cX9_began 20 = .ok (.dup, 1) := dk_89 (dk_at dksX9_began_0 20 rfl rfl)
theorem dX9_began_21 : decode cX9_began 21 = .ok (.getfield 304, 3) := dk_180 1 48 (dk_at dksX9_began_0 21 rfl rfl)
theorem dX9_began_24 : decode cX9_began 24 = .ok (.iconst 1, 1) := dk_4 (dk_at dksX9_began_1 0 rfl rfl)
theorem dX9_began_25 : decode cX9_began 25 = .ok (.iadd, 1) := dk_96 (dk_at dksX9_began_1 1 rfl rfl)
theorem dX9_began_26 : decode cX9_began 26 = .ok (.putfield 304, 3) := dk_181 1 48 (dk_at dksX9_began_1 2 rfl rfl)
theorem dX9_began_29 : decode cX9_began 29 = .ok (.return_, 1) := dk_177 (dk_at dksX9_began_1 5 rfl rfl)
abbrev cX9_trace : ByteArray := prog_33_method_92_code
def yX9_trace : MethodName := ⟨RX9, "trace", "(I)I"⟩
def dkwX9_trace_1 : List UInt8 := [18, 112, 182, 0, 106, 172]
abbrev dktX9_trace_1 : List UInt8 := dkwX9_trace_1 ++ []
def dkwX9_trace_0 : List UInt8 := [27, 3, 42, 180, 1, 48, 4, 100, 184, 0, 94, 153, 0, 12, 42, 180, 0, 55, 27, 46, 167, 0, 9, 42]
abbrev dktX9_trace_0 : List UInt8 := dkwX9_trace_0 ++ dktX9_trace_1
theorem dksX9_trace_0 : cX9_trace.data.toList.drop 0 = dktX9_trace_0 := by decide +kernel
theorem dksX9_trace_1 : cX9_trace.data.toList.drop 24 = dktX9_trace_1 := dk_seg dksX9_trace_0 24 rfl rfl
theorem dX9_trace_0 : decode cX9_trace 0 = .ok (.iload_n 1, 1) := dk_27 (dk_at dksX9_trace_0 0 rfl rfl)
theorem dX9_trace_1 : decode cX9_trace 1 = .ok (.iconst 0, 1) := dk_3 (dk_at dksX9_trace_0 1 rfl rfl)
theorem dX9_trace_2 : decode cX9_trace 2 = .ok (.aload_n 0, 1) := dk_42 (dk_at dksX9_trace_0 2 rfl rfl)
theorem dX9_trace_3 : decode cX9_trace 3 = .ok (.getfield 304, 3) := dk_180 1 48 (dk_at dksX9_trace_0 3 rfl rfl)
theorem dX9_trace_6 : decode cX9_trace 6 = .ok (.iconst 1, 1) := dk_4 (dk_at dksX9_trace_0 6 rfl rfl)
theorem dX9_trace_7 : decode cX9_trace 7 = .ok (.isub, 1) := dk_100 (dk_at dksX9_trace_0 7 rfl rfl)
theorem dX9_trace_8 : decode cX9_trace 8 = .ok (.invokestatic 94, 3) := dk_184 0 94 (dk_at dksX9_trace_0 8 rfl rfl)
theorem dX9_trace_11 : decode cX9_trace 11 = .ok (.ifCond .eq 12, 3) := dk_153 0 12 (dk_at dksX9_trace_0 11 rfl rfl)
theorem dX9_trace_14 : decode cX9_trace 14 = .ok (.aload_n 0, 1) := dk_42 (dk_at dksX9_trace_0 14 rfl rfl)
theorem dX9_trace_15 : decode cX9_trace 15 = .ok (.getfield 55, 3) := dk_180 0 55 (dk_at dksX9_trace_0 15 rfl rfl)
theorem dX9_trace_18 : decode cX9_trace 18 = .ok (.iload_n 1, 1) := dk_27 (dk_at dksX9_trace_0 18 rfl rfl)
theorem dX9_trace_19 : decode cX9_trace 19 = .ok (.iaload, 1) := dk_46 (dk_at dksX9_trace_0 19 rfl rfl)
theorem dX9_trace_20 : decode cX9_trace 20 = .ok (.goto 9, 3) := dk_167 0 9 (dk_at dksX9_trace_0 20 rfl rfl)
theorem dX9_trace_23 : decode cX9_trace 23 = .ok (.aload_n 0, 1) := dk_42 (dk_at dksX9_trace_0 23 rfl rfl)
theorem dX9_trace_24 : decode cX9_trace 24 = .ok (.ldc 112, 2) := dk_18 112 (dk_at dksX9_trace_1 0 rfl rfl)
theorem dX9_trace_26 : decode cX9_trace 26 = .ok (.invokevirtual 106, 3) := dk_182 0 106 (dk_at dksX9_trace_1 2 rfl rfl)
theorem dX9_trace_29 : decode cX9_trace 29 = .ok (.ireturn, 1) := dk_172 (dk_at dksX9_trace_1 5 rfl rfl)
abbrev cX9_sheet : ByteArray := prog_33_method_94_code
def yX9_sheet : MethodName := ⟨RX9, "sheet", "(III)I"⟩
def dkwX9_sheet_5 : List UInt8 := [167, 255, 233, 4, 172]
abbrev dktX9_sheet_5 : List UInt8 := dkwX9_sheet_5 ++ []
def dkwX9_sheet_4 : List UInt8 := [21, 4, 16, 40, 162, 0, 22, 42, 180, 0, 64, 16, 40, 27, 104, 21, 4, 96, 3, 79, 132, 4, 1]
abbrev dktX9_sheet_4 : List UInt8 := dkwX9_sheet_4 ++ dktX9_sheet_5
def dkwX9_sheet_3 : List UInt8 := [180, 0, 58, 27, 28, 79, 42, 180, 0, 61, 27, 28, 154, 0, 7, 3, 167, 0, 4, 29, 79, 3, 54, 4]
abbrev dktX9_sheet_3 : List UInt8 := dkwX9_sheet_3 ++ dktX9_sheet_4
def dkwX9_sheet_2 : List UInt8 := [182, 0, 106, 172, 28, 153, 0, 16, 29, 16, 40, 164, 0, 10, 42, 18, 105, 182, 0, 106, 172, 42]
abbrev dktX9_sheet_2 : List UInt8 := dkwX9_sheet_2 ++ dktX9_sheet_3
def dkwX9_sheet_1 : List UInt8 := [16, 32, 159, 0, 10, 42, 18, 105, 182, 0, 106, 172, 28, 153, 0, 15, 29, 156, 0, 11, 42, 19, 1, 32]
abbrev dktX9_sheet_1 : List UInt8 := dkwX9_sheet_1 ++ dktX9_sheet_2
def dkwX9_sheet_0 : List UInt8 := [27, 184, 0, 116, 153, 0, 25, 28, 153, 0, 28, 28, 16, 8, 159, 0, 22, 28, 16, 16, 159, 0, 16, 28]
abbrev dktX9_sheet_0 : List UInt8 := dkwX9_sheet_0 ++ dktX9_sheet_1
theorem dksX9_sheet_0 : cX9_sheet.data.toList.drop 0 = dktX9_sheet_0 := by decide +kernel
theorem dksX9_sheet_1 : cX9_sheet.data.toList.drop 24 = dktX9_sheet_1 := dk_seg dksX9_sheet_0 24 rfl rfl
theorem dksX9_sheet_2 : cX9_sheet.data.toList.drop 48 = dktX9_sheet_2 := dk_seg dksX9_sheet_1 24 rfl rfl
theorem dksX9_sheet_3 : cX9_sheet.data.toList.drop 70 = dktX9_sheet_3 := dk_seg dksX9_sheet_2 22 rfl rfl
theorem dksX9_sheet_4 : cX9_sheet.data.toList.drop 94 = dktX9_sheet_4 := dk_seg dksX9_sheet_3 24 rfl rfl
theorem dksX9_sheet_5 : cX9_sheet.data.toList.drop 117 = dktX9_sheet_5 := dk_seg dksX9_sheet_4 23 rfl rfl
theorem dX9_sheet_0 : decode cX9_sheet 0 = .ok (.iload_n 1, 1) := dk_27 (dk_at dksX9_sheet_0 0 rfl rfl)
theorem dX9_sheet_1 : decode cX9_sheet 1 = .ok (.invokestatic 116, 3) := dk_184 0 116 (dk_at dksX9_sheet_0 1 rfl rfl)
theorem dX9_sheet_4 : decode cX9_sheet 4 = .ok (.ifCond .eq 25, 3) := dk_153 0 25 (dk_at dksX9_sheet_0 4 rfl rfl)
theorem dX9_sheet_7 : decode cX9_sheet 7 = .ok (.iload_n 2, 1) := dk_28 (dk_at dksX9_sheet_0 7 rfl rfl)
theorem dX9_sheet_8 : decode cX9_sheet 8 = .ok (.ifCond .eq 28, 3) := dk_153 0 28 (dk_at dksX9_sheet_0 8 rfl rfl)
theorem dX9_sheet_11 : decode cX9_sheet 11 = .ok (.iload_n 2, 1) := dk_28 (dk_at dksX9_sheet_0 11 rfl rfl)
theorem dX9_sheet_12 : decode cX9_sheet 12 = .ok (.bipush 8, 2) := dk_16 8 (dk_at dksX9_sheet_0 12 rfl rfl)
theorem dX9_sheet_14 : decode cX9_sheet 14 = .ok (.if_icmp .eq 22, 3) := dk_159 0 22 (dk_at dksX9_sheet_0 14 rfl rfl)
theorem dX9_sheet_17 : decode cX9_sheet 17 = .ok (.iload_n 2, 1) := dk_28 (dk_at dksX9_sheet_0 17 rfl rfl)
theorem dX9_sheet_18 : decode cX9_sheet 18 = .ok (.bipush 16, 2) := dk_16 16 (dk_at dksX9_sheet_0 18 rfl rfl)
theorem dX9_sheet_20 : decode cX9_sheet 20 = .ok (.if_icmp .eq 16, 3) := dk_159 0 16 (dk_at dksX9_sheet_0 20 rfl rfl)
theorem dX9_sheet_23 : decode cX9_sheet 23 = .ok (.iload_n 2, 1) := dk_28 (dk_at dksX9_sheet_0 23 rfl rfl)
theorem dX9_sheet_24 : decode cX9_sheet 24 = .ok (.bipush 32, 2) := dk_16 32 (dk_at dksX9_sheet_1 0 rfl rfl)
theorem dX9_sheet_26 : decode cX9_sheet 26 = .ok (.if_icmp .eq 10, 3) := dk_159 0 10 (dk_at dksX9_sheet_1 2 rfl rfl)
theorem dX9_sheet_29 : decode cX9_sheet 29 = .ok (.aload_n 0, 1) := dk_42 (dk_at dksX9_sheet_1 5 rfl rfl)
theorem dX9_sheet_30 : decode cX9_sheet 30 = .ok (.ldc 105, 2) := dk_18 105 (dk_at dksX9_sheet_1 6 rfl rfl)
theorem dX9_sheet_32 : decode cX9_sheet 32 = .ok (.invokevirtual 106, 3) := dk_182 0 106 (dk_at dksX9_sheet_1 8 rfl rfl)
theorem dX9_sheet_35 : decode cX9_sheet 35 = .ok (.ireturn, 1) := dk_172 (dk_at dksX9_sheet_1 11 rfl rfl)
theorem dX9_sheet_36 : decode cX9_sheet 36 = .ok (.iload_n 2, 1) := dk_28 (dk_at dksX9_sheet_1 12 rfl rfl)
theorem dX9_sheet_37 : decode cX9_sheet 37 = .ok (.ifCond .eq 15, 3) := dk_153 0 15 (dk_at dksX9_sheet_1 13 rfl rfl)
theorem dX9_sheet_40 : decode cX9_sheet 40 = .ok (.iload_n 3, 1) := dk_29 (dk_at dksX9_sheet_1 16 rfl rfl)
theorem dX9_sheet_41 : decode cX9_sheet 41 = .ok (.ifCond .ge 11, 3) := dk_156 0 11 (dk_at dksX9_sheet_1 17 rfl rfl)
theorem dX9_sheet_44 : decode cX9_sheet 44 = .ok (.aload_n 0, 1) := dk_42 (dk_at dksX9_sheet_1 20 rfl rfl)
theorem dX9_sheet_45 : decode cX9_sheet 45 = .ok (.ldc_w 288, 3) := dk_19 1 32 (dk_at dksX9_sheet_1 21 rfl rfl)
theorem dX9_sheet_48 : decode cX9_sheet 48 = .ok (.invokevirtual 106, 3) := dk_182 0 106 (dk_at dksX9_sheet_2 0 rfl rfl)
theorem dX9_sheet_51 : decode cX9_sheet 51 = .ok (.ireturn, 1) := dk_172 (dk_at dksX9_sheet_2 3 rfl rfl)
theorem dX9_sheet_52 : decode cX9_sheet 52 = .ok (.iload_n 2, 1) := dk_28 (dk_at dksX9_sheet_2 4 rfl rfl)
theorem dX9_sheet_53 : decode cX9_sheet 53 = .ok (.ifCond .eq 16, 3) := dk_153 0 16 (dk_at dksX9_sheet_2 5 rfl rfl)
theorem dX9_sheet_56 : decode cX9_sheet 56 = .ok (.iload_n 3, 1) := dk_29 (dk_at dksX9_sheet_2 8 rfl rfl)
theorem dX9_sheet_57 : decode cX9_sheet 57 = .ok (.bipush 40, 2) := dk_16 40 (dk_at dksX9_sheet_2 9 rfl rfl)
theorem dX9_sheet_59 : decode cX9_sheet 59 = .ok (.if_icmp .le 10, 3) := dk_164 0 10 (dk_at dksX9_sheet_2 11 rfl rfl)
theorem dX9_sheet_62 : decode cX9_sheet 62 = .ok (.aload_n 0, 1) := dk_42 (dk_at dksX9_sheet_2 14 rfl rfl)
theorem dX9_sheet_63 : decode cX9_sheet 63 = .ok (.ldc 105, 2) := dk_18 105 (dk_at dksX9_sheet_2 15 rfl rfl)
theorem dX9_sheet_65 : decode cX9_sheet 65 = .ok (.invokevirtual 106, 3) := dk_182 0 106 (dk_at dksX9_sheet_2 17 rfl rfl)
theorem dX9_sheet_68 : decode cX9_sheet 68 = .ok (.ireturn, 1) := dk_172 (dk_at dksX9_sheet_2 20 rfl rfl)
theorem dX9_sheet_69 : decode cX9_sheet 69 = .ok (.aload_n 0, 1) := dk_42 (dk_at dksX9_sheet_2 21 rfl rfl)
theorem dX9_sheet_70 : decode cX9_sheet 70 = .ok (.getfield 58, 3) := dk_180 0 58 (dk_at dksX9_sheet_3 0 rfl rfl)
theorem dX9_sheet_73 : decode cX9_sheet 73 = .ok (.iload_n 1, 1) := dk_27 (dk_at dksX9_sheet_3 3 rfl rfl)
theorem dX9_sheet_74 : decode cX9_sheet 74 = .ok (.iload_n 2, 1) := dk_28 (dk_at dksX9_sheet_3 4 rfl rfl)
theorem dX9_sheet_75 : decode cX9_sheet 75 = .ok (.iastore, 1) := dk_79 (dk_at dksX9_sheet_3 5 rfl rfl)
theorem dX9_sheet_76 : decode cX9_sheet 76 = .ok (.aload_n 0, 1) := dk_42 (dk_at dksX9_sheet_3 6 rfl rfl)
theorem dX9_sheet_77 : decode cX9_sheet 77 = .ok (.getfield 61, 3) := dk_180 0 61 (dk_at dksX9_sheet_3 7 rfl rfl)
theorem dX9_sheet_80 : decode cX9_sheet 80 = .ok (.iload_n 1, 1) := dk_27 (dk_at dksX9_sheet_3 10 rfl rfl)
theorem dX9_sheet_81 : decode cX9_sheet 81 = .ok (.iload_n 2, 1) := dk_28 (dk_at dksX9_sheet_3 11 rfl rfl)
theorem dX9_sheet_82 : decode cX9_sheet 82 = .ok (.ifCond .ne 7, 3) := dk_154 0 7 (dk_at dksX9_sheet_3 12 rfl rfl)
theorem dX9_sheet_85 : decode cX9_sheet 85 = .ok (.iconst 0, 1) := dk_3 (dk_at dksX9_sheet_3 15 rfl rfl)
theorem dX9_sheet_86 : decode cX9_sheet 86 = .ok (.goto 4, 3) := dk_167 0 4 (dk_at dksX9_sheet_3 16 rfl rfl)
theorem dX9_sheet_89 : decode cX9_sheet 89 = .ok (.iload_n 3, 1) := dk_29 (dk_at dksX9_sheet_3 19 rfl rfl)
theorem dX9_sheet_90 : decode cX9_sheet 90 = .ok (.iastore, 1) := dk_79 (dk_at dksX9_sheet_3 20 rfl rfl)
theorem dX9_sheet_91 : decode cX9_sheet 91 = .ok (.iconst 0, 1) := dk_3 (dk_at dksX9_sheet_3 21 rfl rfl)
theorem dX9_sheet_92 : decode cX9_sheet 92 = .ok (.istore 4, 2) := dk_54 4 (dk_at dksX9_sheet_3 22 rfl rfl)
theorem dX9_sheet_94 : decode cX9_sheet 94 = .ok (.iload 4, 2) := dk_21 4 (dk_at dksX9_sheet_4 0 rfl rfl)
theorem dX9_sheet_96 : decode cX9_sheet 96 = .ok (.bipush 40, 2) := dk_16 40 (dk_at dksX9_sheet_4 2 rfl rfl)
theorem dX9_sheet_98 : decode cX9_sheet 98 = .ok (.if_icmp .ge 22, 3) := dk_162 0 22 (dk_at dksX9_sheet_4 4 rfl rfl)
theorem dX9_sheet_101 : decode cX9_sheet 101 = .ok (.aload_n 0, 1) := dk_42 (dk_at dksX9_sheet_4 7 rfl rfl)
theorem dX9_sheet_102 : decode cX9_sheet 102 = .ok (.getfield 64, 3) := dk_180 0 64 (dk_at dksX9_sheet_4 8 rfl rfl)
theorem dX9_sheet_105 : decode cX9_sheet 105 = .ok (.bipush 40, 2) := dk_16 40 (dk_at dksX9_sheet_4 11 rfl rfl)
theorem dX9_sheet_107 : decode cX9_sheet 107 = .ok (.iload_n 1, 1) := dk_27 (dk_at dksX9_sheet_4 13 rfl rfl)
theorem dX9_sheet_108 : decode cX9_sheet 108 = .ok (.imul, 1) := dk_104 (dk_at dksX9_sheet_4 14 rfl rfl)
theorem dX9_sheet_109 : decode cX9_sheet 109 = .ok (.iload 4, 2) := dk_21 4 (dk_at dksX9_sheet_4 15 rfl rfl)
theorem dX9_sheet_111 : decode cX9_sheet 111 = .ok (.iadd, 1) := dk_96 (dk_at dksX9_sheet_4 17 rfl rfl)
theorem dX9_sheet_112 : decode cX9_sheet 112 = .ok (.iconst 0, 1) := dk_3 (dk_at dksX9_sheet_4 18 rfl rfl)
theorem dX9_sheet_113 : decode cX9_sheet 113 = .ok (.iastore, 1) := dk_79 (dk_at dksX9_sheet_4 19 rfl rfl)
theorem dX9_sheet_114 : decode cX9_sheet 114 = .ok (.iinc 4 1, 3) := dk_132 4 1 (dk_at dksX9_sheet_4 20 rfl rfl)
theorem dX9_sheet_117 : decode cX9_sheet 117 = .ok (.goto (-23), 3) := dk_167 255 233 (dk_at dksX9_sheet_5 0 rfl rfl)
theorem dX9_sheet_120 : decode cX9_sheet 120 = .ok (.iconst 1, 1) := dk_4 (dk_at dksX9_sheet_5 3 rfl rfl)
theorem dX9_sheet_121 : decode cX9_sheet 121 = .ok (.ireturn, 1) := dk_172 (dk_at dksX9_sheet_5 4 rfl rfl)
abbrev cX9_put : ByteArray := prog_33_method_95_code
def yX9_put : MethodName := ⟨RX9, "put", "(III)I"⟩
def dkwX9_put_4 : List UInt8 := [29, 79, 4, 172]
abbrev dktX9_put_4 : List UInt8 := dkwX9_put_4 ++ []
def dkwX9_put_3 : List UInt8 := [160, 0, 8, 29, 145, 167, 0, 20, 42, 180, 0, 58, 27, 46, 16, 16, 160, 0, 8, 29, 147, 167, 0, 4]
abbrev dktX9_put_3 : List UInt8 := dkwX9_put_3 ++ dktX9_put_4
def dkwX9_put_2 : List UInt8 := [18, 105, 182, 0, 106, 172, 42, 180, 0, 64, 16, 40, 27, 104, 28, 96, 42, 180, 0, 58, 27, 46, 16, 8]
abbrev dktX9_put_2 : List UInt8 := dkwX9_put_2 ++ dktX9_put_3
def dkwX9_put_1 : List UInt8 := [18, 112, 182, 0, 106, 172, 28, 3, 42, 180, 0, 61, 27, 46, 4, 100, 184, 0, 94, 154, 0, 10, 42]
abbrev dktX9_put_1 : List UInt8 := dkwX9_put_1 ++ dktX9_put_2
def dkwX9_put_0 : List UInt8 := [27, 184, 0, 116, 154, 0, 10, 42, 18, 105, 182, 0, 106, 172, 42, 180, 0, 58, 27, 46, 154, 0, 10, 42]
abbrev dktX9_put_0 : List UInt8 := dkwX9_put_0 ++ dktX9_put_1
theorem dksX9_put_0 : cX9_put.data.toList.drop 0 = dktX9_put_0 := by decide +kernel
theorem dksX9_put_1 : cX9_put.data.toList.drop 24 = dktX9_put_1 := dk_seg dksX9_put_0 24 rfl rfl
theorem dksX9_put_2 : cX9_put.data.toList.drop 47 = dktX9_put_2 := dk_seg dksX9_put_1 23 rfl rfl
theorem dksX9_put_3 : cX9_put.data.toList.drop 71 = dktX9_put_3 := dk_seg dksX9_put_2 24 rfl rfl
theorem dksX9_put_4 : cX9_put.data.toList.drop 95 = dktX9_put_4 := dk_seg dksX9_put_3 24 rfl rfl
theorem dX9_put_0 : decode cX9_put 0 = .ok (.iload_n 1, 1) := dk_27 (dk_at dksX9_put_0 0 rfl rfl)
theorem dX9_put_1 : decode cX9_put 1 = .ok (.invokestatic 116, 3) := dk_184 0 116 (dk_at dksX9_put_0 1 rfl rfl)
theorem dX9_put_4 : decode cX9_put 4 = .ok (.ifCond .ne 10, 3) := dk_154 0 10 (dk_at dksX9_put_0 4 rfl rfl)
theorem dX9_put_7 : decode cX9_put 7 = .ok (.aload_n 0, 1) := dk_42 (dk_at dksX9_put_0 7 rfl rfl)
theorem dX9_put_8 : decode cX9_put 8 = .ok (.ldc 105, 2) := dk_18 105 (dk_at dksX9_put_0 8 rfl rfl)
theorem dX9_put_10 : decode cX9_put 10 = .ok (.invokevirtual 106, 3) := dk_182 0 106 (dk_at dksX9_put_0 10 rfl rfl)
theorem dX9_put_13 : decode cX9_put 13 = .ok (.ireturn, 1) := dk_172 (dk_at dksX9_put_0 13 rfl rfl)
theorem dX9_put_14 : decode cX9_put 14 = .ok (.aload_n 0, 1) := dk_42 (dk_at dksX9_put_0 14 rfl rfl)
theorem dX9_put_15 : decode cX9_put 15 = .ok (.getfield 58, 3) := dk_180 0 58 (dk_at dksX9_put_0 15 rfl rfl)
theorem dX9_put_18 : decode cX9_put 18 = .ok (.iload_n 1, 1) := dk_27 (dk_at dksX9_put_0 18 rfl rfl)
theorem dX9_put_19 : decode cX9_put 19 = .ok (.iaload, 1) := dk_46 (dk_at dksX9_put_0 19 rfl rfl)
theorem dX9_put_20 : decode cX9_put 20 = .ok (.ifCond .ne 10, 3) := dk_154 0 10 (dk_at dksX9_put_0 20 rfl rfl)
theorem dX9_put_23 : decode cX9_put 23 = .ok (.aload_n 0, 1) := dk_42 (dk_at dksX9_put_0 23 rfl rfl)
theorem dX9_put_24 : decode cX9_put 24 = .ok (.ldc 112, 2) := dk_18 112 (dk_at dksX9_put_1 0 rfl rfl)
theorem dX9_put_26 : decode cX9_put 26 = .ok (.invokevirtual 106, 3) := dk_182 0 106 (dk_at dksX9_put_1 2 rfl rfl)
theorem dX9_put_29 : decode cX9_put 29 = .ok (.ireturn, 1) := dk_172 (dk_at dksX9_put_1 5 rfl rfl)
theorem dX9_put_30 : decode cX9_put 30 = .ok (.iload_n 2, 1) := dk_28 (dk_at dksX9_put_1 6 rfl rfl)
theorem dX9_put_31 : decode cX9_put 31 = .ok (.iconst 0, 1) := dk_3 (dk_at dksX9_put_1 7 rfl rfl)
theorem dX9_put_32 : decode cX9_put 32 = .ok (.aload_n 0, 1) := dk_42 (dk_at dksX9_put_1 8 rfl rfl)
theorem dX9_put_33 : decode cX9_put 33 = .ok (.getfield 61, 3) := dk_180 0 61 (dk_at dksX9_put_1 9 rfl rfl)
theorem dX9_put_36 : decode cX9_put 36 = .ok (.iload_n 1, 1) := dk_27 (dk_at dksX9_put_1 12 rfl rfl)
theorem dX9_put_37 : decode cX9_put 37 = .ok (.iaload, 1) := dk_46 (dk_at dksX9_put_1 13 rfl rfl)
theorem dX9_put_38 : decode cX9_put 38 = .ok (.iconst 1, 1) := dk_4 (dk_at dksX9_put_1 14 rfl rfl)
theorem dX9_put_39 : decode cX9_put 39 = .ok (.isub, 1) := dk_100 (dk_at dksX9_put_1 15 rfl rfl)
theorem dX9_put_40 : decode cX9_put 40 = .ok (.invokestatic 94, 3) := dk_184 0 94 (dk_at dksX9_put_1 16 rfl rfl)
theorem dX9_put_43 : decode cX9_put 43 = .ok (.ifCond .ne 10, 3) := dk_154 0 10 (dk_at dksX9_put_1 19 rfl rfl)
theorem dX9_put_46 : decode cX9_put 46 = .ok (.aload_n 0, 1) := dk_42 (dk_at dksX9_put_1 22 rfl rfl)
theorem dX9_put_47 : decode cX9_put 47 = .ok (.ldc 105, 2) := dk_18 105 (dk_at dksX9_put_2 0 rfl rfl)
theorem dX9_put_49 : decode cX9_put 49 = .ok (.invokevirtual 106, 3) := dk_182 0 106 (dk_at dksX9_put_2 2 rfl rfl)
theorem dX9_put_52 : decode cX9_put 52 = .ok (.ireturn, 1) := dk_172 (dk_at dksX9_put_2 5 rfl rfl)
theorem dX9_put_53 : decode cX9_put 53 = .ok (.aload_n 0, 1) := dk_42 (dk_at dksX9_put_2 6 rfl rfl)
theorem dX9_put_54 : decode cX9_put 54 = .ok (.getfield 64, 3) := dk_180 0 64 (dk_at dksX9_put_2 7 rfl rfl)
theorem dX9_put_57 : decode cX9_put 57 = .ok (.bipush 40, 2) := dk_16 40 (dk_at dksX9_put_2 10 rfl rfl)
theorem dX9_put_59 : decode cX9_put 59 = .ok (.iload_n 1, 1) := dk_27 (dk_at dksX9_put_2 12 rfl rfl)
theorem dX9_put_60 : decode cX9_put 60 = .ok (.imul, 1) := dk_104 (dk_at dksX9_put_2 13 rfl rfl)
theorem dX9_put_61 : decode cX9_put 61 = .ok (.iload_n 2, 1) := dk_28 (dk_at dksX9_put_2 14 rfl rfl)
theorem dX9_put_62 : decode cX9_put 62 = .ok (.iadd, 1) := dk_96 (dk_at dksX9_put_2 15 rfl rfl)
theorem dX9_put_63 : decode cX9_put 63 = .ok (.aload_n 0, 1) := dk_42 (dk_at dksX9_put_2 16 rfl rfl)
theorem dX9_put_64 : decode cX9_put 64 = .ok (.getfield 58, 3) := dk_180 0 58 (dk_at dksX9_put_2 17 rfl rfl)
theorem dX9_put_67 : decode cX9_put 67 = .ok (.iload_n 1, 1) := dk_27 (dk_at dksX9_put_2 20 rfl rfl)
theorem dX9_put_68 : decode cX9_put 68 = .ok (.iaload, 1) := dk_46 (dk_at dksX9_put_2 21 rfl rfl)
theorem dX9_put_69 : decode cX9_put 69 = .ok (.bipush 8, 2) := dk_16 8 (dk_at dksX9_put_2 22 rfl rfl)
theorem dX9_put_71 : decode cX9_put 71 = .ok (.if_icmp .ne 8, 3) := dk_160 0 8 (dk_at dksX9_put_3 0 rfl rfl)
theorem dX9_put_74 : decode cX9_put 74 = .ok (.iload_n 3, 1) := dk_29 (dk_at dksX9_put_3 3 rfl rfl)
theorem dX9_put_75 : decode cX9_put 75 = .ok (.i2b, 1) := dk_145 (dk_at dksX9_put_3 4 rfl rfl)
theorem dX9_put_76 : decode cX9_put 76 = .ok (.goto 20, 3) := dk_167 0 20 (dk_at dksX9_put_3 5 rfl rfl)
theorem dX9_put_79 : decode cX9_put 79 = .ok (.aload_n 0, 1) := dk_42 (dk_at dksX9_put_3 8 rfl rfl)
theorem dX9_put_80 : decode cX9_put 80 = .ok (.getfield 58, 3) := dk_180 0 58 (dk_at dksX9_put_3 9 rfl rfl)
theorem dX9_put_83 : decode cX9_put 83 = .ok (.iload_n 1, 1) := dk_27 (dk_at dksX9_put_3 12 rfl rfl)
theorem dX9_put_84 : decode cX9_put 84 = .ok (.iaload, 1) := dk_46 (dk_at dksX9_put_3 13 rfl rfl)
theorem dX9_put_85 : decode cX9_put 85 = .ok (.bipush 16, 2) := dk_16 16 (dk_at dksX9_put_3 14 rfl rfl)
theorem dX9_put_87 : decode cX9_put 87 = .ok (.if_icmp .ne 8, 3) := dk_160 0 8 (dk_at dksX9_put_3 16 rfl rfl)
theorem dX9_put_90 : decode cX9_put 90 = .ok (.iload_n 3, 1) := dk_29 (dk_at dksX9_put_3 19 rfl rfl)
theorem dX9_put_91 : decode cX9_put 91 = .ok (.i2s, 1) := dk_147 (dk_at dksX9_put_3 20 rfl rfl)
theorem dX9_put_92 : decode cX9_put 92 = .ok (.goto 4, 3) := dk_167 0 4 (dk_at dksX9_put_3 21 rfl rfl)
theorem dX9_put_95 : decode cX9_put 95 = .ok (.iload_n 3, 1) := dk_29 (dk_at dksX9_put_4 0 rfl rfl)
theorem dX9_put_96 : decode cX9_put 96 = .ok (.iastore, 1) := dk_79 (dk_at dksX9_put_4 1 rfl rfl)
theorem dX9_put_97 : decode cX9_put 97 = .ok (.iconst 1, 1) := dk_4 (dk_at dksX9_put_4 2 rfl rfl)
theorem dX9_put_98 : decode cX9_put 98 = .ok (.ireturn, 1) := dk_172 (dk_at dksX9_put_4 3 rfl rfl)
abbrev cX9_move : ByteArray := prog_33_method_96_code
def yX9_move : MethodName := ⟨RX9, "move", "(IIIII)I"⟩
def dkwX9_move_8 : List UInt8 := [180, 0, 67, 21, 6, 46, 79, 132, 6, 1, 167, 255, 224, 21, 5, 172]
abbrev dktX9_move_8 : List UInt8 := dkwX9_move_8 ++ []
def dkwX9_move_7 : List UInt8 := [21, 6, 21, 5, 162, 0, 31, 42, 180, 0, 64, 16, 40, 29, 104, 21, 4, 96, 21, 6, 96, 42]
abbrev dktX9_move_7 : List UInt8 := dkwX9_move_7 ++ dktX9_move_8
def dkwX9_move_6 : List UInt8 := [180, 0, 64, 16, 40, 27, 104, 28, 96, 21, 6, 96, 46, 79, 132, 6, 1, 167, 255, 225, 3, 54, 6]
abbrev dktX9_move_6 : List UInt8 := dkwX9_move_6 ++ dktX9_move_7
def dkwX9_move_5 : List UInt8 := [18, 105, 182, 0, 106, 172, 3, 54, 6, 21, 6, 21, 5, 162, 0, 30, 42, 180, 0, 67, 21, 6, 42]
abbrev dktX9_move_5 : List UInt8 := dkwX9_move_5 ++ dktX9_move_6
def dkwX9_move_4 : List UInt8 := [133, 148, 157, 0, 21, 21, 4, 133, 21, 5, 133, 97, 42, 180, 0, 61, 29, 46, 133, 148, 158, 0, 10, 42]
abbrev dktX9_move_4 : List UInt8 := dkwX9_move_4 ++ dktX9_move_5
def dkwX9_move_3 : List UInt8 := [155, 0, 47, 28, 155, 0, 43, 21, 4, 155, 0, 38, 28, 133, 21, 5, 133, 97, 42, 180, 0, 61, 27, 46]
abbrev dktX9_move_3 : List UInt8 := dkwX9_move_3 ++ dktX9_move_4
def dkwX9_move_2 : List UInt8 := [42, 180, 0, 58, 27, 46, 42, 180, 0, 58, 29, 46, 159, 0, 10, 42, 18, 124, 182, 0, 106, 172, 21, 5]
abbrev dktX9_move_2 : List UInt8 := dkwX9_move_2 ++ dktX9_move_3
def dkwX9_move_1 : List UInt8 := [180, 0, 58, 27, 46, 153, 0, 12, 42, 180, 0, 58, 29, 46, 154, 0, 10, 42, 18, 112, 182, 0, 106, 172]
abbrev dktX9_move_1 : List UInt8 := dkwX9_move_1 ++ dktX9_move_2
def dkwX9_move_0 : List UInt8 := [27, 184, 0, 116, 153, 0, 10, 29, 184, 0, 116, 154, 0, 10, 42, 18, 105, 182, 0, 106, 172, 42]
abbrev dktX9_move_0 : List UInt8 := dkwX9_move_0 ++ dktX9_move_1
theorem dksX9_move_0 : cX9_move.data.toList.drop 0 = dktX9_move_0 := by decide +kernel
theorem dksX9_move_1 : cX9_move.data.toList.drop 22 = dktX9_move_1 := dk_seg dksX9_move_0 22 rfl rfl
theorem dksX9_move_2 : cX9_move.data.toList.drop 46 = dktX9_move_2 := dk_seg dksX9_move_1 24 rfl rfl
theorem dksX9_move_3 : cX9_move.data.toList.drop 70 = dktX9_move_3 := dk_seg dksX9_move_2 24 rfl rfl
theorem dksX9_move_4 : cX9_move.data.toList.drop 94 = dktX9_move_4 := dk_seg dksX9_move_3 24 rfl rfl
theorem dksX9_move_5 : cX9_move.data.toList.drop 118 = dktX9_move_5 := dk_seg dksX9_move_4 24 rfl rfl
theorem dksX9_move_6 : cX9_move.data.toList.drop 141 = dktX9_move_6 := dk_seg dksX9_move_5 23 rfl rfl
theorem dksX9_move_7 : cX9_move.data.toList.drop 164 = dktX9_move_7 := dk_seg dksX9_move_6 23 rfl rfl
theorem dksX9_move_8 : cX9_move.data.toList.drop 186 = dktX9_move_8 := dk_seg dksX9_move_7 22 rfl rfl
theorem dX9_move_0 : decode cX9_move 0 = .ok (.iload_n 1, 1) := dk_27 (dk_at dksX9_move_0 0 rfl rfl)
theorem dX9_move_1 : decode cX9_move 1 = .ok (.invokestatic 116, 3) := dk_184 0 116 (dk_at dksX9_move_0 1 rfl rfl)
theorem dX9_move_4 : decode cX9_move 4 = .ok (.ifCond .eq 10, 3) := dk_153 0 10 (dk_at dksX9_move_0 4 rfl rfl)
theorem dX9_move_7 : decode cX9_move 7 = .ok (.iload_n 3, 1) := dk_29 (dk_at dksX9_move_0 7 rfl rfl)
theorem dX9_move_8 : decode cX9_move 8 = .ok (.invokestatic 116, 3) := dk_184 0 116 (dk_at dksX9_move_0 8 rfl rfl)
theorem dX9_move_11 : decode cX9_move 11 = .ok (.ifCond .ne 10, 3) := dk_154 0 10 (dk_at dksX9_move_0 11 rfl rfl)
theorem dX9_move_14 : decode cX9_move 14 = .ok (.aload_n 0, 1) := dk_42 (dk_at dksX9_move_0 14 rfl rfl)
theorem dX9_move_15 : decode cX9_move 15 = .ok (.ldc 105, 2) := dk_18 105 (dk_at dksX9_move_0 15 rfl rfl)
theorem dX9_move_17 : decode cX9_move 17 = .ok (.invokevirtual 106, 3) := dk_182 0 106 (dk_at dksX9_move_0 17 rfl rfl)
theorem dX9_move_20 : decode cX9_move 20 = .ok (.ireturn, 1) := dk_172 (dk_at dksX9_move_0 20 rfl rfl)
theorem dX9_move_21 : decode cX9_move 21 = .ok (.aload_n 0, 1) := dk_42 (dk_at dksX9_move_0 21 rfl rfl)
theorem dX9_move_22 : decode cX9_move 22 = .ok (.getfield 58, 3) := dk_180 0 58 (dk_at dksX9_move_1 0 rfl rfl)
theorem dX9_move_25 : decode cX9_move 25 = .ok (.iload_n 1, 1) := dk_27 (dk_at dksX9_move_1 3 rfl rfl)
theorem dX9_move_26 : decode cX9_move 26 = .ok (.iaload, 1) := dk_46 (dk_at dksX9_move_1 4 rfl rfl)
theorem dX9_move_27 : decode cX9_move 27 = .ok (.ifCond .eq 12, 3) := dk_153 0 12 (dk_at dksX9_move_1 5 rfl rfl)
theorem dX9_move_30 : decode cX9_move 30 = .ok (.aload_n 0, 1) := dk_42 (dk_at dksX9_move_1 8 rfl rfl)
theorem dX9_move_31 : decode cX9_move 31 = .ok (.getfield 58, 3) := dk_180 0 58 (dk_at dksX9_move_1 9 rfl rfl)
theorem dX9_move_34 : decode cX9_move 34 = .ok (.iload_n 3, 1) := dk_29 (dk_at dksX9_move_1 12 rfl rfl)
theorem dX9_move_35 : decode cX9_move 35 = .ok (.iaload, 1) := dk_46 (dk_at dksX9_move_1 13 rfl rfl)
theorem dX9_move_36 : decode cX9_move 36 = .ok (.ifCond .ne 10, 3) := dk_154 0 10 (dk_at dksX9_move_1 14 rfl rfl)
theorem dX9_move_39 : decode cX9_move 39 = .ok (.aload_n 0, 1) := dk_42 (dk_at dksX9_move_1 17 rfl rfl)
theorem dX9_move_40 : decode cX9_move 40 = .ok (.ldc 112, 2) := dk_18 112 (dk_at dksX9_move_1 18 rfl rfl)
theorem dX9_move_42 : decode cX9_move 42 = .ok (.invokevirtual 106, 3) := dk_182 0 106 (dk_at dksX9_move_1 20 rfl rfl)
theorem dX9_move_45 : decode cX9_move 45 = .ok (.ireturn, 1) := dk_172 (dk_at dksX9_move_1 23 rfl rfl)
theorem dX9_move_46 : decode cX9_move 46 = .ok (.aload_n 0, 1) := dk_42 (dk_at dksX9_move_2 0 rfl rfl)
theorem dX9_move_47 : decode cX9_move 47 = .ok (.getfield 58, 3) := dk_180 0 58 (dk_at dksX9_move_2 1 rfl rfl)
theorem dX9_move_50 : decode cX9_move 50 = .ok (.iload_n 1, 1) := dk_27 (dk_at dksX9_move_2 4 rfl rfl)
theorem dX9_move_51 : decode cX9_move 51 = .ok (.iaload, 1) := dk_46 (dk_at dksX9_move_2 5 rfl rfl)
theorem dX9_move_52 : decode cX9_move 52 = .ok (.aload_n 0, 1) := dk_42 (dk_at dksX9_move_2 6 rfl rfl)
theorem dX9_move_53 : decode cX9_move 53 = .ok (.getfield 58, 3) := dk_180 0 58 (dk_at dksX9_move_2 7 rfl rfl)
theorem dX9_move_56 : decode cX9_move 56 = .ok (.iload_n 3, 1) := dk_29 (dk_at dksX9_move_2 10 rfl rfl)
theorem dX9_move_57 : decode cX9_move 57 = .ok (.iaload, 1) := dk_46 (dk_at dksX9_move_2 11 rfl rfl)
theorem dX9_move_58 : decode cX9_move 58 = .ok (.if_icmp .eq 10, 3) := dk_159 0 10 (dk_at dksX9_move_2 12 rfl rfl)
theorem dX9_move_61 : decode cX9_move 61 = .ok (.aload_n 0, 1) := dk_42 (dk_at dksX9_move_2 15 rfl rfl)
theorem dX9_move_62 : decode cX9_move 62 = .ok (.ldc 124, 2) := dk_18 124 (dk_at dksX9_move_2 16 rfl rfl)
theorem dX9_move_64 : decode cX9_move 64 = .ok (.invokevirtual 106, 3) := dk_182 0 106 (dk_at dksX9_move_2 18 rfl rfl)
theorem dX9_move_67 : decode cX9_move 67 = .ok (.ireturn, 1) := dk_172 (dk_at dksX9_move_2 21 rfl rfl)
theorem dX9_move_68 : decode cX9_move 68 = .ok (.iload 5, 2) := dk_21 5 (dk_at dksX9_move_2 22 rfl rfl)
theorem dX9_move_70 : decode cX9_move 70 = .ok (.ifCond .lt 47, 3) := dk_155 0 47 (dk_at dksX9_move_3 0 rfl rfl)
theorem dX9_move_73 : decode cX9_move 73 = .ok (.iload_n 2, 1) := dk_28 (dk_at dksX9_move_3 3 rfl rfl)
theorem dX9_move_74 : decode cX9_move 74 = .ok (.ifCond .lt 43, 3) := dk_155 0 43 (dk_at dksX9_move_3 4 rfl rfl)
theorem dX9_move_77 : decode cX9_move 77 = .ok (.iload 4, 2) := dk_21 4 (dk_at dksX9_move_3 7 rfl rfl)
theorem dX9_move_79 : decode cX9_move 79 = .ok (.ifCond .lt 38, 3) := dk_155 0 38 (dk_at dksX9_move_3 9 rfl rfl)
theorem dX9_move_82 : decode cX9_move 82 = .ok (.iload_n 2, 1) := dk_28 (dk_at dksX9_move_3 12 rfl rfl)
theorem dX9_move_83 : decode cX9_move 83 = .ok (.i2l, 1) := dk_133 (dk_at dksX9_move_3 13 rfl rfl)
theorem dX9_move_84 : decode cX9_move 84 = .ok (.iload 5, 2) := dk_21 5 (dk_at dksX9_move_3 14 rfl rfl)
theorem dX9_move_86 : decode cX9_move 86 = .ok (.i2l, 1) := dk_133 (dk_at dksX9_move_3 16 rfl rfl)
theorem dX9_move_87 : decode cX9_move 87 = .ok (.ladd, 1) := dk_97 (dk_at dksX9_move_3 17 rfl rfl)
theorem dX9_move_88 : decode cX9_move 88 = .ok (.aload_n 0, 1) := dk_42 (dk_at dksX9_move_3 18 rfl rfl)
theorem dX9_move_89 : decode cX9_move 89 = .ok (.getfield 61, 3) := dk_180 0 61 (dk_at dksX9_move_3 19 rfl rfl)
theorem dX9_move_92 : decode cX9_move 92 = .ok (.iload_n 1, 1) := dk_27 (dk_at dksX9_move_3 22 rfl rfl)
theorem dX9_move_93 : decode cX9_move 93 = .ok (.iaload, 1) := dk_46 (dk_at dksX9_move_3 23 rfl rfl)
theorem dX9_move_94 : decode cX9_move 94 = .ok (.i2l, 1) := dk_133 (dk_at dksX9_move_4 0 rfl rfl)
theorem dX9_move_95 : decode cX9_move 95 = .ok (.lcmp, 1) := dk_148 (dk_at dksX9_move_4 1 rfl rfl)
theorem dX9_move_96 : decode cX9_move 96 = .ok (.ifCond .gt 21, 3) := dk_157 0 21 (dk_at dksX9_move_4 2 rfl rfl)
theorem dX9_move_99 : decode cX9_move 99 = .ok (.iload 4, 2) := dk_21 4 (dk_at dksX9_move_4 5 rfl rfl)
theorem dX9_move_101 : decode cX9_move 101 = .ok (.i2l, 1) := dk_133 (dk_at dksX9_move_4 7 rfl rfl)
theorem dX9_move_102 : decode cX9_move 102 = .ok (.iload 5, 2) := dk_21 5 (dk_at dksX9_move_4 8 rfl rfl)
theorem dX9_move_104 : decode cX9_move 104 = .ok (.i2l, 1) := dk_133 (dk_at dksX9_move_4 10 rfl rfl)
theorem dX9_move_105 : decode cX9_move 105 = .ok (.ladd, 1) := dk_97 (dk_at dksX9_move_4 11 rfl rfl)
theorem dX9_move_106 : decode cX9_move 106 = .ok (.aload_n 0, 1) := dk_42 (dk_at dksX9_move_4 12 rfl rfl)
theorem dX9_move_107 : decode cX9_move 107 = .ok (.getfield 61, 3) := dk_180 0 61 (dk_at dksX9_move_4 13 rfl rfl)
theorem dX9_move_110 : decode cX9_move 110 = .ok (.iload_n 3, 1) := dk_29 (dk_at dksX9_move_4 16 rfl rfl)
theorem dX9_move_111 : decode cX9_move 111 = .ok (.iaload, 1) := dk_46 (dk_at dksX9_move_4 17 rfl rfl)
theorem dX9_move_112 : decode cX9_move 112 = .ok (.i2l, 1) := dk_133 (dk_at dksX9_move_4 18 rfl rfl)
theorem dX9_move_113 : decode cX9_move 113 = .ok (.lcmp, 1) := dk_148 (dk_at dksX9_move_4 19 rfl rfl)
theorem dX9_move_114 : decode cX9_move 114 = .ok (.ifCond .le 10, 3) := dk_158 0 10 (dk_at dksX9_move_4 20 rfl rfl)
theorem dX9_move_117 : decode cX9_move 117 = .ok (.aload_n 0, 1) := dk_42 (dk_at dksX9_move_4 23 rfl rfl)
theorem dX9_move_118 : decode cX9_move 118 = .ok (.ldc 105, 2) := dk_18 105 (dk_at dksX9_move_5 0 rfl rfl)
theorem dX9_move_120 : decode cX9_move 120 = .ok (.invokevirtual 106, 3) := dk_182 0 106 (dk_at dksX9_move_5 2 rfl rfl)
theorem dX9_move_123 : decode cX9_move 123 = .ok (.ireturn, 1) := dk_172 (dk_at dksX9_move_5 5 rfl rfl)
theorem dX9_move_124 : decode cX9_move 124 = .ok (.iconst 0, 1) := dk_3 (dk_at dksX9_move_5 6 rfl rfl)
theorem dX9_move_125 : decode cX9_move 125 = .ok (.istore 6, 2) := dk_54 6 (dk_at dksX9_move_5 7 rfl rfl)
theorem dX9_move_127 : decode cX9_move 127 = .ok (.iload 6, 2) := dk_21 6 (dk_at dksX9_move_5 9 rfl rfl)
theorem dX9_move_129 : decode cX9_move 129 = .ok (.iload 5, 2) := dk_21 5 (dk_at dksX9_move_5 11 rfl rfl)
theorem dX9_move_131 : decode cX9_move 131 = .ok (.if_icmp .ge 30, 3) := dk_162 0 30 (dk_at dksX9_move_5 13 rfl rfl)
theorem dX9_move_134 : decode cX9_move 134 = .ok (.aload_n 0, 1) := dk_42 (dk_at dksX9_move_5 16 rfl rfl)
theorem dX9_move_135 : decode cX9_move 135 = .ok (.getfield 67, 3) := dk_180 0 67 (dk_at dksX9_move_5 17 rfl rfl)
theorem dX9_move_138 : decode cX9_move 138 = .ok (.iload 6, 2) := dk_21 6 (dk_at dksX9_move_5 20 rfl rfl)
theorem dX9_move_140 : decode cX9_move 140 = .ok (.aload_n 0, 1) := dk_42 (dk_at dksX9_move_5 22 rfl rfl)
theorem dX9_move_141 : decode cX9_move 141 = .ok (.getfield 64, 3) := dk_180 0 64 (dk_at dksX9_move_6 0 rfl rfl)
theorem dX9_move_144 : decode cX9_move 144 = .ok (.bipush 40, 2) := dk_16 40 (dk_at dksX9_move_6 3 rfl rfl)
theorem dX9_move_146 : decode cX9_move 146 = .ok (.iload_n 1, 1) := dk_27 (dk_at dksX9_move_6 5 rfl rfl)
theorem dX9_move_147 : decode cX9_move 147 = .ok (.imul, 1) := dk_104 (dk_at dksX9_move_6 6 rfl rfl)
theorem dX9_move_148 : decode cX9_move 148 = .ok (.iload_n 2, 1) := dk_28 (dk_at dksX9_move_6 7 rfl rfl)
theorem dX9_move_149 : decode cX9_move 149 = .ok (.iadd, 1) := dk_96 (dk_at dksX9_move_6 8 rfl rfl)
theorem dX9_move_150 : decode cX9_move 150 = .ok (.iload 6, 2) := dk_21 6 (dk_at dksX9_move_6 9 rfl rfl)
theorem dX9_move_152 : decode cX9_move 152 = .ok (.iadd, 1) := dk_96 (dk_at dksX9_move_6 11 rfl rfl)
theorem dX9_move_153 : decode cX9_move 153 = .ok (.iaload, 1) := dk_46 (dk_at dksX9_move_6 12 rfl rfl)
theorem dX9_move_154 : decode cX9_move 154 = .ok (.iastore, 1) := dk_79 (dk_at dksX9_move_6 13 rfl rfl)
theorem dX9_move_155 : decode cX9_move 155 = .ok (.iinc 6 1, 3) := dk_132 6 1 (dk_at dksX9_move_6 14 rfl rfl)
theorem dX9_move_158 : decode cX9_move 158 = .ok (.goto (-31), 3) := dk_167 255 225 (dk_at dksX9_move_6 17 rfl rfl)
theorem dX9_move_161 : decode cX9_move 161 = .ok (.iconst 0, 1) := dk_3 (dk_at dksX9_move_6 20 rfl rfl)
theorem dX9_move_162 : decode cX9_move 162 = .ok (.istore 6, 2) := dk_54 6 (dk_at dksX9_move_6 21 rfl rfl)
theorem dX9_move_164 : decode cX9_move 164 = .ok (.iload 6, 2) := dk_21 6 (dk_at dksX9_move_7 0 rfl rfl)
theorem dX9_move_166 : decode cX9_move 166 = .ok (.iload 5, 2) := dk_21 5 (dk_at dksX9_move_7 2 rfl rfl)
theorem dX9_move_168 : decode cX9_move 168 = .ok (.if_icmp .ge 31, 3) := dk_162 0 31 (dk_at dksX9_move_7 4 rfl rfl)
theorem dX9_move_171 : decode cX9_move 171 = .ok (.aload_n 0, 1) := dk_42 (dk_at dksX9_move_7 7 rfl rfl)
theorem dX9_move_172 : decode cX9_move 172 = .ok (.getfield 64, 3) := dk_180 0 64 (dk_at dksX9_move_7 8 rfl rfl)
theorem dX9_move_175 : decode cX9_move 175 = .ok (.bipush 40, 2) := dk_16 40 (dk_at dksX9_move_7 11 rfl rfl)
theorem dX9_move_177 : decode cX9_move 177 = .ok (.iload_n 3, 1) := dk_29 (dk_at dksX9_move_7 13 rfl rfl)
theorem dX9_move_178 : decode cX9_move 178 = .ok (.imul, 1) := dk_104 (dk_at dksX9_move_7 14 rfl rfl)
theorem dX9_move_179 : decode cX9_move 179 = .ok (.iload 4, 2) := dk_21 4 (dk_at dksX9_move_7 15 rfl rfl)
theorem dX9_move_181 : decode cX9_move 181 = .ok (.iadd, 1) := dk_96 (dk_at dksX9_move_7 17 rfl rfl)
theorem dX9_move_182 : decode cX9_move 182 = .ok (.iload 6, 2) := dk_21 6 (dk_at dksX9_move_7 18 rfl rfl)
theorem dX9_move_184 : decode cX9_move 184 = .ok (.iadd, 1) := dk_96 (dk_at dksX9_move_7 20 rfl rfl)
theorem dX9_move_185 : decode cX9_move 185 = .ok (.aload_n 0, 1) := dk_42 (dk_at dksX9_move_7 21 rfl rfl)
theorem dX9_move_186 : decode cX9_move 186 = .ok (.getfield 67, 3) := dk_180 0 67 (dk_at dksX9_move_8 0 rfl rfl)
theorem dX9_move_189 : decode cX9_move 189 = .ok (.iload 6, 2) := dk_21 6 (dk_at dksX9_move_8 3 rfl rfl)
theorem dX9_move_191 : decode cX9_move 191 = .ok (.iaload, 1) := dk_46 (dk_at dksX9_move_8 5 rfl rfl)
theorem dX9_move_192 : decode cX9_move 192 = .ok (.iastore, 1) := dk_79 (dk_at dksX9_move_8 6 rfl rfl)
theorem dX9_move_193 : decode cX9_move 193 = .ok (.iinc 6 1, 3) := dk_132 6 1 (dk_at dksX9_move_8 7 rfl rfl)
theorem dX9_move_196 : decode cX9_move 196 = .ok (.goto (-32), 3) := dk_167 255 224 (dk_at dksX9_move_8 10 rfl rfl)
theorem dX9_move_199 : decode cX9_move 199 = .ok (.iload 5, 2) := dk_21 5 (dk_at dksX9_move_8 13 rfl rfl)
theorem dX9_move_201 : decode cX9_move 201 = .ok (.ireturn, 1) := dk_172 (dk_at dksX9_move_8 15 rfl rfl)
abbrev cX9_image : ByteArray := prog_33_method_97_code
def yX9_image : MethodName := ⟨RX9, "image", "()I"⟩
def dkwX9_image_1 : List UInt8 := [167, 255, 234, 42, 89, 180, 1, 69, 4, 96, 181, 1, 69, 42, 180, 1, 69, 172]
abbrev dktX9_image_1 : List UInt8 := dkwX9_image_1 ++ []
def dkwX9_image_0 : List UInt8 := [3, 60, 27, 17, 1, 110, 162, 0, 21, 42, 180, 0, 13, 27, 42, 180, 0, 9, 27, 46, 79, 132, 1, 1]
abbrev dktX9_image_0 : List UInt8 := dkwX9_image_0 ++ dktX9_image_1
theorem dksX9_image_0 : cX9_image.data.toList.drop 0 = dktX9_image_0 := by decide +kernel
theorem dksX9_image_1 : cX9_image.data.toList.drop 24 = dktX9_image_1 := dk_seg dksX9_image_0 24 rfl rfl
theorem dX9_image_0 : decode cX9_image 0 = .ok (.iconst 0, 1) := dk_3 (dk_at dksX9_image_0 0 rfl rfl)
theorem dX9_image_1 : decode cX9_image 1 = .ok (.istore_n 1, 1) := dk_60 (dk_at dksX9_image_0 1 rfl rfl)
theorem dX9_image_2 : decode cX9_image 2 = .ok (.iload_n 1, 1) := dk_27 (dk_at dksX9_image_0 2 rfl rfl)
theorem dX9_image_3 : decode cX9_image 3 = .ok (.sipush 366, 3) := dk_17 1 110 (dk_at dksX9_image_0 3 rfl rfl)
theorem dX9_image_6 : decode cX9_image 6 = .ok (.if_icmp .ge 21, 3) := dk_162 0 21 (dk_at dksX9_image_0 6 rfl rfl)
theorem dX9_image_9 : decode cX9_image 9 = .ok (.aload_n 0, 1) := dk_42 (dk_at dksX9_image_0 9 rfl rfl)
theorem dX9_image_10 : decode cX9_image 10 = .ok (.getfield 13, 3) := dk_180 0 13 (dk_at dksX9_image_0 10 rfl rfl)
theorem dX9_image_13 : decode cX9_image 13 = .ok (.iload_n 1, 1) := dk_27 (dk_at dksX9_image_0 13 rfl rfl)
theorem dX9_image_14 : decode cX9_image 14 = .ok (.aload_n 0, 1) := dk_42 (dk_at dksX9_image_0 14 rfl rfl)
theorem dX9_image_15 : decode cX9_image 15 = .ok (.getfield 9, 3) := dk_180 0 9 (dk_at dksX9_image_0 15 rfl rfl)
theorem dX9_image_18 : decode cX9_image 18 = .ok (.iload_n 1, 1) := dk_27 (dk_at dksX9_image_0 18 rfl rfl)
theorem dX9_image_19 : decode cX9_image 19 = .ok (.iaload, 1) := dk_46 (dk_at dksX9_image_0 19 rfl rfl)
theorem dX9_image_20 : decode cX9_image 20 = .ok (.iastore, 1) := dk_79 (dk_at dksX9_image_0 20 rfl rfl)
theorem dX9_image_21 : decode cX9_image 21 = .ok (.iinc 1 1, 3) := dk_132 1 1 (dk_at dksX9_image_0 21 rfl rfl)
theorem dX9_image_24 : decode cX9_image 24 = .ok (.goto (-22), 3) := dk_167 255 234 (dk_at dksX9_image_1 0 rfl rfl)
theorem dX9_image_27 : decode cX9_image 27 = .ok (.aload_n 0, 1) := dk_42 (dk_at dksX9_image_1 3 rfl rfl)
theorem dX9_image_28 : decode cX9_image 28 = .ok (.dup, 1) := dk_89 (dk_at dksX9_image_1 4 rfl rfl)
theorem dX9_image_29 : decode cX9_image 29 = .ok (.getfield 325, 3) := dk_180 1 69 (dk_at dksX9_image_1 5 rfl rfl)
theorem dX9_image_32 : decode cX9_image 32 = .ok (.iconst 1, 1) := dk_4 (dk_at dksX9_image_1 8 rfl rfl)
theorem dX9_image_33 : decode cX9_image 33 = .ok (.iadd, 1) := dk_96 (dk_at dksX9_image_1 9 rfl rfl)
theorem dX9_image_34 : decode cX9_image 34 = .ok (.putfield 325, 3) := dk_181 1 69 (dk_at dksX9_image_1 10 rfl rfl)
theorem dX9_image_37 : decode cX9_image 37 = .ok (.aload_n 0, 1) := dk_42 (dk_at dksX9_image_1 13 rfl rfl)
theorem dX9_image_38 : decode cX9_image 38 = .ok (.getfield 325, 3) := dk_180 1 69 (dk_at dksX9_image_1 14 rfl rfl)
theorem dX9_image_41 : decode cX9_image 41 = .ok (.ireturn, 1) := dk_172 (dk_at dksX9_image_1 17 rfl rfl)
abbrev cX9_restore : ByteArray := prog_33_method_98_code
def yX9_restore : MethodName := ⟨RX9, "restore", "()I"⟩
def dkwX9_restore_1 : List UInt8 := [180, 0, 9, 27, 42, 180, 0, 13, 27, 46, 79, 132, 1, 1, 167, 255, 234, 42, 180, 0, 9, 3, 46, 172]
abbrev dktX9_restore_1 : List UInt8 := dkwX9_restore_1 ++ []
def dkwX9_restore_0 : List UInt8 := [42, 180, 1, 69, 154, 0, 10, 42, 18, 112, 182, 0, 106, 172, 3, 60, 27, 17, 1, 110, 162, 0, 21, 42]
abbrev dktX9_restore_0 : List UInt8 := dkwX9_restore_0 ++ dktX9_restore_1
theorem dksX9_restore_0 : cX9_restore.data.toList.drop 0 = dktX9_restore_0 := by decide +kernel
theorem dksX9_restore_1 : cX9_restore.data.toList.drop 24 = dktX9_restore_1 := dk_seg dksX9_restore_0 24 rfl rfl
theorem dX9_restore_0 : decode cX9_restore 0 = .ok (.aload_n 0, 1) := dk_42 (dk_at dksX9_restore_0 0 rfl rfl)
theorem dX9_restore_1 : decode cX9_restore 1 = .ok (.getfield 325, 3) := dk_180 1 69 (dk_at dksX9_restore_0 1 rfl rfl)
theorem dX9_restore_4 : decode cX9_restore 4 = .ok (.ifCond .ne 10, 3) := dk_154 0 10 (dk_at dksX9_restore_0 4 rfl rfl)
theorem dX9_restore_7 : decode cX9_restore 7 = .ok (.aload_n 0, 1) := dk_42 (dk_at dksX9_restore_0 7 rfl rfl)
theorem dX9_restore_8 : decode cX9_restore 8 = .ok (.ldc 112, 2) := dk_18 112 (dk_at dksX9_restore_0 8 rfl rfl)
theorem dX9_restore_10 : decode cX9_restore 10 = .ok (.invokevirtual 106, 3) := dk_182 0 106 (dk_at dksX9_restore_0 10 rfl rfl)
theorem dX9_restore_13 : decode cX9_restore 13 = .ok (.ireturn, 1) := dk_172 (dk_at dksX9_restore_0 13 rfl rfl)
theorem dX9_restore_14 : decode cX9_restore 14 = .ok (.iconst 0, 1) := dk_3 (dk_at dksX9_restore_0 14 rfl rfl)
theorem dX9_restore_15 : decode cX9_restore 15 = .ok (.istore_n 1, 1) := dk_60 (dk_at dksX9_restore_0 15 rfl rfl)
theorem dX9_restore_16 : decode cX9_restore 16 = .ok (.iload_n 1, 1) := dk_27 (dk_at dksX9_restore_0 16 rfl rfl)
theorem dX9_restore_17 : decode cX9_restore 17 = .ok (.sipush 366, 3) := dk_17 1 110 (dk_at dksX9_restore_0 17 rfl rfl)
theorem dX9_restore_20 : decode cX9_restore 20 = .ok (.if_icmp .ge 21, 3) := dk_162 0 21 (dk_at dksX9_restore_0 20 rfl rfl)
theorem dX9_restore_23 : decode cX9_restore 23 = .ok (.aload_n 0, 1) := dk_42 (dk_at dksX9_restore_0 23 rfl rfl)
theorem dX9_restore_24 : decode cX9_restore 24 = .ok (.getfield 9, 3) := dk_180 0 9 (dk_at dksX9_restore_1 0 rfl rfl)
theorem dX9_restore_27 : decode cX9_restore 27 = .ok (.iload_n 1, 1) := dk_27 (dk_at dksX9_restore_1 3 rfl rfl)
theorem dX9_restore_28 : decode cX9_restore 28 = .ok (.aload_n 0, 1) := dk_42 (dk_at dksX9_restore_1 4 rfl rfl)
theorem dX9_restore_29 : decode cX9_restore 29 = .ok (.getfield 13, 3) := dk_180 0 13 (dk_at dksX9_restore_1 5 rfl rfl)
theorem dX9_restore_32 : decode cX9_restore 32 = .ok (.iload_n 1, 1) := dk_27 (dk_at dksX9_restore_1 8 rfl rfl)
theorem dX9_restore_33 : decode cX9_restore 33 = .ok (.iaload, 1) := dk_46 (dk_at dksX9_restore_1 9 rfl rfl)
theorem dX9_restore_34 : decode cX9_restore 34 = .ok (.iastore, 1) := dk_79 (dk_at dksX9_restore_1 10 rfl rfl)
theorem dX9_restore_35 : decode cX9_restore 35 = .ok (.iinc 1 1, 3) := dk_132 1 1 (dk_at dksX9_restore_1 11 rfl rfl)
theorem dX9_restore_38 : decode cX9_restore 38 = .ok (.goto (-22), 3) := dk_167 255 234 (dk_at dksX9_restore_1 14 rfl rfl)
theorem dX9_restore_41 : decode cX9_restore 41 = .ok (.aload_n 0, 1) := dk_42 (dk_at dksX9_restore_1 17 rfl rfl)
theorem dX9_restore_42 : decode cX9_restore 42 = .ok (.getfield 9, 3) := dk_180 0 9 (dk_at dksX9_restore_1 18 rfl rfl)
theorem dX9_restore_45 : decode cX9_restore 45 = .ok (.iconst 0, 1) := dk_3 (dk_at dksX9_restore_1 21 rfl rfl)
theorem dX9_restore_46 : decode cX9_restore 46 = .ok (.iaload, 1) := dk_46 (dk_at dksX9_restore_1 22 rfl rfl)
theorem dX9_restore_47 : decode cX9_restore 47 = .ok (.ireturn, 1) := dk_172 (dk_at dksX9_restore_1 23 rfl rfl)
abbrev cX9_tell : ByteArray := prog_33_method_99_code
def yX9_tell : MethodName := ⟨RX9, "tell", "(I)I"⟩
def dkwX9_tell_2 : List UInt8 := [46, 172]
abbrev dktX9_tell_2 : List UInt8 := dkwX9_tell_2 ++ []
def dkwX9_tell_1 : List UInt8 := [42, 180, 0, 9, 5, 46, 96, 27, 79, 42, 180, 0, 9, 5, 92, 46, 4, 96, 79, 42, 180, 0, 9, 5]
abbrev dktX9_tell_1 : List UInt8 := dkwX9_tell_1 ++ dktX9_tell_2
def dkwX9_tell_0 : List UInt8 := [42, 180, 0, 9, 5, 46, 16, 20, 160, 0, 10, 42, 18, 128, 182, 0, 106, 172, 42, 180, 0, 9, 16, 90]
abbrev dktX9_tell_0 : List UInt8 := dkwX9_tell_0 ++ dktX9_tell_1
theorem dksX9_tell_0 : cX9_tell.data.toList.drop 0 = dktX9_tell_0 := by decide +kernel
theorem dksX9_tell_1 : cX9_tell.data.toList.drop 24 = dktX9_tell_1 := dk_seg dksX9_tell_0 24 rfl rfl
theorem dksX9_tell_2 : cX9_tell.data.toList.drop 48 = dktX9_tell_2 := dk_seg dksX9_tell_1 24 rfl rfl
theorem dX9_tell_0 : decode cX9_tell 0 = .ok (.aload_n 0, 1) := dk_42 (dk_at dksX9_tell_0 0 rfl rfl)
theorem dX9_tell_1 : decode cX9_tell 1 = .ok (.getfield 9, 3) := dk_180 0 9 (dk_at dksX9_tell_0 1 rfl rfl)
theorem dX9_tell_4 : decode cX9_tell 4 = .ok (.iconst 2, 1) := dk_5 (dk_at dksX9_tell_0 4 rfl rfl)
theorem dX9_tell_5 : decode cX9_tell 5 = .ok (.iaload, 1) := dk_46 (dk_at dksX9_tell_0 5 rfl rfl)
theorem dX9_tell_6 : decode cX9_tell 6 = .ok (.bipush 20, 2) := dk_16 20 (dk_at dksX9_tell_0 6 rfl rfl)
theorem dX9_tell_8 : decode cX9_tell 8 = .ok (.if_icmp .ne 10, 3) := dk_160 0 10 (dk_at dksX9_tell_0 8 rfl rfl)
theorem dX9_tell_11 : decode cX9_tell 11 = .ok (.aload_n 0, 1) := dk_42 (dk_at dksX9_tell_0 11 rfl rfl)
theorem dX9_tell_12 : decode cX9_tell 12 = .ok (.ldc 128, 2) := dk_18 128 (dk_at dksX9_tell_0 12 rfl rfl)
theorem dX9_tell_14 : decode cX9_tell 14 = .ok (.invokevirtual 106, 3) := dk_182 0 106 (dk_at dksX9_tell_0 14 rfl rfl)
theorem dX9_tell_17 : decode cX9_tell 17 = .ok (.ireturn, 1) := dk_172 (dk_at dksX9_tell_0 17 rfl rfl)
theorem dX9_tell_18 : decode cX9_tell 18 = .ok (.aload_n 0, 1) := dk_42 (dk_at dksX9_tell_0 18 rfl rfl)
theorem dX9_tell_19 : decode cX9_tell 19 = .ok (.getfield 9, 3) := dk_180 0 9 (dk_at dksX9_tell_0 19 rfl rfl)
theorem dX9_tell_22 : decode cX9_tell 22 = .ok (.bipush 90, 2) := dk_16 90 (dk_at dksX9_tell_0 22 rfl rfl)
theorem dX9_tell_24 : decode cX9_tell 24 = .ok (.aload_n 0, 1) := dk_42 (dk_at dksX9_tell_1 0 rfl rfl)
theorem dX9_tell_25 : decode cX9_tell 25 = .ok (.getfield 9, 3) := dk_180 0 9 (dk_at dksX9_tell_1 1 rfl rfl)
theorem dX9_tell_28 : decode cX9_tell 28 = .ok (.iconst 2, 1) := dk_5 (dk_at dksX9_tell_1 4 rfl rfl)
theorem dX9_tell_29 : decode cX9_tell 29 = .ok (.iaload, 1) := dk_46 (dk_at dksX9_tell_1 5 rfl rfl)
theorem dX9_tell_30 : decode cX9_tell 30 = .ok (.iadd, 1) := dk_96 (dk_at dksX9_tell_1 6 rfl rfl)
theorem dX9_tell_31 : decode cX9_tell 31 = .ok (.iload_n 1, 1) := dk_27 (dk_at dksX9_tell_1 7 rfl rfl)
theorem dX9_tell_32 : decode cX9_tell 32 = .ok (.iastore, 1) := dk_79 (dk_at dksX9_tell_1 8 rfl rfl)
theorem dX9_tell_33 : decode cX9_tell 33 = .ok (.aload_n 0, 1) := dk_42 (dk_at dksX9_tell_1 9 rfl rfl)
theorem dX9_tell_34 : decode cX9_tell 34 = .ok (.getfield 9, 3) := dk_180 0 9 (dk_at dksX9_tell_1 10 rfl rfl)
theorem dX9_tell_37 : decode cX9_tell 37 = .ok (.iconst 2, 1) := dk_5 (dk_at dksX9_tell_1 13 rfl rfl)
theorem dX9_tell_38 : decode cX9_tell 38 = .ok (.dup2, 1) := dk_92 (dk_at dksX9_tell_1 14 rfl rfl)
theorem dX9_tell_39 : decode cX9_tell 39 = .ok (.iaload, 1) := dk_46 (dk_at dksX9_tell_1 15 rfl rfl)
theorem dX9_tell_40 : decode cX9_tell 40 = .ok (.iconst 1, 1) := dk_4 (dk_at dksX9_tell_1 16 rfl rfl)
theorem dX9_tell_41 : decode cX9_tell 41 = .ok (.iadd, 1) := dk_96 (dk_at dksX9_tell_1 17 rfl rfl)
theorem dX9_tell_42 : decode cX9_tell 42 = .ok (.iastore, 1) := dk_79 (dk_at dksX9_tell_1 18 rfl rfl)
theorem dX9_tell_43 : decode cX9_tell 43 = .ok (.aload_n 0, 1) := dk_42 (dk_at dksX9_tell_1 19 rfl rfl)
theorem dX9_tell_44 : decode cX9_tell 44 = .ok (.getfield 9, 3) := dk_180 0 9 (dk_at dksX9_tell_1 20 rfl rfl)
theorem dX9_tell_47 : decode cX9_tell 47 = .ok (.iconst 2, 1) := dk_5 (dk_at dksX9_tell_1 23 rfl rfl)
theorem dX9_tell_48 : decode cX9_tell 48 = .ok (.iaload, 1) := dk_46 (dk_at dksX9_tell_2 0 rfl rfl)
theorem dX9_tell_49 : decode cX9_tell 49 = .ok (.ireturn, 1) := dk_172 (dk_at dksX9_tell_2 1 rfl rfl)
abbrev cX9_learn : ByteArray := prog_33_method_100_code
def yX9_learn : MethodName := ⟨RX9, "learn", "(I)I"⟩
def dkwX9_learn_3 : List UInt8 := [46, 159, 0, 7, 4, 29, 96, 172, 132, 3, 1, 167, 255, 220, 3, 172]
abbrev dktX9_learn_3 : List UInt8 := dkwX9_learn_3 ++ []
def dkwX9_learn_2 : List UInt8 := [28, 162, 0, 37, 29, 16, 12, 162, 0, 21, 42, 180, 0, 9, 16, 90, 29, 96, 46, 42, 180, 0, 43, 29]
abbrev dktX9_learn_2 : List UInt8 := dkwX9_learn_2 ++ dktX9_learn_3
def dkwX9_learn_1 : List UInt8 := [18, 105, 182, 0, 106, 172, 42, 27, 182, 0, 252, 154, 0, 10, 42, 18, 112, 182, 0, 106, 172, 3, 62, 29]
abbrev dktX9_learn_1 : List UInt8 := dkwX9_learn_1 ++ dktX9_learn_2
def dkwX9_learn_0 : List UInt8 := [42, 180, 0, 9, 5, 46, 61, 42, 180, 0, 9, 5, 3, 79, 42, 27, 182, 0, 249, 154, 0, 10, 42]
abbrev dktX9_learn_0 : List UInt8 := dkwX9_learn_0 ++ dktX9_learn_1
theorem dksX9_learn_0 : cX9_learn.data.toList.drop 0 = dktX9_learn_0 := by decide +kernel
theorem dksX9_learn_1 : cX9_learn.data.toList.drop 23 = dktX9_learn_1 := dk_seg dksX9_learn_0 23 rfl rfl
theorem dksX9_learn_2 : cX9_learn.data.toList.drop 47 = dktX9_learn_2 := dk_seg dksX9_learn_1 24 rfl rfl
theorem dksX9_learn_3 : cX9_learn.data.toList.drop 71 = dktX9_learn_3 := dk_seg dksX9_learn_2 24 rfl rfl
theorem dX9_learn_0 : decode cX9_learn 0 = .ok (.aload_n 0, 1) := dk_42 (dk_at dksX9_learn_0 0 rfl rfl)
theorem dX9_learn_1 : decode cX9_learn 1 = .ok (.getfield 9, 3) := dk_180 0 9 (dk_at dksX9_learn_0 1 rfl rfl)
theorem dX9_learn_4 : decode cX9_learn 4 = .ok (.iconst 2, 1) := dk_5 (dk_at dksX9_learn_0 4 rfl rfl)
theorem dX9_learn_5 : decode cX9_learn 5 = .ok (.iaload, 1) := dk_46 (dk_at dksX9_learn_0 5 rfl rfl)
theorem dX9_learn_6 : decode cX9_learn 6 = .ok (.istore_n 2, 1) := dk_61 (dk_at dksX9_learn_0 6 rfl rfl)
theorem dX9_learn_7 : decode cX9_learn 7 = .ok (.aload_n 0, 1) := dk_42 (dk_at dksX9_learn_0 7 rfl rfl)
theorem dX9_learn_8 : decode cX9_learn 8 = .ok (.getfield 9, 3) := dk_180 0 9 (dk_at dksX9_learn_0 8 rfl rfl)
theorem dX9_learn_11 : decode cX9_learn 11 = .ok (.iconst 2, 1) := dk_5 (dk_at dksX9_learn_0 11 rfl rfl)
theorem dX9_learn_12 : decode cX9_learn 12 = .ok (.iconst 0, 1) := dk_3 (dk_at dksX9_learn_0 12 rfl rfl)
theorem dX9_learn_13 : decode cX9_learn 13 = .ok (.iastore, 1) := dk_79 (dk_at dksX9_learn_0 13 rfl rfl)
theorem dX9_learn_14 : decode cX9_learn 14 = .ok (.aload_n 0, 1) := dk_42 (dk_at dksX9_learn_0 14 rfl rfl)
theorem dX9_learn_15 : decode cX9_learn 15 = .ok (.iload_n 1, 1) := dk_27 (dk_at dksX9_learn_0 15 rfl rfl)
theorem dX9_learn_16 : decode cX9_learn 16 = .ok (.invokevirtual 249, 3) := dk_182 0 249 (dk_at dksX9_learn_0 16 rfl rfl)
theorem dX9_learn_19 : decode cX9_learn 19 = .ok (.ifCond .ne 10, 3) := dk_154 0 10 (dk_at dksX9_learn_0 19 rfl rfl)
theorem dX9_learn_22 : decode cX9_learn 22 = .ok (.aload_n 0, 1) := dk_42 (dk_at dksX9_learn_0 22 rfl rfl)
theorem dX9_learn_23 : decode cX9_learn 23 = .ok (.ldc 105, 2) := dk_18 105 (dk_at dksX9_learn_1 0 rfl rfl)
theorem dX9_learn_25 : decode cX9_learn 25 = .ok (.invokevirtual 106, 3) := dk_182 0 106 (dk_at dksX9_learn_1 2 rfl rfl)
theorem dX9_learn_28 : decode cX9_learn 28 = .ok (.ireturn, 1) := dk_172 (dk_at dksX9_learn_1 5 rfl rfl)
theorem dX9_learn_29 : decode cX9_learn 29 = .ok (.aload_n 0, 1) := dk_42 (dk_at dksX9_learn_1 6 rfl rfl)
theorem dX9_learn_30 : decode cX9_learn 30 = .ok (.iload_n 1, 1) := dk_27 (dk_at dksX9_learn_1 7 rfl rfl)
theorem dX9_learn_31 : decode cX9_learn 31 = .ok (.invokevirtual 252, 3) := dk_182 0 252 (dk_at dksX9_learn_1 8 rfl rfl)
theorem dX9_learn_34 : decode cX9_learn 34 = .ok (.ifCond .ne 10, 3) := dk_154 0 10 (dk_at dksX9_learn_1 11 rfl rfl)
theorem dX9_learn_37 : decode cX9_learn 37 = .ok (.aload_n 0, 1) := dk_42 (dk_at dksX9_learn_1 14 rfl rfl)
theorem dX9_learn_38 : decode cX9_learn 38 = .ok (.ldc 112, 2) := dk_18 112 (dk_at dksX9_learn_1 15 rfl rfl)
theorem dX9_learn_40 : decode cX9_learn 40 = .ok (.invokevirtual 106, 3) := dk_182 0 106 (dk_at dksX9_learn_1 17 rfl rfl)
theorem dX9_learn_43 : decode cX9_learn 43 = .ok (.ireturn, 1) := dk_172 (dk_at dksX9_learn_1 20 rfl rfl)
theorem dX9_learn_44 : decode cX9_learn 44 = .ok (.iconst 0, 1) := dk_3 (dk_at dksX9_learn_1 21 rfl rfl)
theorem dX9_learn_45 : decode cX9_learn 45 = .ok (.istore_n 3, 1) := dk_62 (dk_at dksX9_learn_1 22 rfl rfl)
theorem dX9_learn_46 : decode cX9_learn 46 = .ok (.iload_n 3, 1) := dk_29 (dk_at dksX9_learn_1 23 rfl rfl)
theorem dX9_learn_47 : decode cX9_learn 47 = .ok (.iload_n 2, 1) := dk_28 (dk_at dksX9_learn_2 0 rfl rfl)
theorem dX9_learn_48 : decode cX9_learn 48 = .ok (.if_icmp .ge 37, 3) := dk_162 0 37 (dk_at dksX9_learn_2 1 rfl rfl)
theorem dX9_learn_51 : decode cX9_learn 51 = .ok (.iload_n 3, 1) := dk_29 (dk_at dksX9_learn_2 4 rfl rfl)
theorem dX9_learn_52 : decode cX9_learn 52 = .ok (.bipush 12, 2) := dk_16 12 (dk_at dksX9_learn_2 5 rfl rfl)
theorem dX9_learn_54 : decode cX9_learn 54 = .ok (.if_icmp .ge 21, 3) := dk_162 0 21 (dk_at dksX9_learn_2 7 rfl rfl)
theorem dX9_learn_57 : decode cX9_learn 57 = .ok (.aload_n 0, 1) := dk_42 (dk_at dksX9_learn_2 10 rfl rfl)
theorem dX9_learn_58 : decode cX9_learn 58 = .ok (.getfield 9, 3) := dk_180 0 9 (dk_at dksX9_learn_2 11 rfl rfl)
theorem dX9_learn_61 : decode cX9_learn 61 = .ok (.bipush 90, 2) := dk_16 90 (dk_at dksX9_learn_2 14 rfl rfl)
theorem dX9_learn_63 : decode cX9_learn 63 = .ok (.iload_n 3, 1) := dk_29 (dk_at dksX9_learn_2 16 rfl rfl)
theorem dX9_learn_64 : decode cX9_learn 64 = .ok (.iadd, 1) := dk_96 (dk_at dksX9_learn_2 17 rfl rfl)
theorem dX9_learn_65 : decode cX9_learn 65 = .ok (.iaload, 1) := dk_46 (dk_at dksX9_learn_2 18 rfl rfl)
theorem dX9_learn_66 : decode cX9_learn 66 = .ok (.aload_n 0, 1) := dk_42 (dk_at dksX9_learn_2 19 rfl rfl)
theorem dX9_learn_67 : decode cX9_learn 67 = .ok (.getfield 43, 3) := dk_180 0 43 (dk_at dksX9_learn_2 20 rfl rfl)
theorem dX9_learn_70 : decode cX9_learn 70 = .ok (.iload_n 3, 1) := dk_29 (dk_at dksX9_learn_2 23 rfl rfl)
theorem dX9_learn_71 : decode cX9_learn 71 = .ok (.iaload, 1) := dk_46 (dk_at dksX9_learn_3 0 rfl rfl)
theorem dX9_learn_72 : decode cX9_learn 72 = .ok (.if_icmp .eq 7, 3) := dk_159 0 7 (dk_at dksX9_learn_3 1 rfl rfl)
theorem dX9_learn_75 : decode cX9_learn 75 = .ok (.iconst 1, 1) := dk_4 (dk_at dksX9_learn_3 4 rfl rfl)
theorem dX9_learn_76 : decode cX9_learn 76 = .ok (.iload_n 3, 1) := dk_29 (dk_at dksX9_learn_3 5 rfl rfl)
theorem dX9_learn_77 : decode cX9_learn 77 = .ok (.iadd, 1) := dk_96 (dk_at dksX9_learn_3 6 rfl rfl)
theorem dX9_learn_78 : decode cX9_learn 78 = .ok (.ireturn, 1) := dk_172 (dk_at dksX9_learn_3 7 rfl rfl)
theorem dX9_learn_79 : decode cX9_learn 79 = .ok (.iinc 3 1, 3) := dk_132 3 1 (dk_at dksX9_learn_3 8 rfl rfl)
theorem dX9_learn_82 : decode cX9_learn 82 = .ok (.goto (-36), 3) := dk_167 255 220 (dk_at dksX9_learn_3 11 rfl rfl)
theorem dX9_learn_85 : decode cX9_learn 85 = .ok (.iconst 0, 1) := dk_3 (dk_at dksX9_learn_3 14 rfl rfl)
theorem dX9_learn_86 : decode cX9_learn 86 = .ok (.ireturn, 1) := dk_172 (dk_at dksX9_learn_3 15 rfl rfl)
abbrev cX9_count : ByteArray := prog_33_method_101_code
def yX9_count : MethodName := ⟨RX9, "count", "(I)I"⟩
def dkwX9_count_5 : List UInt8 := [172, 42, 180, 1, 48, 172, 42, 18, 105, 182, 0, 106, 172]
abbrev dktX9_count_5 : List UInt8 := dkwX9_count_5 ++ []
def dkwX9_count_4 : List UInt8 := [3, 96, 61, 132, 3, 1, 167, 255, 226, 28, 172, 42, 180, 0, 9, 4, 46, 172, 42, 180, 0, 9, 5, 46]
abbrev dktX9_count_4 : List UInt8 := dkwX9_count_4 ++ dktX9_count_5
def dkwX9_count_3 : List UInt8 := [29, 16, 12, 162, 0, 30, 28, 42, 180, 0, 9, 16, 10, 29, 96, 46, 6, 160, 0, 7, 4, 167, 0, 4]
abbrev dktX9_count_3 : List UInt8 := dkwX9_count_3 ++ dktX9_count_4
def dkwX9_count_2 : List UInt8 := [42, 180, 0, 9, 3, 46, 172, 42, 4, 42, 180, 0, 9, 3, 46, 120, 4, 100, 182, 1, 36, 172, 3, 62]
abbrev dktX9_count_2 : List UInt8 := dkwX9_count_2 ++ dktX9_count_3
def dkwX9_count_1 : List UInt8 := [170, 0, 0, 0, 115, 0, 0, 0, 0, 0, 0, 0, 5, 0, 0, 0, 37, 0, 0, 0, 44, 0, 0, 0, 59, 0, 0, 0, 96, 0, 0, 0, 103, 0, 0, 0, 110]
abbrev dktX9_count_1 : List UInt8 := dkwX9_count_1 ++ dktX9_count_2
def dkwX9_count_0 : List UInt8 := [3, 61, 27]
abbrev dktX9_count_0 : List UInt8 := dkwX9_count_0 ++ dktX9_count_1
theorem dksX9_count_0 : cX9_count.data.toList.drop 0 = dktX9_count_0 := by decide +kernel
theorem dksX9_count_1 : cX9_count.data.toList.drop 3 = dktX9_count_1 := dk_seg dksX9_count_0 3 rfl rfl
theorem dksX9_count_2 : cX9_count.data.toList.drop 40 = dktX9_count_2 := dk_seg dksX9_count_1 37 rfl rfl
theorem dksX9_count_3 : cX9_count.data.toList.drop 64 = dktX9_count_3 := dk_seg dksX9_count_2 24 rfl rfl
theorem dksX9_count_4 : cX9_count.data.toList.drop 88 = dktX9_count_4 := dk_seg dksX9_count_3 24 rfl rfl
theorem dksX9_count_5 : cX9_count.data.toList.drop 112 = dktX9_count_5 := dk_seg dksX9_count_4 24 rfl rfl
theorem dX9_count_0 : decode cX9_count 0 = .ok (.iconst 0, 1) := dk_3 (dk_at dksX9_count_0 0 rfl rfl)
theorem dX9_count_1 : decode cX9_count 1 = .ok (.istore_n 2, 1) := dk_61 (dk_at dksX9_count_0 1 rfl rfl)
theorem dX9_count_2 : decode cX9_count 2 = .ok (.iload_n 1, 1) := dk_27 (dk_at dksX9_count_0 2 rfl rfl)
theorem dX9_count_3 : decode cX9_count 3 = .ok (.tableswitch 115 0 5 #[37, 44, 59, 96, 103, 110], 37) := by decide +kernel
theorem dX9_count_40 : decode cX9_count 40 = .ok (.aload_n 0, 1) := dk_42 (dk_at dksX9_count_2 0 rfl rfl)
theorem dX9_count_41 : decode cX9_count 41 = .ok (.getfield 9, 3) := dk_180 0 9 (dk_at dksX9_count_2 1 rfl rfl)
theorem dX9_count_44 : decode cX9_count 44 = .ok (.iconst 0, 1) := dk_3 (dk_at dksX9_count_2 4 rfl rfl)
theorem dX9_count_45 : decode cX9_count 45 = .ok (.iaload, 1) := dk_46 (dk_at dksX9_count_2 5 rfl rfl)
theorem dX9_count_46 : decode cX9_count 46 = .ok (.ireturn, 1) := dk_172 (dk_at dksX9_count_2 6 rfl rfl)
theorem dX9_count_47 : decode cX9_count 47 = .ok (.aload_n 0, 1) := dk_42 (dk_at dksX9_count_2 7 rfl rfl)
theorem dX9_count_48 : decode cX9_count 48 = .ok (.iconst 1, 1) := dk_4 (dk_at dksX9_count_2 8 rfl rfl)
theorem dX9_count_49 : decode cX9_count 49 = .ok (.aload_n 0, 1) := dk_42 (dk_at dksX9_count_2 9 rfl rfl)
theorem dX9_count_50 : decode cX9_count 50 = .ok (.getfield 9, 3) := dk_180 0 9 (dk_at dksX9_count_2 10 rfl rfl)
theorem dX9_count_53 : decode cX9_count 53 = .ok (.iconst 0, 1) := dk_3 (dk_at dksX9_count_2 13 rfl rfl)
theorem dX9_count_54 : decode cX9_count 54 = .ok (.iaload, 1) := dk_46 (dk_at dksX9_count_2 14 rfl rfl)
theorem dX9_count_55 : decode cX9_count 55 = .ok (.ishl, 1) := dk_120 (dk_at dksX9_count_2 15 rfl rfl)
theorem dX9_count_56 : decode cX9_count 56 = .ok (.iconst 1, 1) := dk_4 (dk_at dksX9_count_2 16 rfl rfl)
theorem dX9_count_57 : decode cX9_count 57 = .ok (.isub, 1) := dk_100 (dk_at dksX9_count_2 17 rfl rfl)
theorem dX9_count_58 : decode cX9_count 58 = .ok (.invokevirtual 292, 3) := dk_182 1 36 (dk_at dksX9_count_2 18 rfl rfl)
theorem dX9_count_61 : decode cX9_count 61 = .ok (.ireturn, 1) := dk_172 (dk_at dksX9_count_2 21 rfl rfl)
theorem dX9_count_62 : decode cX9_count 62 = .ok (.iconst 0, 1) := dk_3 (dk_at dksX9_count_2 22 rfl rfl)
theorem dX9_count_63 : decode cX9_count 63 = .ok (.istore_n 3, 1) := dk_62 (dk_at dksX9_count_2 23 rfl rfl)
theorem dX9_count_64 : decode cX9_count 64 = .ok (.iload_n 3, 1) := dk_29 (dk_at dksX9_count_3 0 rfl rfl)
theorem dX9_count_65 : decode cX9_count 65 = .ok (.bipush 12, 2) := dk_16 12 (dk_at dksX9_count_3 1 rfl rfl)
theorem dX9_count_67 : decode cX9_count 67 = .ok (.if_icmp .ge 30, 3) := dk_162 0 30 (dk_at dksX9_count_3 3 rfl rfl)
theorem dX9_count_70 : decode cX9_count 70 = .ok (.iload_n 2, 1) := dk_28 (dk_at dksX9_count_3 6 rfl rfl)
theorem dX9_count_71 : decode cX9_count 71 = .ok (.aload_n 0, 1) := dk_42 (dk_at dksX9_count_3 7 rfl rfl)
theorem dX9_count_72 : decode cX9_count 72 = .ok (.getfield 9, 3) := dk_180 0 9 (dk_at dksX9_count_3 8 rfl rfl)
theorem dX9_count_75 : decode cX9_count 75 = .ok (.bipush 10, 2) := dk_16 10 (dk_at dksX9_count_3 11 rfl rfl)
theorem dX9_count_77 : decode cX9_count 77 = .ok (.iload_n 3, 1) := dk_29 (dk_at dksX9_count_3 13 rfl rfl)
theorem dX9_count_78 : decode cX9_count 78 = .ok (.iadd, 1) := dk_96 (dk_at dksX9_count_3 14 rfl rfl)
theorem dX9_count_79 : decode cX9_count 79 = .ok (.iaload, 1) := dk_46 (dk_at dksX9_count_3 15 rfl rfl)
theorem dX9_count_80 : decode cX9_count 80 = .ok (.iconst 3, 1) := dk_6 (dk_at dksX9_count_3 16 rfl rfl)
theorem dX9_count_81 : decode cX9_count 81 = .ok (.if_icmp .ne 7, 3) := dk_160 0 7 (dk_at dksX9_count_3 17 rfl rfl)
theorem dX9_count_84 : decode cX9_count 84 = .ok (.iconst 1, 1) := dk_4 (dk_at dksX9_count_3 20 rfl rfl)
theorem dX9_count_85 : decode cX9_count 85 = .ok (.goto 4, 3) := dk_167 0 4 (dk_at dksX9_count_3 21 rfl rfl)
theorem dX9_count_88 : decode cX9_count 88 = .ok (.iconst 0, 1) := dk_3 (dk_at dksX9_count_4 0 rfl rfl)
theorem dX9_count_89 : decode cX9_count 89 = .ok (.iadd, 1) := dk_96 (dk_at dksX9_count_4 1 rfl rfl)
theorem dX9_count_90 : decode cX9_count 90 = .ok (.istore_n 2, 1) := dk_61 (dk_at dksX9_count_4 2 rfl rfl)
theorem dX9_count_91 : decode cX9_count 91 = .ok (.iinc 3 1, 3) := dk_132 3 1 (dk_at dksX9_count_4 3 rfl rfl)
theorem dX9_count_94 : decode cX9_count 94 = .ok (.goto (-30), 3) := dk_167 255 226 (dk_at dksX9_count_4 6 rfl rfl)
theorem dX9_count_97 : decode cX9_count 97 = .ok (.iload_n 2, 1) := dk_28 (dk_at dksX9_count_4 9 rfl rfl)
theorem dX9_count_98 : decode cX9_count 98 = .ok (.ireturn, 1) := dk_172 (dk_at dksX9_count_4 10 rfl rfl)
theorem dX9_count_99 : decode cX9_count 99 = .ok (.aload_n 0, 1) := dk_42 (dk_at dksX9_count_4 11 rfl rfl)
theorem dX9_count_100 : decode cX9_count 100 = .ok (.getfield 9, 3) := dk_180 0 9 (dk_at dksX9_count_4 12 rfl rfl)
theorem dX9_count_103 : decode cX9_count 103 = .ok (.iconst 1, 1) := dk_4 (dk_at dksX9_count_4 15 rfl rfl)
theorem dX9_count_104 : decode cX9_count 104 = .ok (.iaload, 1) := dk_46 (dk_at dksX9_count_4 16 rfl rfl)
theorem dX9_count_105 : decode cX9_count 105 = .ok (.ireturn, 1) := dk_172 (dk_at dksX9_count_4 17 rfl rfl)
theorem dX9_count_106 : decode cX9_count 106 = .ok (.aload_n 0, 1) := dk_42 (dk_at dksX9_count_4 18 rfl rfl)
theorem dX9_count_107 : decode cX9_count 107 = .ok (.getfield 9, 3) := dk_180 0 9 (dk_at dksX9_count_4 19 rfl rfl)
theorem dX9_count_110 : decode cX9_count 110 = .ok (.iconst 2, 1) := dk_5 (dk_at dksX9_count_4 22 rfl rfl)
theorem dX9_count_111 : decode cX9_count 111 = .ok (.iaload, 1) := dk_46 (dk_at dksX9_count_4 23 rfl rfl)
theorem dX9_count_112 : decode cX9_count 112 = .ok (.ireturn, 1) := dk_172 (dk_at dksX9_count_5 0 rfl rfl)
theorem dX9_count_113 : decode cX9_count 113 = .ok (.aload_n 0, 1) := dk_42 (dk_at dksX9_count_5 1 rfl rfl)
theorem dX9_count_114 : decode cX9_count 114 = .ok (.getfield 304, 3) := dk_180 1 48 (dk_at dksX9_count_5 2 rfl rfl)
theorem dX9_count_117 : decode cX9_count 117 = .ok (.ireturn, 1) := dk_172 (dk_at dksX9_count_5 5 rfl rfl)
theorem dX9_count_118 : decode cX9_count 118 = .ok (.aload_n 0, 1) := dk_42 (dk_at dksX9_count_5 6 rfl rfl)
theorem dX9_count_119 : decode cX9_count 119 = .ok (.ldc 105, 2) := dk_18 105 (dk_at dksX9_count_5 7 rfl rfl)
theorem dX9_count_121 : decode cX9_count 121 = .ok (.invokevirtual 106, 3) := dk_182 0 106 (dk_at dksX9_count_5 9 rfl rfl)
theorem dX9_count_124 : decode cX9_count 124 = .ok (.ireturn, 1) := dk_172 (dk_at dksX9_count_5 12 rfl rfl)
abbrev cX9_told : ByteArray := prog_33_method_102_code
def yX9_told : MethodName := ⟨RX9, "told", "(I)I"⟩
def dkwX9_told_1 : List UInt8 := [172]
abbrev dktX9_told_1 : List UInt8 := dkwX9_told_1 ++ []
def dkwX9_told_0 : List UInt8 := [27, 4, 8, 184, 0, 94, 153, 0, 12, 42, 180, 0, 16, 27, 46, 167, 0, 9, 42, 18, 105, 182, 0, 106]
abbrev dktX9_told_0 : List UInt8 := dkwX9_told_0 ++ dktX9_told_1
theorem dksX9_told_0 : cX9_told.data.toList.drop 0 = dktX9_told_0 := by decide +kernel
theorem dksX9_told_1 : cX9_told.data.toList.drop 24 = dktX9_told_1 := dk_seg dksX9_told_0 24 rfl rfl
theorem dX9_told_0 : decode cX9_told 0 = .ok (.iload_n 1, 1) := dk_27 (dk_at dksX9_told_0 0 rfl rfl)
theorem dX9_told_1 : decode cX9_told 1 = .ok (.iconst 1, 1) := dk_4 (dk_at dksX9_told_0 1 rfl rfl)
theorem dX9_told_2 : decode cX9_told 2 = .ok (.iconst 5, 1) := dk_8 (dk_at dksX9_told_0 2 rfl rfl)
theorem dX9_told_3 : decode cX9_told 3 = .ok (.invokestatic 94, 3) := dk_184 0 94 (dk_at dksX9_told_0 3 rfl rfl)
theorem dX9_told_6 : decode cX9_told 6 = .ok (.ifCond .eq 12, 3) := dk_153 0 12 (dk_at dksX9_told_0 6 rfl rfl)
theorem dX9_told_9 : decode cX9_told 9 = .ok (.aload_n 0, 1) := dk_42 (dk_at dksX9_told_0 9 rfl rfl)
theorem dX9_told_10 : decode cX9_told 10 = .ok (.getfield 16, 3) := dk_180 0 16 (dk_at dksX9_told_0 10 rfl rfl)
theorem dX9_told_13 : decode cX9_told 13 = .ok (.iload_n 1, 1) := dk_27 (dk_at dksX9_told_0 13 rfl rfl)
theorem dX9_told_14 : decode cX9_told 14 = .ok (.iaload, 1) := dk_46 (dk_at dksX9_told_0 14 rfl rfl)
theorem dX9_told_15 : decode cX9_told 15 = .ok (.goto 9, 3) := dk_167 0 9 (dk_at dksX9_told_0 15 rfl rfl)
theorem dX9_told_18 : decode cX9_told 18 = .ok (.aload_n 0, 1) := dk_42 (dk_at dksX9_told_0 18 rfl rfl)
theorem dX9_told_19 : decode cX9_told 19 = .ok (.ldc 105, 2) := dk_18 105 (dk_at dksX9_told_0 19 rfl rfl)
theorem dX9_told_21 : decode cX9_told 21 = .ok (.invokevirtual 106, 3) := dk_182 0 106 (dk_at dksX9_told_0 21 rfl rfl)
theorem dX9_told_24 : decode cX9_told 24 = .ok (.ireturn, 1) := dk_172 (dk_at dksX9_told_1 0 rfl rfl)
theorem q106 : (Jvm.Cond.initialized "NineDemandsModel") ∈ lw_all := lw_g (lw_at lw_m1 16 rfl) rfl
theorem q1308 : (Jvm.Cond.selects "NineDemandsModel" ({ cls := "java/lang/Object", name := "getClass", desc := "()Ljava/lang/Class;" } : Jvm.MethodName) ({ cls := "java/lang/Object", name := "getClass", desc := "()Ljava/lang/Class;" } : Jvm.MethodName)) ∈ lw_all := lw_g (lw_at lw_m6 18 rfl) rfl
theorem q1978 : (Jvm.Cond.instantiable "NineDemandsModel" (33 : Nat)) ∈ lw_all := lw_g (lw_at lw_m8 208 rfl) rfl
theorem q1980 : (Jvm.Cond.instanceMethod ({ cls := "NineDemandsModel", name := "<init>", desc := "()V" } : Jvm.MethodName)) ∈ lw_all := lw_g (lw_at lw_m8 210 rfl) rfl
theorem q1981 : (Jvm.Cond.code ({ cls := "NineDemandsModel", name := "<init>", desc := "()V" } : Jvm.MethodName) prog_33_method_1_code (3 : Nat) (Option.none : Option Jvm.ClassFile.FieldType)) ∈ lw_all := lw_g (lw_at lw_m8 211 rfl) rfl
theorem q1982 : (Jvm.Cond.methodLink "NineDemandsModel" (3 : Nat) ({ cls := "java/lang/Object", name := "<init>", desc := "()V" } : Jvm.MethodName)) ∈ lw_all := lw_g (lw_at lw_m8 212 rfl) rfl
theorem q1983 : (Jvm.Cond.methodLink "NineDemandsModel" (74 : Nat) ({ cls := "NineDemandsModel", name := "addCases", desc := "(II)V" } : Jvm.MethodName)) ∈ lw_all := lw_g (lw_at lw_m8 213 rfl) rfl
theorem q1984 : (Jvm.Cond.privateMethod ({ cls := "NineDemandsModel", name := "addCases", desc := "(II)V" } : Jvm.MethodName)) ∈ lw_tbl := lw_at lw_m8 214 rfl
theorem q1985 : (Jvm.Cond.instanceMethod ({ cls := "NineDemandsModel", name := "addCases", desc := "(II)V" } : Jvm.MethodName)) ∈ lw_all := lw_g (lw_at lw_m8 215 rfl) rfl
theorem q1986 : (Jvm.Cond.code ({ cls := "NineDemandsModel", name := "addCases", desc := "(II)V" } : Jvm.MethodName) prog_33_method_6_code (5 : Nat) (Option.none : Option Jvm.ClassFile.FieldType)) ∈ lw_all := lw_g (lw_at lw_m8 216 rfl) rfl
theorem q1987 : (Jvm.Cond.methodLink "NineDemandsModel" (78 : Nat) ({ cls := "NineDemandsModel", name := "size", desc := "(I)I" } : Jvm.MethodName)) ∈ lw_all := lw_g (lw_at lw_m8 217 rfl) rfl
theorem q1988 : (Jvm.Cond.static ({ cls := "NineDemandsModel", name := "size", desc := "(I)I" } : Jvm.MethodName)) ∈ lw_all := lw_g (lw_at lw_m8 218 rfl) rfl
theorem q1989 : (Jvm.Cond.code ({ cls := "NineDemandsModel", name := "size", desc := "(I)I" } : Jvm.MethodName) prog_33_method_2_code (1 : Nat) (Option.some Jvm.ClassFile.FieldType.int)) ∈ lw_all := lw_g (lw_at lw_m8 219 rfl) rfl
theorem q1990 : (Jvm.Cond.methodLink "NineDemandsModel" (82 : Nat) ({ cls := "NineDemandsModel", name := "turned", desc := "(II)I" } : Jvm.MethodName)) ∈ lw_all := lw_g (lw_at lw_m8 220 rfl) rfl
theorem q1991 : (Jvm.Cond.static ({ cls := "NineDemandsModel", name := "turned", desc := "(II)I" } : Jvm.MethodName)) ∈ lw_all := lw_g (lw_at lw_m8 221 rfl) rfl
theorem q1992 : (Jvm.Cond.code ({ cls := "NineDemandsModel", name := "turned", desc := "(II)I" } : Jvm.MethodName) prog_33_method_4_code (2 : Nat) (Option.some Jvm.ClassFile.FieldType.int)) ∈ lw_all := lw_g (lw_at lw_m8 222 rfl) rfl
theorem q1993 : (Jvm.Cond.methodLink "NineDemandsModel" (86 : Nat) ({ cls := "NineDemandsModel", name := "addCase", desc := "(III)V" } : Jvm.MethodName)) ∈ lw_all := lw_g (lw_at lw_m8 223 rfl) rfl
theorem q1994 : (Jvm.Cond.privateMethod ({ cls := "NineDemandsModel", name := "addCase", desc := "(III)V" } : Jvm.MethodName)) ∈ lw_tbl := lw_at lw_m8 224 rfl
theorem q1995 : (Jvm.Cond.instanceMethod ({ cls := "NineDemandsModel", name := "addCase", desc := "(III)V" } : Jvm.MethodName)) ∈ lw_all := lw_g (lw_at lw_m8 225 rfl) rfl
theorem q1996 : (Jvm.Cond.code ({ cls := "NineDemandsModel", name := "addCase", desc := "(III)V" } : Jvm.MethodName) prog_33_method_5_code (4 : Nat) (Option.none : Option Jvm.ClassFile.FieldType)) ∈ lw_all := lw_g (lw_at lw_m8 226 rfl) rfl
theorem q1997 : (Jvm.Cond.methodLink "NineDemandsModel" (90 : Nat) ({ cls := "NineDemandsModel", name := "wants", desc := "(II)I" } : Jvm.MethodName)) ∈ lw_all := lw_g (lw_at lw_m8 227 rfl) rfl
theorem q1998 : (Jvm.Cond.static ({ cls := "NineDemandsModel", name := "wants", desc := "(II)I" } : Jvm.MethodName)) ∈ lw_all := lw_g (lw_at lw_m8 228 rfl) rfl
theorem q1999 : (Jvm.Cond.code ({ cls := "NineDemandsModel", name := "wants", desc := "(II)I" } : Jvm.MethodName) prog_33_method_3_code (2 : Nat) (Option.some Jvm.ClassFile.FieldType.int)) ∈ lw_all := lw_g (lw_at lw_m8 229 rfl) rfl
theorem q2000 : (Jvm.Cond.fieldLink "NineDemandsModel" (9 : Nat) "NineDemandsModel" "now" "[I") ∈ lw_all := lw_g (lw_at lw_m8 230 rfl) rfl
theorem q2001 : (Jvm.Cond.fieldLink "NineDemandsModel" (13 : Nat) "NineDemandsModel" "kept" "[I") ∈ lw_all := lw_g (lw_at lw_m8 231 rfl) rfl
theorem q2002 : (Jvm.Cond.fieldLink "NineDemandsModel" (325 : Nat) "NineDemandsModel" "images" "I") ∈ lw_all := lw_g (lw_at lw_m8 232 rfl) rfl
theorem q2003 : (Jvm.Cond.fieldLink "NineDemandsModel" (16 : Nat) "NineDemandsModel" "found" "[I") ∈ lw_all := lw_g (lw_at lw_m8 233 rfl) rfl
theorem q2004 : (Jvm.Cond.fieldLink "NineDemandsModel" (19 : Nat) "NineDemandsModel" "firstCase" "[I") ∈ lw_all := lw_g (lw_at lw_m8 234 rfl) rfl
theorem q2005 : (Jvm.Cond.fieldLink "NineDemandsModel" (22 : Nat) "NineDemandsModel" "caseH" "[I") ∈ lw_all := lw_g (lw_at lw_m8 235 rfl) rfl
theorem q2006 : (Jvm.Cond.fieldLink "NineDemandsModel" (25 : Nat) "NineDemandsModel" "caseK" "[I") ∈ lw_all := lw_g (lw_at lw_m8 236 rfl) rfl
theorem q2007 : (Jvm.Cond.fieldLink "NineDemandsModel" (28 : Nat) "NineDemandsModel" "caseWho" "[I") ∈ lw_all := lw_g (lw_at lw_m8 237 rfl) rfl
theorem q2008 : (Jvm.Cond.fieldLink "NineDemandsModel" (70 : Nat) "NineDemandsModel" "cases" "I") ∈ lw_all := lw_g (lw_at lw_m8 238 rfl) rfl
theorem q2009 : (Jvm.Cond.fieldLink "NineDemandsModel" (135 : Nat) "NineDemandsModel" "at" "I") ∈ lw_all := lw_g (lw_at lw_m8 239 rfl) rfl
theorem q2010 : (Jvm.Cond.fieldLink "NineDemandsModel" (167 : Nat) "NineDemandsModel" "open" "I") ∈ lw_all := lw_g (lw_at lw_m9 0 rfl) rfl
theorem q2011 : (Jvm.Cond.fieldLink "NineDemandsModel" (176 : Nat) "NineDemandsModel" "named" "I") ∈ lw_all := lw_g (lw_at lw_m9 1 rfl) rfl
theorem q2012 : (Jvm.Cond.fieldLink "NineDemandsModel" (131 : Nat) "NineDemandsModel" "isWrong" "Z") ∈ lw_all := lw_g (lw_at lw_m9 2 rfl) rfl
theorem q2013 : (Jvm.Cond.fieldLink "NineDemandsModel" (31 : Nat) "NineDemandsModel" "code" "[I") ∈ lw_all := lw_g (lw_at lw_m9 3 rfl) rfl
theorem q2014 : (Jvm.Cond.fieldLink "NineDemandsModel" (142 : Nat) "NineDemandsModel" "coded" "I") ∈ lw_all := lw_g (lw_at lw_m9 4 rfl) rfl
theorem q2015 : (Jvm.Cond.fieldLink "NineDemandsModel" (179 : Nat) "NineDemandsModel" "caseAt" "I") ∈ lw_all := lw_g (lw_at lw_m9 5 rfl) rfl
theorem q2016 : (Jvm.Cond.fieldLink "NineDemandsModel" (182 : Nat) "NineDemandsModel" "choiceC" "I") ∈ lw_all := lw_g (lw_at lw_m9 6 rfl) rfl
theorem q2017 : (Jvm.Cond.fieldLink "NineDemandsModel" (185 : Nat) "NineDemandsModel" "choiceD" "I") ∈ lw_all := lw_g (lw_at lw_m9 7 rfl) rfl
theorem q2018 : (Jvm.Cond.fieldLink "NineDemandsModel" (34 : Nat) "NineDemandsModel" "pile" "[I") ∈ lw_all := lw_g (lw_at lw_m9 8 rfl) rfl
theorem q2019 : (Jvm.Cond.fieldLink "NineDemandsModel" (37 : Nat) "NineDemandsModel" "may" "[I") ∈ lw_all := lw_g (lw_at lw_m9 9 rfl) rfl
theorem q2020 : (Jvm.Cond.fieldLink "NineDemandsModel" (40 : Nat) "NineDemandsModel" "pair" "[I") ∈ lw_all := lw_g (lw_at lw_m9 10 rfl) rfl
theorem q2021 : (Jvm.Cond.fieldLink "NineDemandsModel" (43 : Nat) "NineDemandsModel" "rule" "[I") ∈ lw_all := lw_g (lw_at lw_m9 11 rfl) rfl
theorem q2022 : (Jvm.Cond.fieldLink "NineDemandsModel" (46 : Nat) "NineDemandsModel" "waysOf" "[I") ∈ lw_all := lw_g (lw_at lw_m9 12 rfl) rfl
theorem q2023 : (Jvm.Cond.fieldLink "NineDemandsModel" (49 : Nat) "NineDemandsModel" "left" "[I") ∈ lw_all := lw_g (lw_at lw_m9 13 rfl) rfl
theorem q2024 : (Jvm.Cond.fieldLink "NineDemandsModel" (52 : Nat) "NineDemandsModel" "step" "[I") ∈ lw_all := lw_g (lw_at lw_m9 14 rfl) rfl
theorem q2025 : (Jvm.Cond.fieldLink "NineDemandsModel" (265 : Nat) "NineDemandsModel" "steps" "I") ∈ lw_all := lw_g (lw_at lw_m9 15 rfl) rfl
theorem q2026 : (Jvm.Cond.fieldLink "NineDemandsModel" (55 : Nat) "NineDemandsModel" "trace" "[I") ∈ lw_all := lw_g (lw_at lw_m9 16 rfl) rfl
theorem q2027 : (Jvm.Cond.fieldLink "NineDemandsModel" (304 : Nat) "NineDemandsModel" "traced" "I") ∈ lw_all := lw_g (lw_at lw_m9 17 rfl) rfl
theorem q2028 : (Jvm.Cond.fieldLink "NineDemandsModel" (307 : Nat) "NineDemandsModel" "speaker" "I") ∈ lw_all := lw_g (lw_at lw_m9 18 rfl) rfl
theorem q2029 : (Jvm.Cond.fieldLink "NineDemandsModel" (58 : Nat) "NineDemandsModel" "widths" "[I") ∈ lw_all := lw_g (lw_at lw_m9 19 rfl) rfl
theorem q2030 : (Jvm.Cond.fieldLink "NineDemandsModel" (61 : Nat) "NineDemandsModel" "sizes" "[I") ∈ lw_all := lw_g (lw_at lw_m9 20 rfl) rfl
theorem q2031 : (Jvm.Cond.fieldLink "NineDemandsModel" (64 : Nat) "NineDemandsModel" "numbers" "[I") ∈ lw_all := lw_g (lw_at lw_m9 21 rfl) rfl
theorem q2032 : (Jvm.Cond.fieldLink "NineDemandsModel" (67 : Nat) "NineDemandsModel" "carried" "[I") ∈ lw_all := lw_g (lw_at lw_m9 22 rfl) rfl
theorem q2033 : (Jvm.Cond.laysFinal "NineDemandsModel" "NineDemandsModel" "now" "[I") ∈ lw_all := lw_g (lw_at lw_m9 23 rfl) rfl
theorem q2034 : (Jvm.Cond.soleField "NineDemandsModel" "now") ∈ lw_all := lw_g (lw_at lw_m9 24 rfl) rfl
theorem q2035 : (Jvm.Cond.laysFinal "NineDemandsModel" "NineDemandsModel" "kept" "[I") ∈ lw_all := lw_g (lw_at lw_m9 25 rfl) rfl
theorem q2036 : (Jvm.Cond.soleField "NineDemandsModel" "kept") ∈ lw_all := lw_g (lw_at lw_m9 26 rfl) rfl
theorem q2037 : (Jvm.Cond.lays "NineDemandsModel" "NineDemandsModel" "images" "I") ∈ lw_all := lw_g (lw_at lw_m9 27 rfl) rfl
theorem q2038 : (Jvm.Cond.soleField "NineDemandsModel" "images") ∈ lw_all := lw_g (lw_at lw_m9 28 rfl) rfl
theorem q2039 : (Jvm.Cond.laysFinal "NineDemandsModel" "NineDemandsModel" "found" "[I") ∈ lw_all := lw_g (lw_at lw_m9 29 rfl) rfl
theorem q2040 : (Jvm.Cond.soleField "NineDemandsModel" "found") ∈ lw_all := lw_g (lw_at lw_m9 30 rfl) rfl
theorem q2041 : (Jvm.Cond.laysFinal "NineDemandsModel" "NineDemandsModel" "firstCase" "[I") ∈ lw_all := lw_g (lw_at lw_m9 31 rfl) rfl
theorem q2042 : (Jvm.Cond.soleField "NineDemandsModel" "firstCase") ∈ lw_all := lw_g (lw_at lw_m9 32 rfl) rfl
theorem q2043 : (Jvm.Cond.laysFinal "NineDemandsModel" "NineDemandsModel" "caseH" "[I") ∈ lw_all := lw_g (lw_at lw_m9 33 rfl) rfl
theorem q2044 : (Jvm.Cond.soleField "NineDemandsModel" "caseH") ∈ lw_all := lw_g (lw_at lw_m9 34 rfl) rfl
theorem q2045 : (Jvm.Cond.laysFinal "NineDemandsModel" "NineDemandsModel" "caseK" "[I") ∈ lw_all := lw_g (lw_at lw_m9 35 rfl) rfl
theorem q2046 : (Jvm.Cond.soleField "NineDemandsModel" "caseK") ∈ lw_all := lw_g (lw_at lw_m9 36 rfl) rfl
theorem q2047 : (Jvm.Cond.laysFinal "NineDemandsModel" "NineDemandsModel" "caseWho" "[I") ∈ lw_all := lw_g (lw_at lw_m9 37 rfl) rfl
theorem q2048 : (Jvm.Cond.soleField "NineDemandsModel" "caseWho") ∈ lw_all := lw_g (lw_at lw_m9 38 rfl) rfl
theorem q2049 : (Jvm.Cond.lays "NineDemandsModel" "NineDemandsModel" "cases" "I") ∈ lw_all := lw_g (lw_at lw_m9 39 rfl) rfl
theorem q2050 : (Jvm.Cond.soleField "NineDemandsModel" "cases") ∈ lw_all := lw_g (lw_at lw_m9 40 rfl) rfl
theorem q2051 : (Jvm.Cond.lays "NineDemandsModel" "NineDemandsModel" "at" "I") ∈ lw_all := lw_g (lw_at lw_m9 41 rfl) rfl
theorem q2052 : (Jvm.Cond.soleField "NineDemandsModel" "at") ∈ lw_all := lw_g (lw_at lw_m9 42 rfl) rfl
theorem q2053 : (Jvm.Cond.lays "NineDemandsModel" "NineDemandsModel" "open" "I") ∈ lw_all := lw_g (lw_at lw_m9 43 rfl) rfl
theorem q2054 : (Jvm.Cond.soleField "NineDemandsModel" "open") ∈ lw_all := lw_g (lw_at lw_m9 44 rfl) rfl
theorem q2055 : (Jvm.Cond.lays "NineDemandsModel" "NineDemandsModel" "named" "I") ∈ lw_all := lw_g (lw_at lw_m9 45 rfl) rfl
theorem q2056 : (Jvm.Cond.soleField "NineDemandsModel" "named") ∈ lw_all := lw_g (lw_at lw_m9 46 rfl) rfl
theorem q2057 : (Jvm.Cond.lays "NineDemandsModel" "NineDemandsModel" "isWrong" "Z") ∈ lw_all := lw_g (lw_at lw_m9 47 rfl) rfl
theorem q2058 : (Jvm.Cond.soleField "NineDemandsModel" "isWrong") ∈ lw_all := lw_g (lw_at lw_m9 48 rfl) rfl
theorem q2059 : (Jvm.Cond.laysFinal "NineDemandsModel" "NineDemandsModel" "code" "[I") ∈ lw_all := lw_g (lw_at lw_m9 49 rfl) rfl
theorem q2060 : (Jvm.Cond.soleField "NineDemandsModel" "code") ∈ lw_all := lw_g (lw_at lw_m9 50 rfl) rfl
theorem q2061 : (Jvm.Cond.lays "NineDemandsModel" "NineDemandsModel" "coded" "I") ∈ lw_all := lw_g (lw_at lw_m9 51 rfl) rfl
theorem q2062 : (Jvm.Cond.soleField "NineDemandsModel" "coded") ∈ lw_all := lw_g (lw_at lw_m9 52 rfl) rfl
theorem q2063 : (Jvm.Cond.lays "NineDemandsModel" "NineDemandsModel" "caseAt" "I") ∈ lw_all := lw_g (lw_at lw_m9 53 rfl) rfl
theorem q2064 : (Jvm.Cond.soleField "NineDemandsModel" "caseAt") ∈ lw_all := lw_g (lw_at lw_m9 54 rfl) rfl
theorem q2065 : (Jvm.Cond.lays "NineDemandsModel" "NineDemandsModel" "choiceC" "I") ∈ lw_all := lw_g (lw_at lw_m9 55 rfl) rfl
theorem q2066 : (Jvm.Cond.soleField "NineDemandsModel" "choiceC") ∈ lw_all := lw_g (lw_at lw_m9 56 rfl) rfl
theorem q2067 : (Jvm.Cond.lays "NineDemandsModel" "NineDemandsModel" "choiceD" "I") ∈ lw_all := lw_g (lw_at lw_m9 57 rfl) rfl
theorem q2068 : (Jvm.Cond.soleField "NineDemandsModel" "choiceD") ∈ lw_all := lw_g (lw_at lw_m9 58 rfl) rfl
theorem q2069 : (Jvm.Cond.laysFinal "NineDemandsModel" "NineDemandsModel" "pile" "[I") ∈ lw_all := lw_g (lw_at lw_m9 59 rfl) rfl
theorem q2070 : (Jvm.Cond.soleField "NineDemandsModel" "pile") ∈ lw_all := lw_g (lw_at lw_m9 60 rfl) rfl
theorem q2071 : (Jvm.Cond.laysFinal "NineDemandsModel" "NineDemandsModel" "may" "[I") ∈ lw_all := lw_g (lw_at lw_m9 61 rfl) rfl
theorem q2072 : (Jvm.Cond.soleField "NineDemandsModel" "may") ∈ lw_all := lw_g (lw_at lw_m9 62 rfl) rfl
theorem q2073 : (Jvm.Cond.laysFinal "NineDemandsModel" "NineDemandsModel" "pair" "[I") ∈ lw_all := lw_g (lw_at lw_m9 63 rfl) rfl
theorem q2074 : (Jvm.Cond.soleField "NineDemandsModel" "pair") ∈ lw_all := lw_g (lw_at lw_m9 64 rfl) rfl
theorem q2075 : (Jvm.Cond.laysFinal "NineDemandsModel" "NineDemandsModel" "rule" "[I") ∈ lw_all := lw_g (lw_at lw_m9 65 rfl) rfl
theorem q2076 : (Jvm.Cond.soleField "NineDemandsModel" "rule") ∈ lw_all := lw_g (lw_at lw_m9 66 rfl) rfl
theorem q2077 : (Jvm.Cond.laysFinal "NineDemandsModel" "NineDemandsModel" "waysOf" "[I") ∈ lw_all := lw_g (lw_at lw_m9 67 rfl) rfl
theorem q2078 : (Jvm.Cond.soleField "NineDemandsModel" "waysOf") ∈ lw_all := lw_g (lw_at lw_m9 68 rfl) rfl
theorem q2079 : (Jvm.Cond.laysFinal "NineDemandsModel" "NineDemandsModel" "left" "[I") ∈ lw_all := lw_g (lw_at lw_m9 69 rfl) rfl
theorem q2080 : (Jvm.Cond.soleField "NineDemandsModel" "left") ∈ lw_all := lw_g (lw_at lw_m9 70 rfl) rfl
theorem q2081 : (Jvm.Cond.laysFinal "NineDemandsModel" "NineDemandsModel" "step" "[I") ∈ lw_all := lw_g (lw_at lw_m9 71 rfl) rfl
theorem q2082 : (Jvm.Cond.soleField "NineDemandsModel" "step") ∈ lw_all := lw_g (lw_at lw_m9 72 rfl) rfl
theorem q2083 : (Jvm.Cond.lays "NineDemandsModel" "NineDemandsModel" "steps" "I") ∈ lw_all := lw_g (lw_at lw_m9 73 rfl) rfl
theorem q2084 : (Jvm.Cond.soleField "NineDemandsModel" "steps") ∈ lw_all := lw_g (lw_at lw_m9 74 rfl) rfl
theorem q2085 : (Jvm.Cond.laysFinal "NineDemandsModel" "NineDemandsModel" "trace" "[I") ∈ lw_all := lw_g (lw_at lw_m9 75 rfl) rfl
theorem q2086 : (Jvm.Cond.soleField "NineDemandsModel" "trace") ∈ lw_all := lw_g (lw_at lw_m9 76 rfl) rfl
theorem q2087 : (Jvm.Cond.lays "NineDemandsModel" "NineDemandsModel" "traced" "I") ∈ lw_all := lw_g (lw_at lw_m9 77 rfl) rfl
theorem q2088 : (Jvm.Cond.soleField "NineDemandsModel" "traced") ∈ lw_all := lw_g (lw_at lw_m9 78 rfl) rfl
theorem q2089 : (Jvm.Cond.lays "NineDemandsModel" "NineDemandsModel" "speaker" "I") ∈ lw_all := lw_g (lw_at lw_m9 79 rfl) rfl
theorem q2090 : (Jvm.Cond.soleField "NineDemandsModel" "speaker") ∈ lw_all := lw_g (lw_at lw_m9 80 rfl) rfl
theorem q2091 : (Jvm.Cond.laysFinal "NineDemandsModel" "NineDemandsModel" "widths" "[I") ∈ lw_all := lw_g (lw_at lw_m9 81 rfl) rfl
theorem q2092 : (Jvm.Cond.soleField "NineDemandsModel" "widths") ∈ lw_all := lw_g (lw_at lw_m9 82 rfl) rfl
theorem q2093 : (Jvm.Cond.laysFinal "NineDemandsModel" "NineDemandsModel" "sizes" "[I") ∈ lw_all := lw_g (lw_at lw_m9 83 rfl) rfl
theorem q2094 : (Jvm.Cond.soleField "NineDemandsModel" "sizes") ∈ lw_all := lw_g (lw_at lw_m9 84 rfl) rfl
theorem q2095 : (Jvm.Cond.laysFinal "NineDemandsModel" "NineDemandsModel" "numbers" "[I") ∈ lw_all := lw_g (lw_at lw_m9 85 rfl) rfl
theorem q2096 : (Jvm.Cond.soleField "NineDemandsModel" "numbers") ∈ lw_all := lw_g (lw_at lw_m9 86 rfl) rfl
theorem q2097 : (Jvm.Cond.laysFinal "NineDemandsModel" "NineDemandsModel" "carried" "[I") ∈ lw_all := lw_g (lw_at lw_m9 87 rfl) rfl
theorem q2098 : (Jvm.Cond.soleField "NineDemandsModel" "carried") ∈ lw_all := lw_g (lw_at lw_m9 88 rfl) rfl
theorem q2099 : (Jvm.Cond.superclass "NineDemandsModel" "java/lang/Object") ∈ lw_all := lw_g (lw_at lw_m9 89 rfl) rfl
theorem q2101 : (Jvm.Cond.instanceMethod ({ cls := "NineDemandsModel", name := "hall", desc := "(II)I" } : Jvm.MethodName)) ∈ lw_all := lw_g (lw_at lw_m9 91 rfl) rfl
theorem q2102 : (Jvm.Cond.selects "NineDemandsModel" ({ cls := "NineDemandsModel", name := "hall", desc := "(II)I" } : Jvm.MethodName) ({ cls := "NineDemandsModel", name := "hall", desc := "(II)I" } : Jvm.MethodName)) ∈ lw_all := lw_g (lw_at lw_m9 92 rfl) rfl
theorem q2103 : (Jvm.Cond.code ({ cls := "NineDemandsModel", name := "hall", desc := "(II)I" } : Jvm.MethodName) prog_33_method_18_code (3 : Nat) (Option.some Jvm.ClassFile.FieldType.int)) ∈ lw_all := lw_g (lw_at lw_m9 93 rfl) rfl
theorem q2104 : (Jvm.Cond.methodLink "NineDemandsModel" (101 : Nat) ({ cls := "NineDemandsModel", name := "isHall", desc := "(I)Z" } : Jvm.MethodName)) ∈ lw_all := lw_g (lw_at lw_m9 94 rfl) rfl
theorem q2105 : (Jvm.Cond.static ({ cls := "NineDemandsModel", name := "isHall", desc := "(I)Z" } : Jvm.MethodName)) ∈ lw_all := lw_g (lw_at lw_m9 95 rfl) rfl
theorem q2106 : (Jvm.Cond.code ({ cls := "NineDemandsModel", name := "isHall", desc := "(I)Z" } : Jvm.MethodName) prog_33_method_9_code (1 : Nat) (Option.some Jvm.ClassFile.FieldType.boolean)) ∈ lw_all := lw_g (lw_at lw_m9 96 rfl) rfl
theorem q2107 : (Jvm.Cond.methodLink "NineDemandsModel" (94 : Nat) ({ cls := "NineDemandsModel", name := "within", desc := "(III)Z" } : Jvm.MethodName)) ∈ lw_all := lw_g (lw_at lw_m9 97 rfl) rfl
theorem q2108 : (Jvm.Cond.static ({ cls := "NineDemandsModel", name := "within", desc := "(III)Z" } : Jvm.MethodName)) ∈ lw_all := lw_g (lw_at lw_m9 98 rfl) rfl
theorem q2109 : (Jvm.Cond.code ({ cls := "NineDemandsModel", name := "within", desc := "(III)Z" } : Jvm.MethodName) prog_33_method_8_code (3 : Nat) (Option.some Jvm.ClassFile.FieldType.boolean)) ∈ lw_all := lw_g (lw_at lw_m9 99 rfl) rfl
theorem q2110 : (Jvm.Cond.constant "NineDemandsModel" (105 : Nat) (-1000001 : Int32)) ∈ lw_all := lw_g (lw_at lw_m9 100 rfl) rfl
theorem q2111 : (Jvm.Cond.methodLink "NineDemandsModel" (106 : Nat) ({ cls := "NineDemandsModel", name := "finding", desc := "(I)I" } : Jvm.MethodName)) ∈ lw_all := lw_g (lw_at lw_m9 101 rfl) rfl
theorem q2112 : (Jvm.Cond.privateMethod ({ cls := "NineDemandsModel", name := "finding", desc := "(I)I" } : Jvm.MethodName)) ∈ lw_tbl := lw_at lw_m9 102 rfl
theorem q2113 : (Jvm.Cond.instanceMethod ({ cls := "NineDemandsModel", name := "finding", desc := "(I)I" } : Jvm.MethodName)) ∈ lw_all := lw_g (lw_at lw_m9 103 rfl) rfl
theorem q2114 : (Jvm.Cond.code ({ cls := "NineDemandsModel", name := "finding", desc := "(I)I" } : Jvm.MethodName) prog_33_method_7_code (2 : Nat) (Option.some Jvm.ClassFile.FieldType.int)) ∈ lw_all := lw_g (lw_at lw_m9 104 rfl) rfl
theorem q2115 : (Jvm.Cond.constant "NineDemandsModel" (93 : Nat) (-1000000 : Int32)) ∈ lw_all := lw_g (lw_at lw_m9 105 rfl) rfl
theorem q2116 : (Jvm.Cond.methodLink "NineDemandsModel" (109 : Nat) ({ cls := "NineDemandsModel", name := "wanting", desc := "(II)I" } : Jvm.MethodName)) ∈ lw_all := lw_g (lw_at lw_m9 106 rfl) rfl
theorem q2117 : (Jvm.Cond.static ({ cls := "NineDemandsModel", name := "wanting", desc := "(II)I" } : Jvm.MethodName)) ∈ lw_all := lw_g (lw_at lw_m9 107 rfl) rfl
theorem q2118 : (Jvm.Cond.code ({ cls := "NineDemandsModel", name := "wanting", desc := "(II)I" } : Jvm.MethodName) prog_33_method_17_code (4 : Nat) (Option.some Jvm.ClassFile.FieldType.int)) ∈ lw_all := lw_g (lw_at lw_m9 108 rfl) rfl
theorem q2120 : (Jvm.Cond.instanceMethod ({ cls := "NineDemandsModel", name := "moved", desc := "(II)I" } : Jvm.MethodName)) ∈ lw_all := lw_g (lw_at lw_m9 110 rfl) rfl
theorem q2121 : (Jvm.Cond.selects "NineDemandsModel" ({ cls := "NineDemandsModel", name := "moved", desc := "(II)I" } : Jvm.MethodName) ({ cls := "NineDemandsModel", name := "moved", desc := "(II)I" } : Jvm.MethodName)) ∈ lw_all := lw_g (lw_at lw_m9 111 rfl) rfl
theorem q2122 : (Jvm.Cond.code ({ cls := "NineDemandsModel", name := "moved", desc := "(II)I" } : Jvm.MethodName) prog_33_method_19_code (3 : Nat) (Option.some Jvm.ClassFile.FieldType.int)) ∈ lw_all := lw_g (lw_at lw_m9 112 rfl) rfl
theorem q2123 : (Jvm.Cond.constant "NineDemandsModel" (112 : Nat) (-1000002 : Int32)) ∈ lw_all := lw_g (lw_at lw_m9 113 rfl) rfl
theorem q2125 : (Jvm.Cond.instanceMethod ({ cls := "NineDemandsModel", name := "choose", desc := "(II)I" } : Jvm.MethodName)) ∈ lw_all := lw_g (lw_at lw_m9 115 rfl) rfl
theorem q2126 : (Jvm.Cond.selects "NineDemandsModel" ({ cls := "NineDemandsModel", name := "choose", desc := "(II)I" } : Jvm.MethodName) ({ cls := "NineDemandsModel", name := "choose", desc := "(II)I" } : Jvm.MethodName)) ∈ lw_all := lw_g (lw_at lw_m9 116 rfl) rfl
theorem q2127 : (Jvm.Cond.code ({ cls := "NineDemandsModel", name := "choose", desc := "(II)I" } : Jvm.MethodName) prog_33_method_20_code (4 : Nat) (Option.some Jvm.ClassFile.FieldType.int)) ∈ lw_all := lw_g (lw_at lw_m9 117 rfl) rfl
theorem q2128 : (Jvm.Cond.methodLink "NineDemandsModel" (113 : Nat) ({ cls := "NineDemandsModel", name := "isChoice", desc := "(I)Z" } : Jvm.MethodName)) ∈ lw_all := lw_g (lw_at lw_m9 118 rfl) rfl
theorem q2129 : (Jvm.Cond.static ({ cls := "NineDemandsModel", name := "isChoice", desc := "(I)Z" } : Jvm.MethodName)) ∈ lw_all := lw_g (lw_at lw_m9 119 rfl) rfl
theorem q2130 : (Jvm.Cond.code ({ cls := "NineDemandsModel", name := "isChoice", desc := "(I)Z" } : Jvm.MethodName) prog_33_method_10_code (1 : Nat) (Option.some Jvm.ClassFile.FieldType.boolean)) ∈ lw_all := lw_g (lw_at lw_m9 120 rfl) rfl
theorem q2132 : (Jvm.Cond.instanceMethod ({ cls := "NineDemandsModel", name := "chosen", desc := "(I)I" } : Jvm.MethodName)) ∈ lw_all := lw_g (lw_at lw_m9 122 rfl) rfl
theorem q2133 : (Jvm.Cond.selects "NineDemandsModel" ({ cls := "NineDemandsModel", name := "chosen", desc := "(I)I" } : Jvm.MethodName) ({ cls := "NineDemandsModel", name := "chosen", desc := "(I)I" } : Jvm.MethodName)) ∈ lw_all := lw_g (lw_at lw_m9 123 rfl) rfl
theorem q2134 : (Jvm.Cond.code ({ cls := "NineDemandsModel", name := "chosen", desc := "(I)I" } : Jvm.MethodName) prog_33_method_21_code (2 : Nat) (Option.some Jvm.ClassFile.FieldType.int)) ∈ lw_all := lw_g (lw_at lw_m9 124 rfl) rfl
theorem q2136 : (Jvm.Cond.instanceMethod ({ cls := "NineDemandsModel", name := "block", desc := "(I)I" } : Jvm.MethodName)) ∈ lw_all := lw_g (lw_at lw_m9 126 rfl) rfl
theorem q2137 : (Jvm.Cond.selects "NineDemandsModel" ({ cls := "NineDemandsModel", name := "block", desc := "(I)I" } : Jvm.MethodName) ({ cls := "NineDemandsModel", name := "block", desc := "(I)I" } : Jvm.MethodName)) ∈ lw_all := lw_g (lw_at lw_m9 127 rfl) rfl
theorem q2138 : (Jvm.Cond.code ({ cls := "NineDemandsModel", name := "block", desc := "(I)I" } : Jvm.MethodName) prog_33_method_22_code (4 : Nat) (Option.some Jvm.ClassFile.FieldType.int)) ∈ lw_all := lw_g (lw_at lw_m9 128 rfl) rfl
theorem q2139 : (Jvm.Cond.methodLink "NineDemandsModel" (116 : Nat) ({ cls := "NineDemandsModel", name := "isSheet", desc := "(I)Z" } : Jvm.MethodName)) ∈ lw_all := lw_g (lw_at lw_m9 129 rfl) rfl
theorem q2140 : (Jvm.Cond.static ({ cls := "NineDemandsModel", name := "isSheet", desc := "(I)Z" } : Jvm.MethodName)) ∈ lw_all := lw_g (lw_at lw_m9 130 rfl) rfl
theorem q2141 : (Jvm.Cond.code ({ cls := "NineDemandsModel", name := "isSheet", desc := "(I)Z" } : Jvm.MethodName) prog_33_method_93_code (1 : Nat) (Option.some Jvm.ClassFile.FieldType.boolean)) ∈ lw_all := lw_g (lw_at lw_m9 131 rfl) rfl
theorem q2142 : (Jvm.Cond.methodLink "NineDemandsModel" (119 : Nat) ({ cls := "java/lang/Math", name := "min", desc := "(II)I" } : Jvm.MethodName)) ∈ lw_all := lw_g (lw_at lw_m9 132 rfl) rfl
theorem q2143 : (Jvm.Cond.constant "NineDemandsModel" (124 : Nat) (-1000005 : Int32)) ∈ lw_all := lw_g (lw_at lw_m9 133 rfl) rfl
theorem q2145 : (Jvm.Cond.instanceMethod ({ cls := "NineDemandsModel", name := "form", desc := "(I)I" } : Jvm.MethodName)) ∈ lw_all := lw_g (lw_at lw_m9 135 rfl) rfl
theorem q2146 : (Jvm.Cond.selects "NineDemandsModel" ({ cls := "NineDemandsModel", name := "form", desc := "(I)I" } : Jvm.MethodName) ({ cls := "NineDemandsModel", name := "form", desc := "(I)I" } : Jvm.MethodName)) ∈ lw_all := lw_g (lw_at lw_m9 136 rfl) rfl
theorem q2147 : (Jvm.Cond.code ({ cls := "NineDemandsModel", name := "form", desc := "(I)I" } : Jvm.MethodName) prog_33_method_24_code (4 : Nat) (Option.some Jvm.ClassFile.FieldType.int)) ∈ lw_all := lw_g (lw_at lw_m9 137 rfl) rfl
theorem q2148 : (Jvm.Cond.methodLink "NineDemandsModel" (125 : Nat) ({ cls := "NineDemandsModel", name := "formed", desc := "(II)I" } : Jvm.MethodName)) ∈ lw_all := lw_g (lw_at lw_m9 138 rfl) rfl
theorem q2149 : (Jvm.Cond.static ({ cls := "NineDemandsModel", name := "formed", desc := "(II)I" } : Jvm.MethodName)) ∈ lw_all := lw_g (lw_at lw_m9 139 rfl) rfl
theorem q2150 : (Jvm.Cond.code ({ cls := "NineDemandsModel", name := "formed", desc := "(II)I" } : Jvm.MethodName) prog_33_method_23_code (5 : Nat) (Option.some Jvm.ClassFile.FieldType.int)) ∈ lw_all := lw_g (lw_at lw_m9 140 rfl) rfl
theorem q2152 : (Jvm.Cond.instanceMethod ({ cls := "NineDemandsModel", name := "feed", desc := "(JI)I" } : Jvm.MethodName)) ∈ lw_all := lw_g (lw_at lw_m9 142 rfl) rfl
theorem q2153 : (Jvm.Cond.selects "NineDemandsModel" ({ cls := "NineDemandsModel", name := "feed", desc := "(JI)I" } : Jvm.MethodName) ({ cls := "NineDemandsModel", name := "feed", desc := "(JI)I" } : Jvm.MethodName)) ∈ lw_all := lw_g (lw_at lw_m9 143 rfl) rfl
theorem q2154 : (Jvm.Cond.code ({ cls := "NineDemandsModel", name := "feed", desc := "(JI)I" } : Jvm.MethodName) prog_33_method_25_code (5 : Nat) (Option.some Jvm.ClassFile.FieldType.int)) ∈ lw_all := lw_g (lw_at lw_m9 144 rfl) rfl
theorem q2155 : (Jvm.Cond.constant "NineDemandsModel" (128 : Nat) (-1000004 : Int32)) ∈ lw_all := lw_g (lw_at lw_m9 145 rfl) rfl
theorem q2156 : (Jvm.Cond.constantLong "NineDemandsModel" (129 : Nat) (255 : Int64)) ∈ lw_all := lw_g (lw_at lw_m9 146 rfl) rfl
theorem q2158 : (Jvm.Cond.instanceMethod ({ cls := "NineDemandsModel", name := "law", desc := "(II)I" } : Jvm.MethodName)) ∈ lw_all := lw_g (lw_at lw_m9 148 rfl) rfl
theorem q2159 : (Jvm.Cond.selects "NineDemandsModel" ({ cls := "NineDemandsModel", name := "law", desc := "(II)I" } : Jvm.MethodName) ({ cls := "NineDemandsModel", name := "law", desc := "(II)I" } : Jvm.MethodName)) ∈ lw_all := lw_g (lw_at lw_m9 149 rfl) rfl
theorem q2160 : (Jvm.Cond.code ({ cls := "NineDemandsModel", name := "law", desc := "(II)I" } : Jvm.MethodName) prog_33_method_41_code (5 : Nat) (Option.some Jvm.ClassFile.FieldType.int)) ∈ lw_all := lw_g (lw_at lw_m9 150 rfl) rfl
theorem q2161 : (Jvm.Cond.methodLink "NineDemandsModel" (170 : Nat) ({ cls := "NineDemandsModel", name := "either", desc := "()V" } : Jvm.MethodName)) ∈ lw_all := lw_g (lw_at lw_m9 151 rfl) rfl
theorem q2162 : (Jvm.Cond.privateMethod ({ cls := "NineDemandsModel", name := "either", desc := "()V" } : Jvm.MethodName)) ∈ lw_tbl := lw_at lw_m9 152 rfl
theorem q2163 : (Jvm.Cond.instanceMethod ({ cls := "NineDemandsModel", name := "either", desc := "()V" } : Jvm.MethodName)) ∈ lw_all := lw_g (lw_at lw_m9 153 rfl) rfl
theorem q2164 : (Jvm.Cond.code ({ cls := "NineDemandsModel", name := "either", desc := "()V" } : Jvm.MethodName) prog_33_method_29_code (1 : Nat) (Option.none : Option Jvm.ClassFile.FieldType)) ∈ lw_all := lw_g (lw_at lw_m9 154 rfl) rfl
theorem q2165 : (Jvm.Cond.methodLink "NineDemandsModel" (145 : Nat) ({ cls := "NineDemandsModel", name := "both", desc := "()V" } : Jvm.MethodName)) ∈ lw_all := lw_g (lw_at lw_m9 155 rfl) rfl
theorem q2166 : (Jvm.Cond.privateMethod ({ cls := "NineDemandsModel", name := "both", desc := "()V" } : Jvm.MethodName)) ∈ lw_tbl := lw_at lw_m9 156 rfl
theorem q2167 : (Jvm.Cond.instanceMethod ({ cls := "NineDemandsModel", name := "both", desc := "()V" } : Jvm.MethodName)) ∈ lw_all := lw_g (lw_at lw_m9 157 rfl) rfl
theorem q2168 : (Jvm.Cond.code ({ cls := "NineDemandsModel", name := "both", desc := "()V" } : Jvm.MethodName) prog_33_method_30_code (1 : Nat) (Option.none : Option Jvm.ClassFile.FieldType)) ∈ lw_all := lw_g (lw_at lw_m9 158 rfl) rfl
theorem q2169 : (Jvm.Cond.methodLink "NineDemandsModel" (155 : Nat) ({ cls := "NineDemandsModel", name := "compared", desc := "()V" } : Jvm.MethodName)) ∈ lw_all := lw_g (lw_at lw_m9 159 rfl) rfl
theorem q2170 : (Jvm.Cond.privateMethod ({ cls := "NineDemandsModel", name := "compared", desc := "()V" } : Jvm.MethodName)) ∈ lw_tbl := lw_at lw_m9 160 rfl
theorem q2171 : (Jvm.Cond.instanceMethod ({ cls := "NineDemandsModel", name := "compared", desc := "()V" } : Jvm.MethodName)) ∈ lw_all := lw_g (lw_at lw_m9 161 rfl) rfl
theorem q2172 : (Jvm.Cond.code ({ cls := "NineDemandsModel", name := "compared", desc := "()V" } : Jvm.MethodName) prog_33_method_31_code (2 : Nat) (Option.none : Option Jvm.ClassFile.FieldType)) ∈ lw_all := lw_g (lw_at lw_m9 162 rfl) rfl
theorem q2173 : (Jvm.Cond.methodLink "NineDemandsModel" (158 : Nat) ({ cls := "NineDemandsModel", name := "sum", desc := "()V" } : Jvm.MethodName)) ∈ lw_all := lw_g (lw_at lw_m9 163 rfl) rfl
theorem q2174 : (Jvm.Cond.privateMethod ({ cls := "NineDemandsModel", name := "sum", desc := "()V" } : Jvm.MethodName)) ∈ lw_tbl := lw_at lw_m9 164 rfl
theorem q2175 : (Jvm.Cond.instanceMethod ({ cls := "NineDemandsModel", name := "sum", desc := "()V" } : Jvm.MethodName)) ∈ lw_all := lw_g (lw_at lw_m9 165 rfl) rfl
theorem q2176 : (Jvm.Cond.code ({ cls := "NineDemandsModel", name := "sum", desc := "()V" } : Jvm.MethodName) prog_33_method_32_code (2 : Nat) (Option.none : Option Jvm.ClassFile.FieldType)) ∈ lw_all := lw_g (lw_at lw_m9 166 rfl) rfl
theorem q2177 : (Jvm.Cond.methodLink "NineDemandsModel" (161 : Nat) ({ cls := "NineDemandsModel", name := "product", desc := "()V" } : Jvm.MethodName)) ∈ lw_all := lw_g (lw_at lw_m9 167 rfl) rfl
theorem q2178 : (Jvm.Cond.privateMethod ({ cls := "NineDemandsModel", name := "product", desc := "()V" } : Jvm.MethodName)) ∈ lw_tbl := lw_at lw_m9 168 rfl
theorem q2179 : (Jvm.Cond.instanceMethod ({ cls := "NineDemandsModel", name := "product", desc := "()V" } : Jvm.MethodName)) ∈ lw_all := lw_g (lw_at lw_m9 169 rfl) rfl
theorem q2180 : (Jvm.Cond.code ({ cls := "NineDemandsModel", name := "product", desc := "()V" } : Jvm.MethodName) prog_33_method_33_code (2 : Nat) (Option.none : Option Jvm.ClassFile.FieldType)) ∈ lw_all := lw_g (lw_at lw_m9 170 rfl) rfl
theorem q2181 : (Jvm.Cond.methodLink "NineDemandsModel" (164 : Nat) ({ cls := "NineDemandsModel", name := "one", desc := "()V" } : Jvm.MethodName)) ∈ lw_all := lw_g (lw_at lw_m9 171 rfl) rfl
theorem q2182 : (Jvm.Cond.privateMethod ({ cls := "NineDemandsModel", name := "one", desc := "()V" } : Jvm.MethodName)) ∈ lw_tbl := lw_at lw_m9 172 rfl
theorem q2183 : (Jvm.Cond.instanceMethod ({ cls := "NineDemandsModel", name := "one", desc := "()V" } : Jvm.MethodName)) ∈ lw_all := lw_g (lw_at lw_m9 173 rfl) rfl
theorem q2184 : (Jvm.Cond.code ({ cls := "NineDemandsModel", name := "one", desc := "()V" } : Jvm.MethodName) prog_33_method_35_code (4 : Nat) (Option.none : Option Jvm.ClassFile.FieldType)) ∈ lw_all := lw_g (lw_at lw_m9 174 rfl) rfl
theorem q2185 : (Jvm.Cond.methodLink "NineDemandsModel" (138 : Nat) ({ cls := "NineDemandsModel", name := "here", desc := "()I" } : Jvm.MethodName)) ∈ lw_all := lw_g (lw_at lw_m9 175 rfl) rfl
theorem q2186 : (Jvm.Cond.privateMethod ({ cls := "NineDemandsModel", name := "here", desc := "()I" } : Jvm.MethodName)) ∈ lw_tbl := lw_at lw_m9 176 rfl
theorem q2187 : (Jvm.Cond.instanceMethod ({ cls := "NineDemandsModel", name := "here", desc := "()I" } : Jvm.MethodName)) ∈ lw_all := lw_g (lw_at lw_m9 177 rfl) rfl
theorem q2188 : (Jvm.Cond.code ({ cls := "NineDemandsModel", name := "here", desc := "()I" } : Jvm.MethodName) prog_33_method_26_code (1 : Nat) (Option.some Jvm.ClassFile.FieldType.int)) ∈ lw_all := lw_g (lw_at lw_m9 178 rfl) rfl
theorem q2189 : (Jvm.Cond.methodLink "NineDemandsModel" (151 : Nat) ({ cls := "NineDemandsModel", name := "codes", desc := "(I)V" } : Jvm.MethodName)) ∈ lw_all := lw_g (lw_at lw_m9 179 rfl) rfl
theorem q2190 : (Jvm.Cond.privateMethod ({ cls := "NineDemandsModel", name := "codes", desc := "(I)V" } : Jvm.MethodName)) ∈ lw_tbl := lw_at lw_m9 180 rfl
theorem q2191 : (Jvm.Cond.instanceMethod ({ cls := "NineDemandsModel", name := "codes", desc := "(I)V" } : Jvm.MethodName)) ∈ lw_all := lw_g (lw_at lw_m9 181 rfl) rfl
theorem q2192 : (Jvm.Cond.code ({ cls := "NineDemandsModel", name := "codes", desc := "(I)V" } : Jvm.MethodName) prog_33_method_28_code (2 : Nat) (Option.none : Option Jvm.ClassFile.FieldType)) ∈ lw_all := lw_g (lw_at lw_m9 182 rfl) rfl
theorem q2193 : (Jvm.Cond.methodLink "NineDemandsModel" (148 : Nat) ({ cls := "NineDemandsModel", name := "takes", desc := "(I)Z" } : Jvm.MethodName)) ∈ lw_all := lw_g (lw_at lw_m9 183 rfl) rfl
theorem q2194 : (Jvm.Cond.privateMethod ({ cls := "NineDemandsModel", name := "takes", desc := "(I)Z" } : Jvm.MethodName)) ∈ lw_tbl := lw_at lw_m9 184 rfl
theorem q2195 : (Jvm.Cond.instanceMethod ({ cls := "NineDemandsModel", name := "takes", desc := "(I)Z" } : Jvm.MethodName)) ∈ lw_all := lw_g (lw_at lw_m9 185 rfl) rfl
theorem q2196 : (Jvm.Cond.code ({ cls := "NineDemandsModel", name := "takes", desc := "(I)Z" } : Jvm.MethodName) prog_33_method_27_code (3 : Nat) (Option.some Jvm.ClassFile.FieldType.boolean)) ∈ lw_all := lw_g (lw_at lw_m9 186 rfl) rfl
theorem q2197 : (Jvm.Cond.methodLink "NineDemandsModel" (173 : Nat) ({ cls := "NineDemandsModel", name := "nameOf", desc := "(I)I" } : Jvm.MethodName)) ∈ lw_all := lw_g (lw_at lw_m9 187 rfl) rfl
theorem q2198 : (Jvm.Cond.static ({ cls := "NineDemandsModel", name := "nameOf", desc := "(I)I" } : Jvm.MethodName)) ∈ lw_all := lw_g (lw_at lw_m9 188 rfl) rfl
theorem q2199 : (Jvm.Cond.code ({ cls := "NineDemandsModel", name := "nameOf", desc := "(I)I" } : Jvm.MethodName) prog_33_method_34_code (1 : Nat) (Option.some Jvm.ClassFile.FieldType.int)) ∈ lw_all := lw_g (lw_at lw_m9 189 rfl) rfl
theorem q2200 : (Jvm.Cond.methodLink "NineDemandsModel" (201 : Nat) ({ cls := "NineDemandsModel", name := "tableOf", desc := "(II)I" } : Jvm.MethodName)) ∈ lw_all := lw_g (lw_at lw_m9 190 rfl) rfl
theorem q2201 : (Jvm.Cond.privateMethod ({ cls := "NineDemandsModel", name := "tableOf", desc := "(II)I" } : Jvm.MethodName)) ∈ lw_tbl := lw_at lw_m9 191 rfl
theorem q2202 : (Jvm.Cond.instanceMethod ({ cls := "NineDemandsModel", name := "tableOf", desc := "(II)I" } : Jvm.MethodName)) ∈ lw_all := lw_g (lw_at lw_m9 192 rfl) rfl
theorem q2203 : (Jvm.Cond.code ({ cls := "NineDemandsModel", name := "tableOf", desc := "(II)I" } : Jvm.MethodName) prog_33_method_40_code (6 : Nat) (Option.some Jvm.ClassFile.FieldType.int)) ∈ lw_all := lw_g (lw_at lw_m9 193 rfl) rfl
theorem q2204 : (Jvm.Cond.methodLink "NineDemandsModel" (198 : Nat) ({ cls := "NineDemandsModel", name := "isSo", desc := "(III)Z" } : Jvm.MethodName)) ∈ lw_all := lw_g (lw_at lw_m9 194 rfl) rfl
theorem q2205 : (Jvm.Cond.privateMethod ({ cls := "NineDemandsModel", name := "isSo", desc := "(III)Z" } : Jvm.MethodName)) ∈ lw_tbl := lw_at lw_m9 195 rfl
theorem q2206 : (Jvm.Cond.instanceMethod ({ cls := "NineDemandsModel", name := "isSo", desc := "(III)Z" } : Jvm.MethodName)) ∈ lw_all := lw_g (lw_at lw_m9 196 rfl) rfl
theorem q2207 : (Jvm.Cond.code ({ cls := "NineDemandsModel", name := "isSo", desc := "(III)Z" } : Jvm.MethodName) prog_33_method_39_code (4 : Nat) (Option.some Jvm.ClassFile.FieldType.boolean)) ∈ lw_all := lw_g (lw_at lw_m9 197 rfl) rfl
theorem q2208 : (Jvm.Cond.methodLink "NineDemandsModel" (194 : Nat) ({ cls := "NineDemandsModel", name := "isText", desc := "()Z" } : Jvm.MethodName)) ∈ lw_all := lw_g (lw_at lw_m9 198 rfl) rfl
theorem q2209 : (Jvm.Cond.privateMethod ({ cls := "NineDemandsModel", name := "isText", desc := "()Z" } : Jvm.MethodName)) ∈ lw_tbl := lw_at lw_m9 199 rfl
theorem q2210 : (Jvm.Cond.instanceMethod ({ cls := "NineDemandsModel", name := "isText", desc := "()Z" } : Jvm.MethodName)) ∈ lw_all := lw_g (lw_at lw_m9 200 rfl) rfl
theorem q2211 : (Jvm.Cond.code ({ cls := "NineDemandsModel", name := "isText", desc := "()Z" } : Jvm.MethodName) prog_33_method_38_code (4 : Nat) (Option.some Jvm.ClassFile.FieldType.boolean)) ∈ lw_all := lw_g (lw_at lw_m9 201 rfl) rfl
theorem q2212 : (Jvm.Cond.methodLink "NineDemandsModel" (188 : Nat) ({ cls := "NineDemandsModel", name := "named", desc := "(I)I" } : Jvm.MethodName)) ∈ lw_all := lw_g (lw_at lw_m9 202 rfl) rfl
theorem q2213 : (Jvm.Cond.privateMethod ({ cls := "NineDemandsModel", name := "named", desc := "(I)I" } : Jvm.MethodName)) ∈ lw_tbl := lw_at lw_m9 203 rfl
theorem q2214 : (Jvm.Cond.instanceMethod ({ cls := "NineDemandsModel", name := "named", desc := "(I)I" } : Jvm.MethodName)) ∈ lw_all := lw_g (lw_at lw_m9 204 rfl) rfl
theorem q2215 : (Jvm.Cond.code ({ cls := "NineDemandsModel", name := "named", desc := "(I)I" } : Jvm.MethodName) prog_33_method_36_code (3 : Nat) (Option.some Jvm.ClassFile.FieldType.int)) ∈ lw_all := lw_g (lw_at lw_m9 205 rfl) rfl
theorem q2216 : (Jvm.Cond.methodLink "NineDemandsModel" (190 : Nat) ({ cls := "NineDemandsModel", name := "done", desc := "(III)I" } : Jvm.MethodName)) ∈ lw_all := lw_g (lw_at lw_m9 206 rfl) rfl
theorem q2217 : (Jvm.Cond.static ({ cls := "NineDemandsModel", name := "done", desc := "(III)I" } : Jvm.MethodName)) ∈ lw_all := lw_g (lw_at lw_m9 207 rfl) rfl
theorem q2218 : (Jvm.Cond.code ({ cls := "NineDemandsModel", name := "done", desc := "(III)I" } : Jvm.MethodName) prog_33_method_37_code (3 : Nat) (Option.some Jvm.ClassFile.FieldType.int)) ∈ lw_all := lw_g (lw_at lw_m9 208 rfl) rfl
theorem q2220 : (Jvm.Cond.instanceMethod ({ cls := "NineDemandsModel", name := "price", desc := "(II)I" } : Jvm.MethodName)) ∈ lw_all := lw_g (lw_at lw_m9 210 rfl) rfl
theorem q2221 : (Jvm.Cond.selects "NineDemandsModel" ({ cls := "NineDemandsModel", name := "price", desc := "(II)I" } : Jvm.MethodName) ({ cls := "NineDemandsModel", name := "price", desc := "(II)I" } : Jvm.MethodName)) ∈ lw_all := lw_g (lw_at lw_m9 211 rfl) rfl
theorem q2222 : (Jvm.Cond.code ({ cls := "NineDemandsModel", name := "price", desc := "(II)I" } : Jvm.MethodName) prog_33_method_42_code (4 : Nat) (Option.some Jvm.ClassFile.FieldType.int)) ∈ lw_all := lw_g (lw_at lw_m9 212 rfl) rfl
theorem q2223 : (Jvm.Cond.methodLink "NineDemandsModel" (204 : Nat) ({ cls := "NineDemandsModel", name := "isLaw", desc := "(I)Z" } : Jvm.MethodName)) ∈ lw_all := lw_g (lw_at lw_m9 213 rfl) rfl
theorem q2224 : (Jvm.Cond.privateMethod ({ cls := "NineDemandsModel", name := "isLaw", desc := "(I)Z" } : Jvm.MethodName)) ∈ lw_tbl := lw_at lw_m9 214 rfl
theorem q2225 : (Jvm.Cond.instanceMethod ({ cls := "NineDemandsModel", name := "isLaw", desc := "(I)Z" } : Jvm.MethodName)) ∈ lw_all := lw_g (lw_at lw_m9 215 rfl) rfl
theorem q2226 : (Jvm.Cond.code ({ cls := "NineDemandsModel", name := "isLaw", desc := "(I)Z" } : Jvm.MethodName) prog_33_method_11_code (2 : Nat) (Option.some Jvm.ClassFile.FieldType.boolean)) ∈ lw_all := lw_g (lw_at lw_m9 216 rfl) rfl
theorem q2228 : (Jvm.Cond.instanceMethod ({ cls := "NineDemandsModel", name := "as", desc := "(II)I" } : Jvm.MethodName)) ∈ lw_all := lw_g (lw_at lw_m9 218 rfl) rfl
theorem q2229 : (Jvm.Cond.selects "NineDemandsModel" ({ cls := "NineDemandsModel", name := "as", desc := "(II)I" } : Jvm.MethodName) ({ cls := "NineDemandsModel", name := "as", desc := "(II)I" } : Jvm.MethodName)) ∈ lw_all := lw_g (lw_at lw_m9 219 rfl) rfl
theorem q2230 : (Jvm.Cond.code ({ cls := "NineDemandsModel", name := "as", desc := "(II)I" } : Jvm.MethodName) prog_33_method_44_code (4 : Nat) (Option.some Jvm.ClassFile.FieldType.int)) ∈ lw_all := lw_g (lw_at lw_m9 220 rfl) rfl
theorem q2231 : (Jvm.Cond.methodLink "NineDemandsModel" (98 : Nat) ({ cls := "NineDemandsModel", name := "kindOf", desc := "(I)I" } : Jvm.MethodName)) ∈ lw_all := lw_g (lw_at lw_m9 221 rfl) rfl
theorem q2232 : (Jvm.Cond.privateMethod ({ cls := "NineDemandsModel", name := "kindOf", desc := "(I)I" } : Jvm.MethodName)) ∈ lw_tbl := lw_at lw_m9 222 rfl
theorem q2233 : (Jvm.Cond.instanceMethod ({ cls := "NineDemandsModel", name := "kindOf", desc := "(I)I" } : Jvm.MethodName)) ∈ lw_all := lw_g (lw_at lw_m9 223 rfl) rfl
theorem q2234 : (Jvm.Cond.code ({ cls := "NineDemandsModel", name := "kindOf", desc := "(I)I" } : Jvm.MethodName) prog_33_method_14_code (2 : Nat) (Option.some Jvm.ClassFile.FieldType.int)) ∈ lw_all := lw_g (lw_at lw_m9 224 rfl) rfl
theorem q2235 : (Jvm.Cond.methodLink "NineDemandsModel" (207 : Nat) ({ cls := "NineDemandsModel", name := "above", desc := "(I)I" } : Jvm.MethodName)) ∈ lw_all := lw_g (lw_at lw_m9 225 rfl) rfl
theorem q2236 : (Jvm.Cond.static ({ cls := "NineDemandsModel", name := "above", desc := "(I)I" } : Jvm.MethodName)) ∈ lw_all := lw_g (lw_at lw_m9 226 rfl) rfl
theorem q2237 : (Jvm.Cond.code ({ cls := "NineDemandsModel", name := "above", desc := "(I)I" } : Jvm.MethodName) prog_33_method_43_code (1 : Nat) (Option.some Jvm.ClassFile.FieldType.int)) ∈ lw_all := lw_g (lw_at lw_m9 227 rfl) rfl
theorem q2238 : (Jvm.Cond.methodLink "NineDemandsModel" (210 : Nat) ({ cls := "NineDemandsModel", name := "casesOf", desc := "(I)I" } : Jvm.MethodName)) ∈ lw_all := lw_g (lw_at lw_m9 228 rfl) rfl
theorem q2239 : (Jvm.Cond.privateMethod ({ cls := "NineDemandsModel", name := "casesOf", desc := "(I)I" } : Jvm.MethodName)) ∈ lw_tbl := lw_at lw_m9 229 rfl
theorem q2240 : (Jvm.Cond.instanceMethod ({ cls := "NineDemandsModel", name := "casesOf", desc := "(I)I" } : Jvm.MethodName)) ∈ lw_all := lw_g (lw_at lw_m9 230 rfl) rfl
theorem q2241 : (Jvm.Cond.code ({ cls := "NineDemandsModel", name := "casesOf", desc := "(I)I" } : Jvm.MethodName) prog_33_method_15_code (2 : Nat) (Option.some Jvm.ClassFile.FieldType.int)) ∈ lw_all := lw_g (lw_at lw_m9 231 rfl) rfl
theorem q2243 : (Jvm.Cond.instanceMethod ({ cls := "NineDemandsModel", name := "part", desc := "(III)I" } : Jvm.MethodName)) ∈ lw_all := lw_g (lw_at lw_m9 233 rfl) rfl
theorem q2244 : (Jvm.Cond.selects "NineDemandsModel" ({ cls := "NineDemandsModel", name := "part", desc := "(III)I" } : Jvm.MethodName) ({ cls := "NineDemandsModel", name := "part", desc := "(III)I" } : Jvm.MethodName)) ∈ lw_all := lw_g (lw_at lw_m9 234 rfl) rfl
theorem q2245 : (Jvm.Cond.code ({ cls := "NineDemandsModel", name := "part", desc := "(III)I" } : Jvm.MethodName) prog_33_method_48_code (4 : Nat) (Option.some Jvm.ClassFile.FieldType.int)) ∈ lw_all := lw_g (lw_at lw_m9 235 rfl) rfl
theorem q2246 : (Jvm.Cond.methodLink "NineDemandsModel" (213 : Nat) ({ cls := "NineDemandsModel", name := "isCase", desc := "(II)Z" } : Jvm.MethodName)) ∈ lw_all := lw_g (lw_at lw_m9 236 rfl) rfl
theorem q2247 : (Jvm.Cond.privateMethod ({ cls := "NineDemandsModel", name := "isCase", desc := "(II)Z" } : Jvm.MethodName)) ∈ lw_tbl := lw_at lw_m9 237 rfl
theorem q2248 : (Jvm.Cond.instanceMethod ({ cls := "NineDemandsModel", name := "isCase", desc := "(II)Z" } : Jvm.MethodName)) ∈ lw_all := lw_g (lw_at lw_m9 238 rfl) rfl
theorem q2249 : (Jvm.Cond.code ({ cls := "NineDemandsModel", name := "isCase", desc := "(II)Z" } : Jvm.MethodName) prog_33_method_45_code (3 : Nat) (Option.some Jvm.ClassFile.FieldType.boolean)) ∈ lw_all := lw_g (lw_at lw_m9 239 rfl) rfl
theorem q2250 : (Jvm.Cond.methodLink "NineDemandsModel" (217 : Nat) ({ cls := "NineDemandsModel", name := "hallOf", desc := "(II)I" } : Jvm.MethodName)) ∈ lw_all := lw_g (lw_at lw_m10 0 rfl) rfl
theorem q2251 : (Jvm.Cond.privateMethod ({ cls := "NineDemandsModel", name := "hallOf", desc := "(II)I" } : Jvm.MethodName)) ∈ lw_tbl := lw_at lw_m10 1 rfl
theorem q2252 : (Jvm.Cond.instanceMethod ({ cls := "NineDemandsModel", name := "hallOf", desc := "(II)I" } : Jvm.MethodName)) ∈ lw_all := lw_g (lw_at lw_m10 2 rfl) rfl
theorem q2253 : (Jvm.Cond.code ({ cls := "NineDemandsModel", name := "hallOf", desc := "(II)I" } : Jvm.MethodName) prog_33_method_46_code (3 : Nat) (Option.some Jvm.ClassFile.FieldType.int)) ∈ lw_all := lw_g (lw_at lw_m10 3 rfl) rfl
theorem q2254 : (Jvm.Cond.methodLink "NineDemandsModel" (220 : Nat) ({ cls := "NineDemandsModel", name := "hasOther", desc := "(I)Z" } : Jvm.MethodName)) ∈ lw_all := lw_g (lw_at lw_m10 4 rfl) rfl
theorem q2255 : (Jvm.Cond.privateMethod ({ cls := "NineDemandsModel", name := "hasOther", desc := "(I)Z" } : Jvm.MethodName)) ∈ lw_tbl := lw_at lw_m10 5 rfl
theorem q2256 : (Jvm.Cond.instanceMethod ({ cls := "NineDemandsModel", name := "hasOther", desc := "(I)Z" } : Jvm.MethodName)) ∈ lw_all := lw_g (lw_at lw_m10 6 rfl) rfl
theorem q2257 : (Jvm.Cond.code ({ cls := "NineDemandsModel", name := "hasOther", desc := "(I)Z" } : Jvm.MethodName) prog_33_method_16_code (2 : Nat) (Option.some Jvm.ClassFile.FieldType.boolean)) ∈ lw_all := lw_g (lw_at lw_m10 7 rfl) rfl
theorem q2258 : (Jvm.Cond.methodLink "NineDemandsModel" (223 : Nat) ({ cls := "NineDemandsModel", name := "otherOf", desc := "(II)I" } : Jvm.MethodName)) ∈ lw_all := lw_g (lw_at lw_m10 8 rfl) rfl
theorem q2259 : (Jvm.Cond.privateMethod ({ cls := "NineDemandsModel", name := "otherOf", desc := "(II)I" } : Jvm.MethodName)) ∈ lw_tbl := lw_at lw_m10 9 rfl
theorem q2260 : (Jvm.Cond.instanceMethod ({ cls := "NineDemandsModel", name := "otherOf", desc := "(II)I" } : Jvm.MethodName)) ∈ lw_all := lw_g (lw_at lw_m10 10 rfl) rfl
theorem q2261 : (Jvm.Cond.code ({ cls := "NineDemandsModel", name := "otherOf", desc := "(II)I" } : Jvm.MethodName) prog_33_method_47_code (3 : Nat) (Option.some Jvm.ClassFile.FieldType.int)) ∈ lw_all := lw_g (lw_at lw_m10 11 rfl) rfl
theorem q2263 : (Jvm.Cond.instanceMethod ({ cls := "NineDemandsModel", name := "so", desc := "(IIII)I" } : Jvm.MethodName)) ∈ lw_all := lw_g (lw_at lw_m10 13 rfl) rfl
theorem q2264 : (Jvm.Cond.selects "NineDemandsModel" ({ cls := "NineDemandsModel", name := "so", desc := "(IIII)I" } : Jvm.MethodName) ({ cls := "NineDemandsModel", name := "so", desc := "(IIII)I" } : Jvm.MethodName)) ∈ lw_all := lw_g (lw_at lw_m10 14 rfl) rfl
theorem q2265 : (Jvm.Cond.code ({ cls := "NineDemandsModel", name := "so", desc := "(IIII)I" } : Jvm.MethodName) prog_33_method_50_code (5 : Nat) (Option.some Jvm.ClassFile.FieldType.int)) ∈ lw_all := lw_g (lw_at lw_m10 15 rfl) rfl
theorem q2266 : (Jvm.Cond.methodLink "NineDemandsModel" (229 : Nat) ({ cls := "NineDemandsModel", name := "goes", desc := "(IIII)Z" } : Jvm.MethodName)) ∈ lw_all := lw_g (lw_at lw_m10 16 rfl) rfl
theorem q2267 : (Jvm.Cond.privateMethod ({ cls := "NineDemandsModel", name := "goes", desc := "(IIII)Z" } : Jvm.MethodName)) ∈ lw_tbl := lw_at lw_m10 17 rfl
theorem q2268 : (Jvm.Cond.instanceMethod ({ cls := "NineDemandsModel", name := "goes", desc := "(IIII)Z" } : Jvm.MethodName)) ∈ lw_all := lw_g (lw_at lw_m10 18 rfl) rfl
theorem q2269 : (Jvm.Cond.code ({ cls := "NineDemandsModel", name := "goes", desc := "(IIII)Z" } : Jvm.MethodName) prog_33_method_49_code (6 : Nat) (Option.some Jvm.ClassFile.FieldType.boolean)) ∈ lw_all := lw_g (lw_at lw_m10 19 rfl) rfl
theorem q2270 : (Jvm.Cond.methodLink "NineDemandsModel" (226 : Nat) ({ cls := "NineDemandsModel", name := "has", desc := "(II)Z" } : Jvm.MethodName)) ∈ lw_all := lw_g (lw_at lw_m10 20 rfl) rfl
theorem q2271 : (Jvm.Cond.static ({ cls := "NineDemandsModel", name := "has", desc := "(II)Z" } : Jvm.MethodName)) ∈ lw_all := lw_g (lw_at lw_m10 21 rfl) rfl
theorem q2272 : (Jvm.Cond.code ({ cls := "NineDemandsModel", name := "has", desc := "(II)Z" } : Jvm.MethodName) prog_33_method_13_code (2 : Nat) (Option.some Jvm.ClassFile.FieldType.boolean)) ∈ lw_all := lw_g (lw_at lw_m10 22 rfl) rfl
theorem q2274 : (Jvm.Cond.instanceMethod ({ cls := "NineDemandsModel", name := "breach", desc := "(I)I" } : Jvm.MethodName)) ∈ lw_all := lw_g (lw_at lw_m10 24 rfl) rfl
theorem q2275 : (Jvm.Cond.selects "NineDemandsModel" ({ cls := "NineDemandsModel", name := "breach", desc := "(I)I" } : Jvm.MethodName) ({ cls := "NineDemandsModel", name := "breach", desc := "(I)I" } : Jvm.MethodName)) ∈ lw_all := lw_g (lw_at lw_m10 25 rfl) rfl
theorem q2276 : (Jvm.Cond.code ({ cls := "NineDemandsModel", name := "breach", desc := "(I)I" } : Jvm.MethodName) prog_33_method_52_code (3 : Nat) (Option.some Jvm.ClassFile.FieldType.int)) ∈ lw_all := lw_g (lw_at lw_m10 26 rfl) rfl
theorem q2277 : (Jvm.Cond.methodLink "NineDemandsModel" (233 : Nat) ({ cls := "NineDemandsModel", name := "broken", desc := "(I[II)I" } : Jvm.MethodName)) ∈ lw_all := lw_g (lw_at lw_m10 27 rfl) rfl
theorem q2278 : (Jvm.Cond.privateMethod ({ cls := "NineDemandsModel", name := "broken", desc := "(I[II)I" } : Jvm.MethodName)) ∈ lw_tbl := lw_at lw_m10 28 rfl
theorem q2279 : (Jvm.Cond.instanceMethod ({ cls := "NineDemandsModel", name := "broken", desc := "(I[II)I" } : Jvm.MethodName)) ∈ lw_all := lw_g (lw_at lw_m10 29 rfl) rfl
theorem q2280 : (Jvm.Cond.code ({ cls := "NineDemandsModel", name := "broken", desc := "(I[II)I" } : Jvm.MethodName) prog_33_method_51_code (6 : Nat) (Option.some Jvm.ClassFile.FieldType.int)) ∈ lw_all := lw_g (lw_at lw_m10 30 rfl) rfl
theorem q2282 : (Jvm.Cond.instanceMethod ({ cls := "NineDemandsModel", name := "kept", desc := "()I" } : Jvm.MethodName)) ∈ lw_all := lw_g (lw_at lw_m10 32 rfl) rfl
theorem q2283 : (Jvm.Cond.selects "NineDemandsModel" ({ cls := "NineDemandsModel", name := "kept", desc := "()I" } : Jvm.MethodName) ({ cls := "NineDemandsModel", name := "kept", desc := "()I" } : Jvm.MethodName)) ∈ lw_all := lw_g (lw_at lw_m10 33 rfl) rfl
theorem q2284 : (Jvm.Cond.code ({ cls := "NineDemandsModel", name := "kept", desc := "()I" } : Jvm.MethodName) prog_33_method_53_code (3 : Nat) (Option.some Jvm.ClassFile.FieldType.int)) ∈ lw_all := lw_g (lw_at lw_m10 34 rfl) rfl
theorem q2286 : (Jvm.Cond.instanceMethod ({ cls := "NineDemandsModel", name := "find", desc := "(II)I" } : Jvm.MethodName)) ∈ lw_all := lw_g (lw_at lw_m10 36 rfl) rfl
theorem q2287 : (Jvm.Cond.selects "NineDemandsModel" ({ cls := "NineDemandsModel", name := "find", desc := "(II)I" } : Jvm.MethodName) ({ cls := "NineDemandsModel", name := "find", desc := "(II)I" } : Jvm.MethodName)) ∈ lw_all := lw_g (lw_at lw_m10 37 rfl) rfl
theorem q2288 : (Jvm.Cond.code ({ cls := "NineDemandsModel", name := "find", desc := "(II)I" } : Jvm.MethodName) prog_33_method_59_code (3 : Nat) (Option.some Jvm.ClassFile.FieldType.int)) ∈ lw_all := lw_g (lw_at lw_m10 38 rfl) rfl
theorem q2289 : (Jvm.Cond.methodLink "NineDemandsModel" (249 : Nat) ({ cls := "NineDemandsModel", name := "isSet", desc := "(I)Z" } : Jvm.MethodName)) ∈ lw_all := lw_g (lw_at lw_m10 39 rfl) rfl
theorem q2290 : (Jvm.Cond.privateMethod ({ cls := "NineDemandsModel", name := "isSet", desc := "(I)Z" } : Jvm.MethodName)) ∈ lw_tbl := lw_at lw_m10 40 rfl
theorem q2291 : (Jvm.Cond.instanceMethod ({ cls := "NineDemandsModel", name := "isSet", desc := "(I)Z" } : Jvm.MethodName)) ∈ lw_all := lw_g (lw_at lw_m10 41 rfl) rfl
theorem q2292 : (Jvm.Cond.code ({ cls := "NineDemandsModel", name := "isSet", desc := "(I)Z" } : Jvm.MethodName) prog_33_method_12_code (2 : Nat) (Option.some Jvm.ClassFile.FieldType.boolean)) ∈ lw_all := lw_g (lw_at lw_m10 42 rfl) rfl
theorem q2293 : (Jvm.Cond.methodLink "NineDemandsModel" (252 : Nat) ({ cls := "NineDemandsModel", name := "fitsSome", desc := "(I)Z" } : Jvm.MethodName)) ∈ lw_all := lw_g (lw_at lw_m10 43 rfl) rfl
theorem q2294 : (Jvm.Cond.privateMethod ({ cls := "NineDemandsModel", name := "fitsSome", desc := "(I)Z" } : Jvm.MethodName)) ∈ lw_tbl := lw_at lw_m10 44 rfl
theorem q2295 : (Jvm.Cond.instanceMethod ({ cls := "NineDemandsModel", name := "fitsSome", desc := "(I)Z" } : Jvm.MethodName)) ∈ lw_all := lw_g (lw_at lw_m10 45 rfl) rfl
theorem q2296 : (Jvm.Cond.code ({ cls := "NineDemandsModel", name := "fitsSome", desc := "(I)Z" } : Jvm.MethodName) prog_33_method_58_code (2 : Nat) (Option.some Jvm.ClassFile.FieldType.boolean)) ∈ lw_all := lw_g (lw_at lw_m10 46 rfl) rfl
theorem q2297 : (Jvm.Cond.methodLink "NineDemandsModel" (246 : Nat) ({ cls := "NineDemandsModel", name := "gather", desc := "(I)V" } : Jvm.MethodName)) ∈ lw_all := lw_g (lw_at lw_m10 47 rfl) rfl
theorem q2298 : (Jvm.Cond.privateMethod ({ cls := "NineDemandsModel", name := "gather", desc := "(I)V" } : Jvm.MethodName)) ∈ lw_tbl := lw_at lw_m10 48 rfl
theorem q2299 : (Jvm.Cond.instanceMethod ({ cls := "NineDemandsModel", name := "gather", desc := "(I)V" } : Jvm.MethodName)) ∈ lw_all := lw_g (lw_at lw_m10 49 rfl) rfl
theorem q2300 : (Jvm.Cond.code ({ cls := "NineDemandsModel", name := "gather", desc := "(I)V" } : Jvm.MethodName) prog_33_method_55_code (7 : Nat) (Option.none : Option Jvm.ClassFile.FieldType)) ∈ lw_all := lw_g (lw_at lw_m10 50 rfl) rfl
theorem q2301 : (Jvm.Cond.methodLink "NineDemandsModel" (237 : Nat) ({ cls := "NineDemandsModel", name := "flipped", desc := "(I)I" } : Jvm.MethodName)) ∈ lw_all := lw_g (lw_at lw_m10 51 rfl) rfl
theorem q2302 : (Jvm.Cond.static ({ cls := "NineDemandsModel", name := "flipped", desc := "(I)I" } : Jvm.MethodName)) ∈ lw_all := lw_g (lw_at lw_m10 52 rfl) rfl
theorem q2303 : (Jvm.Cond.code ({ cls := "NineDemandsModel", name := "flipped", desc := "(I)I" } : Jvm.MethodName) prog_33_method_54_code (4 : Nat) (Option.some Jvm.ClassFile.FieldType.int)) ∈ lw_all := lw_g (lw_at lw_m10 53 rfl) rfl
theorem q2304 : (Jvm.Cond.methodLink "NineDemandsModel" (240 : Nat) ({ cls := "NineDemandsModel", name := "seek", desc := "(II)Z" } : Jvm.MethodName)) ∈ lw_all := lw_g (lw_at lw_m10 54 rfl) rfl
theorem q2305 : (Jvm.Cond.privateMethod ({ cls := "NineDemandsModel", name := "seek", desc := "(II)Z" } : Jvm.MethodName)) ∈ lw_tbl := lw_at lw_m10 55 rfl
theorem q2306 : (Jvm.Cond.instanceMethod ({ cls := "NineDemandsModel", name := "seek", desc := "(II)Z" } : Jvm.MethodName)) ∈ lw_all := lw_g (lw_at lw_m10 56 rfl) rfl
theorem q2307 : (Jvm.Cond.code ({ cls := "NineDemandsModel", name := "seek", desc := "(II)Z" } : Jvm.MethodName) prog_33_method_57_code (4 : Nat) (Option.some Jvm.ClassFile.FieldType.boolean)) ∈ lw_all := lw_g (lw_at lw_m10 57 rfl) rfl
theorem q2308 : (Jvm.Cond.methodLink "NineDemandsModel" (243 : Nat) ({ cls := "NineDemandsModel", name := "fitsAhead", desc := "(III)Z" } : Jvm.MethodName)) ∈ lw_all := lw_g (lw_at lw_m10 58 rfl) rfl
theorem q2309 : (Jvm.Cond.privateMethod ({ cls := "NineDemandsModel", name := "fitsAhead", desc := "(III)Z" } : Jvm.MethodName)) ∈ lw_tbl := lw_at lw_m10 59 rfl
theorem q2310 : (Jvm.Cond.instanceMethod ({ cls := "NineDemandsModel", name := "fitsAhead", desc := "(III)Z" } : Jvm.MethodName)) ∈ lw_all := lw_g (lw_at lw_m10 60 rfl) rfl
theorem q2311 : (Jvm.Cond.code ({ cls := "NineDemandsModel", name := "fitsAhead", desc := "(III)Z" } : Jvm.MethodName) prog_33_method_56_code (6 : Nat) (Option.some Jvm.ClassFile.FieldType.boolean)) ∈ lw_all := lw_g (lw_at lw_m10 61 rfl) rfl
theorem q2313 : (Jvm.Cond.instanceMethod ({ cls := "NineDemandsModel", name := "write", desc := "(I)I" } : Jvm.MethodName)) ∈ lw_all := lw_g (lw_at lw_m10 63 rfl) rfl
theorem q2314 : (Jvm.Cond.selects "NineDemandsModel" ({ cls := "NineDemandsModel", name := "write", desc := "(I)I" } : Jvm.MethodName) ({ cls := "NineDemandsModel", name := "write", desc := "(I)I" } : Jvm.MethodName)) ∈ lw_all := lw_g (lw_at lw_m10 64 rfl) rfl
theorem q2315 : (Jvm.Cond.code ({ cls := "NineDemandsModel", name := "write", desc := "(I)I" } : Jvm.MethodName) prog_33_method_60_code (4 : Nat) (Option.some Jvm.ClassFile.FieldType.int)) ∈ lw_all := lw_g (lw_at lw_m10 65 rfl) rfl
theorem q2317 : (Jvm.Cond.instanceMethod ({ cls := "NineDemandsModel", name := "rules", desc := "(I)J" } : Jvm.MethodName)) ∈ lw_all := lw_g (lw_at lw_m10 67 rfl) rfl
theorem q2318 : (Jvm.Cond.selects "NineDemandsModel" ({ cls := "NineDemandsModel", name := "rules", desc := "(I)J" } : Jvm.MethodName) ({ cls := "NineDemandsModel", name := "rules", desc := "(I)J" } : Jvm.MethodName)) ∈ lw_all := lw_g (lw_at lw_m10 68 rfl) rfl
theorem q2319 : (Jvm.Cond.code ({ cls := "NineDemandsModel", name := "rules", desc := "(I)J" } : Jvm.MethodName) prog_33_method_63_code (3 : Nat) (Option.some Jvm.ClassFile.FieldType.long)) ∈ lw_all := lw_g (lw_at lw_m10 69 rfl) rfl
theorem q2320 : (Jvm.Cond.methodLink "NineDemandsModel" (258 : Nat) ({ cls := "NineDemandsModel", name := "countFrom", desc := "(I)J" } : Jvm.MethodName)) ∈ lw_all := lw_g (lw_at lw_m10 70 rfl) rfl
theorem q2321 : (Jvm.Cond.privateMethod ({ cls := "NineDemandsModel", name := "countFrom", desc := "(I)J" } : Jvm.MethodName)) ∈ lw_tbl := lw_at lw_m10 71 rfl
theorem q2322 : (Jvm.Cond.instanceMethod ({ cls := "NineDemandsModel", name := "countFrom", desc := "(I)J" } : Jvm.MethodName)) ∈ lw_all := lw_g (lw_at lw_m10 72 rfl) rfl
theorem q2323 : (Jvm.Cond.code ({ cls := "NineDemandsModel", name := "countFrom", desc := "(I)J" } : Jvm.MethodName) prog_33_method_62_code (7 : Nat) (Option.some Jvm.ClassFile.FieldType.long)) ∈ lw_all := lw_g (lw_at lw_m10 73 rfl) rfl
theorem q2324 : (Jvm.Cond.methodLink "NineDemandsModel" (255 : Nat) ({ cls := "NineDemandsModel", name := "waysBy", desc := "(I)I" } : Jvm.MethodName)) ∈ lw_all := lw_g (lw_at lw_m10 74 rfl) rfl
theorem q2325 : (Jvm.Cond.privateMethod ({ cls := "NineDemandsModel", name := "waysBy", desc := "(I)I" } : Jvm.MethodName)) ∈ lw_tbl := lw_at lw_m10 75 rfl
theorem q2326 : (Jvm.Cond.instanceMethod ({ cls := "NineDemandsModel", name := "waysBy", desc := "(I)I" } : Jvm.MethodName)) ∈ lw_all := lw_g (lw_at lw_m10 76 rfl) rfl
theorem q2327 : (Jvm.Cond.code ({ cls := "NineDemandsModel", name := "waysBy", desc := "(I)I" } : Jvm.MethodName) prog_33_method_61_code (7 : Nat) (Option.some Jvm.ClassFile.FieldType.int)) ∈ lw_all := lw_g (lw_at lw_m10 77 rfl) rfl
theorem q2329 : (Jvm.Cond.instanceMethod ({ cls := "NineDemandsModel", name := "may", desc := "(II)I" } : Jvm.MethodName)) ∈ lw_all := lw_g (lw_at lw_m10 79 rfl) rfl
theorem q2330 : (Jvm.Cond.selects "NineDemandsModel" ({ cls := "NineDemandsModel", name := "may", desc := "(II)I" } : Jvm.MethodName) ({ cls := "NineDemandsModel", name := "may", desc := "(II)I" } : Jvm.MethodName)) ∈ lw_all := lw_g (lw_at lw_m10 80 rfl) rfl
theorem q2331 : (Jvm.Cond.code ({ cls := "NineDemandsModel", name := "may", desc := "(II)I" } : Jvm.MethodName) prog_33_method_64_code (6 : Nat) (Option.some Jvm.ClassFile.FieldType.int)) ∈ lw_all := lw_g (lw_at lw_m10 81 rfl) rfl
theorem q2333 : (Jvm.Cond.instanceMethod ({ cls := "NineDemandsModel", name := "near", desc := "(I)I" } : Jvm.MethodName)) ∈ lw_all := lw_g (lw_at lw_m10 83 rfl) rfl
theorem q2334 : (Jvm.Cond.selects "NineDemandsModel" ({ cls := "NineDemandsModel", name := "near", desc := "(I)I" } : Jvm.MethodName) ({ cls := "NineDemandsModel", name := "near", desc := "(I)I" } : Jvm.MethodName)) ∈ lw_all := lw_g (lw_at lw_m10 84 rfl) rfl
theorem q2335 : (Jvm.Cond.code ({ cls := "NineDemandsModel", name := "near", desc := "(I)I" } : Jvm.MethodName) prog_33_method_66_code (3 : Nat) (Option.some Jvm.ClassFile.FieldType.int)) ∈ lw_all := lw_g (lw_at lw_m10 85 rfl) rfl
theorem q2336 : (Jvm.Cond.methodLink "NineDemandsModel" (262 : Nat) ({ cls := "NineDemandsModel", name := "seekNear", desc := "(II)Z" } : Jvm.MethodName)) ∈ lw_all := lw_g (lw_at lw_m10 86 rfl) rfl
theorem q2337 : (Jvm.Cond.privateMethod ({ cls := "NineDemandsModel", name := "seekNear", desc := "(II)Z" } : Jvm.MethodName)) ∈ lw_tbl := lw_at lw_m10 87 rfl
theorem q2338 : (Jvm.Cond.instanceMethod ({ cls := "NineDemandsModel", name := "seekNear", desc := "(II)Z" } : Jvm.MethodName)) ∈ lw_all := lw_g (lw_at lw_m10 88 rfl) rfl
theorem q2339 : (Jvm.Cond.code ({ cls := "NineDemandsModel", name := "seekNear", desc := "(II)Z" } : Jvm.MethodName) prog_33_method_65_code (5 : Nat) (Option.some Jvm.ClassFile.FieldType.boolean)) ∈ lw_all := lw_g (lw_at lw_m10 89 rfl) rfl
theorem q2341 : (Jvm.Cond.instanceMethod ({ cls := "NineDemandsModel", name := "word", desc := "(I)I" } : Jvm.MethodName)) ∈ lw_all := lw_g (lw_at lw_m10 91 rfl) rfl
theorem q2342 : (Jvm.Cond.selects "NineDemandsModel" ({ cls := "NineDemandsModel", name := "word", desc := "(I)I" } : Jvm.MethodName) ({ cls := "NineDemandsModel", name := "word", desc := "(I)I" } : Jvm.MethodName)) ∈ lw_all := lw_g (lw_at lw_m10 92 rfl) rfl
theorem q2343 : (Jvm.Cond.code ({ cls := "NineDemandsModel", name := "word", desc := "(I)I" } : Jvm.MethodName) prog_33_method_67_code (5 : Nat) (Option.some Jvm.ClassFile.FieldType.int)) ∈ lw_all := lw_g (lw_at lw_m10 93 rfl) rfl
theorem q2345 : (Jvm.Cond.instanceMethod ({ cls := "NineDemandsModel", name := "show", desc := "(II)I" } : Jvm.MethodName)) ∈ lw_all := lw_g (lw_at lw_m10 95 rfl) rfl
theorem q2346 : (Jvm.Cond.selects "NineDemandsModel" ({ cls := "NineDemandsModel", name := "show", desc := "(II)I" } : Jvm.MethodName) ({ cls := "NineDemandsModel", name := "show", desc := "(II)I" } : Jvm.MethodName)) ∈ lw_all := lw_g (lw_at lw_m10 96 rfl) rfl
theorem q2347 : (Jvm.Cond.code ({ cls := "NineDemandsModel", name := "show", desc := "(II)I" } : Jvm.MethodName) prog_33_method_73_code (3 : Nat) (Option.some Jvm.ClassFile.FieldType.int)) ∈ lw_all := lw_g (lw_at lw_m10 97 rfl) rfl
theorem q2348 : (Jvm.Cond.methodLink "NineDemandsModel" (282 : Nat) ({ cls := "NineDemandsModel", name := "showing", desc := "(I)V" } : Jvm.MethodName)) ∈ lw_all := lw_g (lw_at lw_m10 98 rfl) rfl
theorem q2349 : (Jvm.Cond.privateMethod ({ cls := "NineDemandsModel", name := "showing", desc := "(I)V" } : Jvm.MethodName)) ∈ lw_tbl := lw_at lw_m10 99 rfl
theorem q2350 : (Jvm.Cond.instanceMethod ({ cls := "NineDemandsModel", name := "showing", desc := "(I)V" } : Jvm.MethodName)) ∈ lw_all := lw_g (lw_at lw_m10 100 rfl) rfl
theorem q2351 : (Jvm.Cond.code ({ cls := "NineDemandsModel", name := "showing", desc := "(I)V" } : Jvm.MethodName) prog_33_method_72_code (5 : Nat) (Option.none : Option Jvm.ClassFile.FieldType)) ∈ lw_all := lw_g (lw_at lw_m10 101 rfl) rfl
theorem q2352 : (Jvm.Cond.methodLink "NineDemandsModel" (275 : Nat) ({ cls := "NineDemandsModel", name := "begin", desc := "()V" } : Jvm.MethodName)) ∈ lw_all := lw_g (lw_at lw_m10 102 rfl) rfl
theorem q2353 : (Jvm.Cond.privateMethod ({ cls := "NineDemandsModel", name := "begin", desc := "()V" } : Jvm.MethodName)) ∈ lw_tbl := lw_at lw_m10 103 rfl
theorem q2354 : (Jvm.Cond.instanceMethod ({ cls := "NineDemandsModel", name := "begin", desc := "()V" } : Jvm.MethodName)) ∈ lw_all := lw_g (lw_at lw_m10 104 rfl) rfl
theorem q2355 : (Jvm.Cond.code ({ cls := "NineDemandsModel", name := "begin", desc := "()V" } : Jvm.MethodName) prog_33_method_70_code (2 : Nat) (Option.none : Option Jvm.ClassFile.FieldType)) ∈ lw_all := lw_g (lw_at lw_m10 105 rfl) rfl
theorem q2356 : (Jvm.Cond.methodLink "NineDemandsModel" (268 : Nat) ({ cls := "NineDemandsModel", name := "isEmpty", desc := "()Z" } : Jvm.MethodName)) ∈ lw_all := lw_g (lw_at lw_m10 106 rfl) rfl
theorem q2357 : (Jvm.Cond.privateMethod ({ cls := "NineDemandsModel", name := "isEmpty", desc := "()Z" } : Jvm.MethodName)) ∈ lw_tbl := lw_at lw_m10 107 rfl
theorem q2358 : (Jvm.Cond.instanceMethod ({ cls := "NineDemandsModel", name := "isEmpty", desc := "()Z" } : Jvm.MethodName)) ∈ lw_all := lw_g (lw_at lw_m10 108 rfl) rfl
theorem q2359 : (Jvm.Cond.code ({ cls := "NineDemandsModel", name := "isEmpty", desc := "()Z" } : Jvm.MethodName) prog_33_method_69_code (3 : Nat) (Option.some Jvm.ClassFile.FieldType.boolean)) ∈ lw_all := lw_g (lw_at lw_m10 109 rfl) rfl
theorem q2360 : (Jvm.Cond.methodLink "NineDemandsModel" (278 : Nat) ({ cls := "NineDemandsModel", name := "strike", desc := "(IIZ)V" } : Jvm.MethodName)) ∈ lw_all := lw_g (lw_at lw_m10 110 rfl) rfl
theorem q2361 : (Jvm.Cond.privateMethod ({ cls := "NineDemandsModel", name := "strike", desc := "(IIZ)V" } : Jvm.MethodName)) ∈ lw_tbl := lw_at lw_m10 111 rfl
theorem q2362 : (Jvm.Cond.instanceMethod ({ cls := "NineDemandsModel", name := "strike", desc := "(IIZ)V" } : Jvm.MethodName)) ∈ lw_all := lw_g (lw_at lw_m10 112 rfl) rfl
theorem q2363 : (Jvm.Cond.code ({ cls := "NineDemandsModel", name := "strike", desc := "(IIZ)V" } : Jvm.MethodName) prog_33_method_71_code (6 : Nat) (Option.none : Option Jvm.ClassFile.FieldType)) ∈ lw_all := lw_g (lw_at lw_m10 113 rfl) rfl
theorem q2364 : (Jvm.Cond.methodLink "NineDemandsModel" (271 : Nat) ({ cls := "NineDemandsModel", name := "goesOn", desc := "(IIZI)Z" } : Jvm.MethodName)) ∈ lw_all := lw_g (lw_at lw_m10 114 rfl) rfl
theorem q2365 : (Jvm.Cond.privateMethod ({ cls := "NineDemandsModel", name := "goesOn", desc := "(IIZI)Z" } : Jvm.MethodName)) ∈ lw_tbl := lw_at lw_m10 115 rfl
theorem q2366 : (Jvm.Cond.instanceMethod ({ cls := "NineDemandsModel", name := "goesOn", desc := "(IIZI)Z" } : Jvm.MethodName)) ∈ lw_all := lw_g (lw_at lw_m10 116 rfl) rfl
theorem q2367 : (Jvm.Cond.code ({ cls := "NineDemandsModel", name := "goesOn", desc := "(IIZI)Z" } : Jvm.MethodName) prog_33_method_68_code (8 : Nat) (Option.some Jvm.ClassFile.FieldType.boolean)) ∈ lw_all := lw_g (lw_at lw_m10 117 rfl) rfl
theorem q2369 : (Jvm.Cond.instanceMethod ({ cls := "NineDemandsModel", name := "check", desc := "(II)I" } : Jvm.MethodName)) ∈ lw_all := lw_g (lw_at lw_m10 119 rfl) rfl
theorem q2370 : (Jvm.Cond.selects "NineDemandsModel" ({ cls := "NineDemandsModel", name := "check", desc := "(II)I" } : Jvm.MethodName) ({ cls := "NineDemandsModel", name := "check", desc := "(II)I" } : Jvm.MethodName)) ∈ lw_all := lw_g (lw_at lw_m10 120 rfl) rfl
theorem q2371 : (Jvm.Cond.code ({ cls := "NineDemandsModel", name := "check", desc := "(II)I" } : Jvm.MethodName) prog_33_method_75_code (5 : Nat) (Option.some Jvm.ClassFile.FieldType.int)) ∈ lw_all := lw_g (lw_at lw_m10 121 rfl) rfl
theorem q2372 : (Jvm.Cond.methodLink "NineDemandsModel" (285 : Nat) ({ cls := "NineDemandsModel", name := "followsNow", desc := "(II)Z" } : Jvm.MethodName)) ∈ lw_all := lw_g (lw_at lw_m10 122 rfl) rfl
theorem q2373 : (Jvm.Cond.privateMethod ({ cls := "NineDemandsModel", name := "followsNow", desc := "(II)Z" } : Jvm.MethodName)) ∈ lw_tbl := lw_at lw_m10 123 rfl
theorem q2374 : (Jvm.Cond.instanceMethod ({ cls := "NineDemandsModel", name := "followsNow", desc := "(II)Z" } : Jvm.MethodName)) ∈ lw_all := lw_g (lw_at lw_m10 124 rfl) rfl
theorem q2375 : (Jvm.Cond.code ({ cls := "NineDemandsModel", name := "followsNow", desc := "(II)Z" } : Jvm.MethodName) prog_33_method_74_code (8 : Nat) (Option.some Jvm.ClassFile.FieldType.boolean)) ∈ lw_all := lw_g (lw_at lw_m10 125 rfl) rfl
theorem q2377 : (Jvm.Cond.instanceMethod ({ cls := "NineDemandsModel", name := "small", desc := "(I)I" } : Jvm.MethodName)) ∈ lw_all := lw_g (lw_at lw_m10 127 rfl) rfl
theorem q2378 : (Jvm.Cond.selects "NineDemandsModel" ({ cls := "NineDemandsModel", name := "small", desc := "(I)I" } : Jvm.MethodName) ({ cls := "NineDemandsModel", name := "small", desc := "(I)I" } : Jvm.MethodName)) ∈ lw_all := lw_g (lw_at lw_m10 128 rfl) rfl
theorem q2379 : (Jvm.Cond.code ({ cls := "NineDemandsModel", name := "small", desc := "(I)I" } : Jvm.MethodName) prog_33_method_77_code (4 : Nat) (Option.some Jvm.ClassFile.FieldType.int)) ∈ lw_all := lw_g (lw_at lw_m10 129 rfl) rfl
theorem q2380 : (Jvm.Cond.constant "NineDemandsModel" (288 : Nat) (-1000003 : Int32)) ∈ lw_all := lw_g (lw_at lw_m10 130 rfl) rfl
theorem q2381 : (Jvm.Cond.methodLink "NineDemandsModel" (289 : Nat) ({ cls := "NineDemandsModel", name := "bits", desc := "(I)I" } : Jvm.MethodName)) ∈ lw_all := lw_g (lw_at lw_m10 131 rfl) rfl
theorem q2382 : (Jvm.Cond.static ({ cls := "NineDemandsModel", name := "bits", desc := "(I)I" } : Jvm.MethodName)) ∈ lw_all := lw_g (lw_at lw_m10 132 rfl) rfl
theorem q2383 : (Jvm.Cond.code ({ cls := "NineDemandsModel", name := "bits", desc := "(I)I" } : Jvm.MethodName) prog_33_method_76_code (3 : Nat) (Option.some Jvm.ClassFile.FieldType.int)) ∈ lw_all := lw_g (lw_at lw_m10 133 rfl) rfl
theorem q2385 : (Jvm.Cond.instanceMethod ({ cls := "NineDemandsModel", name := "few", desc := "(I)I" } : Jvm.MethodName)) ∈ lw_all := lw_g (lw_at lw_m10 135 rfl) rfl
theorem q2386 : (Jvm.Cond.selects "NineDemandsModel" ({ cls := "NineDemandsModel", name := "few", desc := "(I)I" } : Jvm.MethodName) ({ cls := "NineDemandsModel", name := "few", desc := "(I)I" } : Jvm.MethodName)) ∈ lw_all := lw_g (lw_at lw_m10 136 rfl) rfl
theorem q2387 : (Jvm.Cond.code ({ cls := "NineDemandsModel", name := "few", desc := "(I)I" } : Jvm.MethodName) prog_33_method_78_code (4 : Nat) (Option.some Jvm.ClassFile.FieldType.int)) ∈ lw_all := lw_g (lw_at lw_m10 137 rfl) rfl
theorem q2389 : (Jvm.Cond.instanceMethod ({ cls := "NineDemandsModel", name := "give", desc := "(II)I" } : Jvm.MethodName)) ∈ lw_all := lw_g (lw_at lw_m10 139 rfl) rfl
theorem q2390 : (Jvm.Cond.selects "NineDemandsModel" ({ cls := "NineDemandsModel", name := "give", desc := "(II)I" } : Jvm.MethodName) ({ cls := "NineDemandsModel", name := "give", desc := "(II)I" } : Jvm.MethodName)) ∈ lw_all := lw_g (lw_at lw_m10 140 rfl) rfl
theorem q2391 : (Jvm.Cond.code ({ cls := "NineDemandsModel", name := "give", desc := "(II)I" } : Jvm.MethodName) prog_33_method_80_code (7 : Nat) (Option.some Jvm.ClassFile.FieldType.int)) ∈ lw_all := lw_g (lw_at lw_m10 141 rfl) rfl
theorem q2392 : (Jvm.Cond.methodLink "NineDemandsModel" (292 : Nat) ({ cls := "NineDemandsModel", name := "priceOf", desc := "(I)I" } : Jvm.MethodName)) ∈ lw_all := lw_g (lw_at lw_m10 142 rfl) rfl
theorem q2393 : (Jvm.Cond.privateMethod ({ cls := "NineDemandsModel", name := "priceOf", desc := "(I)I" } : Jvm.MethodName)) ∈ lw_tbl := lw_at lw_m10 143 rfl
theorem q2394 : (Jvm.Cond.instanceMethod ({ cls := "NineDemandsModel", name := "priceOf", desc := "(I)I" } : Jvm.MethodName)) ∈ lw_all := lw_g (lw_at lw_m10 144 rfl) rfl
theorem q2395 : (Jvm.Cond.code ({ cls := "NineDemandsModel", name := "priceOf", desc := "(I)I" } : Jvm.MethodName) prog_33_method_79_code (4 : Nat) (Option.some Jvm.ClassFile.FieldType.int)) ∈ lw_all := lw_g (lw_at lw_m10 145 rfl) rfl
theorem q2397 : (Jvm.Cond.instanceMethod ({ cls := "NineDemandsModel", name := "follows", desc := "(II)I" } : Jvm.MethodName)) ∈ lw_all := lw_g (lw_at lw_m10 147 rfl) rfl
theorem q2398 : (Jvm.Cond.selects "NineDemandsModel" ({ cls := "NineDemandsModel", name := "follows", desc := "(II)I" } : Jvm.MethodName) ({ cls := "NineDemandsModel", name := "follows", desc := "(II)I" } : Jvm.MethodName)) ∈ lw_all := lw_g (lw_at lw_m10 148 rfl) rfl
theorem q2399 : (Jvm.Cond.code ({ cls := "NineDemandsModel", name := "follows", desc := "(II)I" } : Jvm.MethodName) prog_33_method_82_code (3 : Nat) (Option.some Jvm.ClassFile.FieldType.int)) ∈ lw_all := lw_g (lw_at lw_m10 149 rfl) rfl
theorem q2400 : (Jvm.Cond.methodLink "NineDemandsModel" (298 : Nat) ({ cls := "NineDemandsModel", name := "isFollowing", desc := "(II)Z" } : Jvm.MethodName)) ∈ lw_all := lw_g (lw_at lw_m10 150 rfl) rfl
theorem q2401 : (Jvm.Cond.privateMethod ({ cls := "NineDemandsModel", name := "isFollowing", desc := "(II)Z" } : Jvm.MethodName)) ∈ lw_tbl := lw_at lw_m10 151 rfl
theorem q2402 : (Jvm.Cond.instanceMethod ({ cls := "NineDemandsModel", name := "isFollowing", desc := "(II)Z" } : Jvm.MethodName)) ∈ lw_all := lw_g (lw_at lw_m10 152 rfl) rfl
theorem q2403 : (Jvm.Cond.code ({ cls := "NineDemandsModel", name := "isFollowing", desc := "(II)Z" } : Jvm.MethodName) prog_33_method_81_code (10 : Nat) (Option.some Jvm.ClassFile.FieldType.boolean)) ∈ lw_all := lw_g (lw_at lw_m10 153 rfl) rfl
theorem q2404 : (Jvm.Cond.methodLink "NineDemandsModel" (295 : Nat) ({ cls := "java/lang/Math", name := "max", desc := "(II)I" } : Jvm.MethodName)) ∈ lw_all := lw_g (lw_at lw_m10 154 rfl) rfl
theorem q2406 : (Jvm.Cond.instanceMethod ({ cls := "NineDemandsModel", name := "spare", desc := "(I)I" } : Jvm.MethodName)) ∈ lw_all := lw_g (lw_at lw_m10 156 rfl) rfl
theorem q2407 : (Jvm.Cond.selects "NineDemandsModel" ({ cls := "NineDemandsModel", name := "spare", desc := "(I)I" } : Jvm.MethodName) ({ cls := "NineDemandsModel", name := "spare", desc := "(I)I" } : Jvm.MethodName)) ∈ lw_all := lw_g (lw_at lw_m10 157 rfl) rfl
theorem q2408 : (Jvm.Cond.code ({ cls := "NineDemandsModel", name := "spare", desc := "(I)I" } : Jvm.MethodName) prog_33_method_83_code (4 : Nat) (Option.some Jvm.ClassFile.FieldType.int)) ∈ lw_all := lw_g (lw_at lw_m10 158 rfl) rfl
theorem q2410 : (Jvm.Cond.instanceMethod ({ cls := "NineDemandsModel", name := "same", desc := "(II)I" } : Jvm.MethodName)) ∈ lw_all := lw_g (lw_at lw_m10 160 rfl) rfl
theorem q2411 : (Jvm.Cond.selects "NineDemandsModel" ({ cls := "NineDemandsModel", name := "same", desc := "(II)I" } : Jvm.MethodName) ({ cls := "NineDemandsModel", name := "same", desc := "(II)I" } : Jvm.MethodName)) ∈ lw_all := lw_g (lw_at lw_m10 161 rfl) rfl
theorem q2412 : (Jvm.Cond.code ({ cls := "NineDemandsModel", name := "same", desc := "(II)I" } : Jvm.MethodName) prog_33_method_85_code (3 : Nat) (Option.some Jvm.ClassFile.FieldType.int)) ∈ lw_all := lw_g (lw_at lw_m10 162 rfl) rfl
theorem q2413 : (Jvm.Cond.methodLink "NineDemandsModel" (301 : Nat) ({ cls := "NineDemandsModel", name := "allFollow", desc := "(II)Z" } : Jvm.MethodName)) ∈ lw_all := lw_g (lw_at lw_m10 163 rfl) rfl
theorem q2414 : (Jvm.Cond.privateMethod ({ cls := "NineDemandsModel", name := "allFollow", desc := "(II)Z" } : Jvm.MethodName)) ∈ lw_tbl := lw_at lw_m10 164 rfl
theorem q2415 : (Jvm.Cond.instanceMethod ({ cls := "NineDemandsModel", name := "allFollow", desc := "(II)Z" } : Jvm.MethodName)) ∈ lw_all := lw_g (lw_at lw_m10 165 rfl) rfl
theorem q2416 : (Jvm.Cond.code ({ cls := "NineDemandsModel", name := "allFollow", desc := "(II)Z" } : Jvm.MethodName) prog_33_method_84_code (5 : Nat) (Option.some Jvm.ClassFile.FieldType.boolean)) ∈ lw_all := lw_g (lw_at lw_m10 166 rfl) rfl
theorem q2418 : (Jvm.Cond.instanceMethod ({ cls := "NineDemandsModel", name := "voice", desc := "(III)I" } : Jvm.MethodName)) ∈ lw_all := lw_g (lw_at lw_m10 168 rfl) rfl
theorem q2419 : (Jvm.Cond.selects "NineDemandsModel" ({ cls := "NineDemandsModel", name := "voice", desc := "(III)I" } : Jvm.MethodName) ({ cls := "NineDemandsModel", name := "voice", desc := "(III)I" } : Jvm.MethodName)) ∈ lw_all := lw_g (lw_at lw_m10 169 rfl) rfl
theorem q2420 : (Jvm.Cond.code ({ cls := "NineDemandsModel", name := "voice", desc := "(III)I" } : Jvm.MethodName) prog_33_method_91_code (4 : Nat) (Option.some Jvm.ClassFile.FieldType.int)) ∈ lw_all := lw_g (lw_at lw_m10 170 rfl) rfl
theorem q2421 : (Jvm.Cond.methodLink "NineDemandsModel" (322 : Nat) ({ cls := "NineDemandsModel", name := "voiced", desc := "(II)I" } : Jvm.MethodName)) ∈ lw_all := lw_g (lw_at lw_m10 171 rfl) rfl
theorem q2422 : (Jvm.Cond.privateMethod ({ cls := "NineDemandsModel", name := "voiced", desc := "(II)I" } : Jvm.MethodName)) ∈ lw_tbl := lw_at lw_m10 172 rfl
theorem q2423 : (Jvm.Cond.instanceMethod ({ cls := "NineDemandsModel", name := "voiced", desc := "(II)I" } : Jvm.MethodName)) ∈ lw_all := lw_g (lw_at lw_m10 173 rfl) rfl
theorem q2424 : (Jvm.Cond.code ({ cls := "NineDemandsModel", name := "voiced", desc := "(II)I" } : Jvm.MethodName) prog_33_method_88_code (3 : Nat) (Option.some Jvm.ClassFile.FieldType.int)) ∈ lw_all := lw_g (lw_at lw_m10 174 rfl) rfl
theorem q2425 : (Jvm.Cond.methodLink "NineDemandsModel" (310 : Nat) ({ cls := "NineDemandsModel", name := "bodyFrom", desc := "(III)I" } : Jvm.MethodName)) ∈ lw_all := lw_g (lw_at lw_m10 175 rfl) rfl
theorem q2426 : (Jvm.Cond.privateMethod ({ cls := "NineDemandsModel", name := "bodyFrom", desc := "(III)I" } : Jvm.MethodName)) ∈ lw_tbl := lw_at lw_m10 176 rfl
theorem q2427 : (Jvm.Cond.instanceMethod ({ cls := "NineDemandsModel", name := "bodyFrom", desc := "(III)I" } : Jvm.MethodName)) ∈ lw_all := lw_g (lw_at lw_m10 177 rfl) rfl
theorem q2428 : (Jvm.Cond.code ({ cls := "NineDemandsModel", name := "bodyFrom", desc := "(III)I" } : Jvm.MethodName) prog_33_method_89_code (5 : Nat) (Option.some Jvm.ClassFile.FieldType.int)) ∈ lw_all := lw_g (lw_at lw_m10 178 rfl) rfl
theorem q2429 : (Jvm.Cond.methodLink "NineDemandsModel" (313 : Nat) ({ cls := "NineDemandsModel", name := "hasOwn", desc := "(II)Z" } : Jvm.MethodName)) ∈ lw_all := lw_g (lw_at lw_m10 179 rfl) rfl
theorem q2430 : (Jvm.Cond.static ({ cls := "NineDemandsModel", name := "hasOwn", desc := "(II)Z" } : Jvm.MethodName)) ∈ lw_all := lw_g (lw_at lw_m10 180 rfl) rfl
theorem q2431 : (Jvm.Cond.code ({ cls := "NineDemandsModel", name := "hasOwn", desc := "(II)Z" } : Jvm.MethodName) prog_33_method_87_code (2 : Nat) (Option.some Jvm.ClassFile.FieldType.boolean)) ∈ lw_all := lw_g (lw_at lw_m10 181 rfl) rfl
theorem q2432 : (Jvm.Cond.methodLink "NineDemandsModel" (316 : Nat) ({ cls := "NineDemandsModel", name := "body", desc := "(III)I" } : Jvm.MethodName)) ∈ lw_all := lw_g (lw_at lw_m10 182 rfl) rfl
theorem q2433 : (Jvm.Cond.privateMethod ({ cls := "NineDemandsModel", name := "body", desc := "(III)I" } : Jvm.MethodName)) ∈ lw_tbl := lw_at lw_m10 183 rfl
theorem q2434 : (Jvm.Cond.instanceMethod ({ cls := "NineDemandsModel", name := "body", desc := "(III)I" } : Jvm.MethodName)) ∈ lw_all := lw_g (lw_at lw_m10 184 rfl) rfl
theorem q2435 : (Jvm.Cond.code ({ cls := "NineDemandsModel", name := "body", desc := "(III)I" } : Jvm.MethodName) prog_33_method_90_code (6 : Nat) (Option.some Jvm.ClassFile.FieldType.int)) ∈ lw_all := lw_g (lw_at lw_m10 185 rfl) rfl
theorem q2436 : (Jvm.Cond.methodLink "NineDemandsModel" (319 : Nat) ({ cls := "NineDemandsModel", name := "began", desc := "(I)V" } : Jvm.MethodName)) ∈ lw_all := lw_g (lw_at lw_m10 186 rfl) rfl
theorem q2437 : (Jvm.Cond.privateMethod ({ cls := "NineDemandsModel", name := "began", desc := "(I)V" } : Jvm.MethodName)) ∈ lw_tbl := lw_at lw_m10 187 rfl
theorem q2438 : (Jvm.Cond.instanceMethod ({ cls := "NineDemandsModel", name := "began", desc := "(I)V" } : Jvm.MethodName)) ∈ lw_all := lw_g (lw_at lw_m10 188 rfl) rfl
theorem q2439 : (Jvm.Cond.code ({ cls := "NineDemandsModel", name := "began", desc := "(I)V" } : Jvm.MethodName) prog_33_method_86_code (2 : Nat) (Option.none : Option Jvm.ClassFile.FieldType)) ∈ lw_all := lw_g (lw_at lw_m10 189 rfl) rfl
theorem q2441 : (Jvm.Cond.instanceMethod ({ cls := "NineDemandsModel", name := "trace", desc := "(I)I" } : Jvm.MethodName)) ∈ lw_all := lw_g (lw_at lw_m10 191 rfl) rfl
theorem q2442 : (Jvm.Cond.selects "NineDemandsModel" ({ cls := "NineDemandsModel", name := "trace", desc := "(I)I" } : Jvm.MethodName) ({ cls := "NineDemandsModel", name := "trace", desc := "(I)I" } : Jvm.MethodName)) ∈ lw_all := lw_g (lw_at lw_m10 192 rfl) rfl
theorem q2443 : (Jvm.Cond.code ({ cls := "NineDemandsModel", name := "trace", desc := "(I)I" } : Jvm.MethodName) prog_33_method_92_code (2 : Nat) (Option.some Jvm.ClassFile.FieldType.int)) ∈ lw_all := lw_g (lw_at lw_m10 193 rfl) rfl
theorem q2445 : (Jvm.Cond.instanceMethod ({ cls := "NineDemandsModel", name := "sheet", desc := "(III)I" } : Jvm.MethodName)) ∈ lw_all := lw_g (lw_at lw_m10 195 rfl) rfl
theorem q2446 : (Jvm.Cond.selects "NineDemandsModel" ({ cls := "NineDemandsModel", name := "sheet", desc := "(III)I" } : Jvm.MethodName) ({ cls := "NineDemandsModel", name := "sheet", desc := "(III)I" } : Jvm.MethodName)) ∈ lw_all := lw_g (lw_at lw_m10 196 rfl) rfl
theorem q2447 : (Jvm.Cond.code ({ cls := "NineDemandsModel", name := "sheet", desc := "(III)I" } : Jvm.MethodName) prog_33_method_94_code (5 : Nat) (Option.some Jvm.ClassFile.FieldType.int)) ∈ lw_all := lw_g (lw_at lw_m10 197 rfl) rfl
theorem q2449 : (Jvm.Cond.instanceMethod ({ cls := "NineDemandsModel", name := "put", desc := "(III)I" } : Jvm.MethodName)) ∈ lw_all := lw_g (lw_at lw_m10 199 rfl) rfl
theorem q2450 : (Jvm.Cond.selects "NineDemandsModel" ({ cls := "NineDemandsModel", name := "put", desc := "(III)I" } : Jvm.MethodName) ({ cls := "NineDemandsModel", name := "put", desc := "(III)I" } : Jvm.MethodName)) ∈ lw_all := lw_g (lw_at lw_m10 200 rfl) rfl
theorem q2451 : (Jvm.Cond.code ({ cls := "NineDemandsModel", name := "put", desc := "(III)I" } : Jvm.MethodName) prog_33_method_95_code (4 : Nat) (Option.some Jvm.ClassFile.FieldType.int)) ∈ lw_all := lw_g (lw_at lw_m10 201 rfl) rfl
theorem q2453 : (Jvm.Cond.instanceMethod ({ cls := "NineDemandsModel", name := "move", desc := "(IIIII)I" } : Jvm.MethodName)) ∈ lw_all := lw_g (lw_at lw_m10 203 rfl) rfl
theorem q2454 : (Jvm.Cond.selects "NineDemandsModel" ({ cls := "NineDemandsModel", name := "move", desc := "(IIIII)I" } : Jvm.MethodName) ({ cls := "NineDemandsModel", name := "move", desc := "(IIIII)I" } : Jvm.MethodName)) ∈ lw_all := lw_g (lw_at lw_m10 204 rfl) rfl
theorem q2455 : (Jvm.Cond.code ({ cls := "NineDemandsModel", name := "move", desc := "(IIIII)I" } : Jvm.MethodName) prog_33_method_96_code (7 : Nat) (Option.some Jvm.ClassFile.FieldType.int)) ∈ lw_all := lw_g (lw_at lw_m10 205 rfl) rfl
theorem q2457 : (Jvm.Cond.instanceMethod ({ cls := "NineDemandsModel", name := "image", desc := "()I" } : Jvm.MethodName)) ∈ lw_all := lw_g (lw_at lw_m10 207 rfl) rfl
theorem q2458 : (Jvm.Cond.selects "NineDemandsModel" ({ cls := "NineDemandsModel", name := "image", desc := "()I" } : Jvm.MethodName) ({ cls := "NineDemandsModel", name := "image", desc := "()I" } : Jvm.MethodName)) ∈ lw_all := lw_g (lw_at lw_m10 208 rfl) rfl
theorem q2459 : (Jvm.Cond.code ({ cls := "NineDemandsModel", name := "image", desc := "()I" } : Jvm.MethodName) prog_33_method_97_code (2 : Nat) (Option.some Jvm.ClassFile.FieldType.int)) ∈ lw_all := lw_g (lw_at lw_m10 209 rfl) rfl
theorem q2461 : (Jvm.Cond.instanceMethod ({ cls := "NineDemandsModel", name := "restore", desc := "()I" } : Jvm.MethodName)) ∈ lw_all := lw_g (lw_at lw_m10 211 rfl) rfl
theorem q2462 : (Jvm.Cond.selects "NineDemandsModel" ({ cls := "NineDemandsModel", name := "restore", desc := "()I" } : Jvm.MethodName) ({ cls := "NineDemandsModel", name := "restore", desc := "()I" } : Jvm.MethodName)) ∈ lw_all := lw_g (lw_at lw_m10 212 rfl) rfl
theorem q2463 : (Jvm.Cond.code ({ cls := "NineDemandsModel", name := "restore", desc := "()I" } : Jvm.MethodName) prog_33_method_98_code (2 : Nat) (Option.some Jvm.ClassFile.FieldType.int)) ∈ lw_all := lw_g (lw_at lw_m10 213 rfl) rfl
theorem q2465 : (Jvm.Cond.instanceMethod ({ cls := "NineDemandsModel", name := "tell", desc := "(I)I" } : Jvm.MethodName)) ∈ lw_all := lw_g (lw_at lw_m10 215 rfl) rfl
theorem q2466 : (Jvm.Cond.selects "NineDemandsModel" ({ cls := "NineDemandsModel", name := "tell", desc := "(I)I" } : Jvm.MethodName) ({ cls := "NineDemandsModel", name := "tell", desc := "(I)I" } : Jvm.MethodName)) ∈ lw_all := lw_g (lw_at lw_m10 216 rfl) rfl
theorem q2467 : (Jvm.Cond.code ({ cls := "NineDemandsModel", name := "tell", desc := "(I)I" } : Jvm.MethodName) prog_33_method_99_code (2 : Nat) (Option.some Jvm.ClassFile.FieldType.int)) ∈ lw_all := lw_g (lw_at lw_m10 217 rfl) rfl
theorem q2469 : (Jvm.Cond.instanceMethod ({ cls := "NineDemandsModel", name := "learn", desc := "(I)I" } : Jvm.MethodName)) ∈ lw_all := lw_g (lw_at lw_m10 219 rfl) rfl
theorem q2470 : (Jvm.Cond.selects "NineDemandsModel" ({ cls := "NineDemandsModel", name := "learn", desc := "(I)I" } : Jvm.MethodName) ({ cls := "NineDemandsModel", name := "learn", desc := "(I)I" } : Jvm.MethodName)) ∈ lw_all := lw_g (lw_at lw_m10 220 rfl) rfl
theorem q2471 : (Jvm.Cond.code ({ cls := "NineDemandsModel", name := "learn", desc := "(I)I" } : Jvm.MethodName) prog_33_method_100_code (4 : Nat) (Option.some Jvm.ClassFile.FieldType.int)) ∈ lw_all := lw_g (lw_at lw_m10 221 rfl) rfl
theorem q2473 : (Jvm.Cond.instanceMethod ({ cls := "NineDemandsModel", name := "count", desc := "(I)I" } : Jvm.MethodName)) ∈ lw_all := lw_g (lw_at lw_m10 223 rfl) rfl
theorem q2474 : (Jvm.Cond.selects "NineDemandsModel" ({ cls := "NineDemandsModel", name := "count", desc := "(I)I" } : Jvm.MethodName) ({ cls := "NineDemandsModel", name := "count", desc := "(I)I" } : Jvm.MethodName)) ∈ lw_all := lw_g (lw_at lw_m10 224 rfl) rfl
theorem q2475 : (Jvm.Cond.code ({ cls := "NineDemandsModel", name := "count", desc := "(I)I" } : Jvm.MethodName) prog_33_method_101_code (4 : Nat) (Option.some Jvm.ClassFile.FieldType.int)) ∈ lw_all := lw_g (lw_at lw_m10 225 rfl) rfl
theorem q2477 : (Jvm.Cond.instanceMethod ({ cls := "NineDemandsModel", name := "told", desc := "(I)I" } : Jvm.MethodName)) ∈ lw_all := lw_g (lw_at lw_m10 227 rfl) rfl
theorem q2478 : (Jvm.Cond.selects "NineDemandsModel" ({ cls := "NineDemandsModel", name := "told", desc := "(I)I" } : Jvm.MethodName) ({ cls := "NineDemandsModel", name := "told", desc := "(I)I" } : Jvm.MethodName)) ∈ lw_all := lw_g (lw_at lw_m10 228 rfl) rfl
theorem q2479 : (Jvm.Cond.code ({ cls := "NineDemandsModel", name := "told", desc := "(I)I" } : Jvm.MethodName) prog_33_method_102_code (2 : Nat) (Option.some Jvm.ClassFile.FieldType.int)) ∈ lw_all := lw_g (lw_at lw_m10 229 rfl) rfl
theorem q2532 : (Jvm.Cond.castable "NineDemandsModel" "java/lang/Object") ∈ lw_tbl := lw_at lw_m11 42 rfl
theorem in_X9 : ∀ w ∈ wsX90, w ∈ lw_all := lw_in wsX90 [2033, 2035, 2037, 2039, 2041, 2043, 2045, 2047, 2049, 2051, 2053, 2055, 2057, 2059, 2061, 2063, 2065, 2067, 2069, 2071, 2073, 2075, 2077, 2079, 2081, 2083, 2085, 2087, 2089, 2091, 2093, 2095, 2097] (by decide +kernel) (by decide +kernel)
