/-! NineDemands$Finding -/
set_option maxRecDepth 100000
def RX1 : String := "NineDemands$Finding"
def TX1 : u_T := fun k => match k with
  | 0 => ("java/lang/Throwable", "cause", "Ljava/lang/Throwable;", false)
  | 1 => ("java/lang/Throwable", "stackTrace", "[Ljava/lang/StackTraceElement;", false)
  | 2 => ("java/lang/Throwable", "suppressedExceptions", "Ljava/util/List;", false)
  | 3 => ("java/lang/Throwable", "detailMessage", "Ljava/lang/String;", false)
  | 4 => ("java/lang/Throwable", "backtrace", "Ljava/lang/Object;", false)
  | 5 => ("java/lang/Throwable", "depth", "I", false)
  | _ => ("NineDemands$Finding", "code", "I", false)
def tyX1 : Nat → FieldType := fun k => match k with
  | 0 => .object "java/lang/Throwable"
  | 1 => .array (.object "java/lang/StackTraceElement")
  | 2 => .object "java/util/List"
  | 3 => .object "java/lang/String"
  | 4 => .object "java/lang/Object"
  | 5 => .int
  | _ => .int
abbrev wsX10 : List Cond := u_ws RX1 TX1 7
theorem nmX1 : ∀ a, a < 7 → ∀ b, b < 7 → a ≠ b → (TX1 a).2.1 ≠ (TX1 b).2.1 := by decide +kernel
theorem tyX1_ok : ∀ k, k < 7 → parseFieldDescriptor (TX1 k).2.2.1 = some (tyX1 k) := by decide +kernel
abbrev cX1_init : ByteArray := prog_12_method_1_code
def yX1_init : MethodName := ⟨RX1, "<init>", "()V"⟩
def dkwX1_init_0 : List UInt8 := [42, 1, 1, 3, 3, 183, 0, 1, 177]
abbrev dktX1_init_0 : List UInt8 := dkwX1_init_0 ++ []
theorem dksX1_init_0 : cX1_init.data.toList.drop 0 = dktX1_init_0 := by decide +kernel
theorem dX1_init_0 : decode cX1_init 0 = .ok (.aload_n 0, 1) := dk_42 (dk_at dksX1_init_0 0 rfl rfl)
theorem dX1_init_1 : decode cX1_init 1 = .ok (.aconst_null, 1) := dk_1 (dk_at dksX1_init_0 1 rfl rfl)
theorem dX1_init_2 : decode cX1_init 2 = .ok (.aconst_null, 1) := dk_1 (dk_at dksX1_init_0 2 rfl rfl)
theorem dX1_init_3 : decode cX1_init 3 = .ok (.iconst 0, 1) := dk_3 (dk_at dksX1_init_0 3 rfl rfl)
theorem dX1_init_4 : decode cX1_init 4 = .ok (.iconst 0, 1) := dk_3 (dk_at dksX1_init_0 4 rfl rfl)
theorem dX1_init_5 : decode cX1_init 5 = .ok (.invokespecial 1, 3) := dk_183 0 1 (dk_at dksX1_init_0 5 rfl rfl)
theorem dX1_init_8 : decode cX1_init 8 = .ok (.return_, 1) := dk_177 (dk_at dksX1_init_0 8 rfl rfl)
abbrev cX1_of : ByteArray := prog_12_method_2_code
def yX1_of : MethodName := ⟨RX1, "of", "(I)LNineDemands$Finding;"⟩
def dkwX1_of_0 : List UInt8 := [42, 27, 181, 0, 7, 42, 176]
abbrev dktX1_of_0 : List UInt8 := dkwX1_of_0 ++ []
theorem dksX1_of_0 : cX1_of.data.toList.drop 0 = dktX1_of_0 := by decide +kernel
theorem dX1_of_0 : decode cX1_of 0 = .ok (.aload_n 0, 1) := dk_42 (dk_at dksX1_of_0 0 rfl rfl)
theorem dX1_of_1 : decode cX1_of 1 = .ok (.iload_n 1, 1) := dk_27 (dk_at dksX1_of_0 1 rfl rfl)
theorem dX1_of_2 : decode cX1_of 2 = .ok (.putfield 7, 3) := dk_181 0 7 (dk_at dksX1_of_0 2 rfl rfl)
theorem dX1_of_5 : decode cX1_of 5 = .ok (.aload_n 0, 1) := dk_42 (dk_at dksX1_of_0 5 rfl rfl)
theorem dX1_of_6 : decode cX1_of 6 = .ok (.areturn, 1) := dk_176 (dk_at dksX1_of_0 6 rfl rfl)
theorem q95 : (Jvm.Cond.initialized "NineDemands$Finding") ∈ lw_all := lw_g (lw_at lw_m1 5 rfl) rfl
theorem q147 : (Jvm.Cond.instantiable "NineDemands$Finding" (7 : Nat)) ∈ lw_all := lw_g (lw_at lw_m1 57 rfl) rfl
theorem q148 : (Jvm.Cond.castable "NineDemands$Finding" "NineDemands$Finding") ∈ lw_tbl := lw_at lw_m1 58 rfl
theorem q155 : (Jvm.Cond.selects "NineDemands$Finding" ({ cls := "java/lang/Throwable", name := "fillInStackTrace", desc := "(I)Ljava/lang/Throwable;" } : Jvm.MethodName) ({ cls := "java/lang/Throwable", name := "fillInStackTrace", desc := "(I)Ljava/lang/Throwable;" } : Jvm.MethodName)) ∈ lw_all := lw_g (lw_at lw_m1 65 rfl) rfl
theorem q156 : (Jvm.Cond.selects "NineDemands$Finding" ({ cls := "java/lang/Throwable", name := "fillInStackTrace", desc := "()Ljava/lang/Throwable;" } : Jvm.MethodName) ({ cls := "java/lang/Throwable", name := "fillInStackTrace", desc := "()Ljava/lang/Throwable;" } : Jvm.MethodName)) ∈ lw_all := lw_g (lw_at lw_m1 66 rfl) rfl
theorem q157 : (Jvm.Cond.lays "NineDemands$Finding" "java/lang/Throwable" "cause" "Ljava/lang/Throwable;") ∈ lw_all := lw_g (lw_at lw_m1 67 rfl) rfl
theorem q159 : (Jvm.Cond.lays "NineDemands$Finding" "java/lang/Throwable" "stackTrace" "[Ljava/lang/StackTraceElement;") ∈ lw_all := lw_g (lw_at lw_m1 69 rfl) rfl
theorem q161 : (Jvm.Cond.lays "NineDemands$Finding" "java/lang/Throwable" "suppressedExceptions" "Ljava/util/List;") ∈ lw_all := lw_g (lw_at lw_m1 71 rfl) rfl
theorem q163 : (Jvm.Cond.lays "NineDemands$Finding" "java/lang/Throwable" "detailMessage" "Ljava/lang/String;") ∈ lw_all := lw_g (lw_at lw_m1 73 rfl) rfl
theorem q165 : (Jvm.Cond.lays "NineDemands$Finding" "java/lang/Throwable" "backtrace" "Ljava/lang/Object;") ∈ lw_all := lw_g (lw_at lw_m1 75 rfl) rfl
theorem q187 : (Jvm.Cond.instanceMethod ({ cls := "NineDemands$Finding", name := "<init>", desc := "()V" } : Jvm.MethodName)) ∈ lw_all := lw_g (lw_at lw_m1 97 rfl) rfl
theorem q188 : (Jvm.Cond.code ({ cls := "NineDemands$Finding", name := "<init>", desc := "()V" } : Jvm.MethodName) prog_12_method_1_code (1 : Nat) (Option.none : Option Jvm.ClassFile.FieldType)) ∈ lw_all := lw_g (lw_at lw_m1 98 rfl) rfl
theorem q189 : (Jvm.Cond.methodLink "NineDemands$Finding" (1 : Nat) ({ cls := "java/lang/RuntimeException", name := "<init>", desc := "(Ljava/lang/String;Ljava/lang/Throwable;ZZ)V" } : Jvm.MethodName)) ∈ lw_all := lw_g (lw_at lw_m1 99 rfl) rfl
theorem q198 : (Jvm.Cond.fieldLink "NineDemands$Finding" (7 : Nat) "NineDemands$Finding" "code" "I") ∈ lw_all := lw_g (lw_at lw_m1 108 rfl) rfl
theorem q205 : (Jvm.Cond.lays "NineDemands$Finding" "NineDemands$Finding" "code" "I") ∈ lw_all := lw_g (lw_at lw_m1 115 rfl) rfl
theorem q206 : (Jvm.Cond.soleField "NineDemands$Finding" "code") ∈ lw_all := lw_g (lw_at lw_m1 116 rfl) rfl
theorem q211 : (Jvm.Cond.lays "NineDemands$Finding" "java/lang/Throwable" "depth" "I") ∈ lw_all := lw_g (lw_at lw_m1 121 rfl) rfl
theorem q214 : (Jvm.Cond.superclass "NineDemands$Finding" "java/lang/RuntimeException") ∈ lw_all := lw_g (lw_at lw_m1 124 rfl) rfl
theorem q421 : (Jvm.Cond.instanceMethod ({ cls := "NineDemands$Finding", name := "of", desc := "(I)LNineDemands$Finding;" } : Jvm.MethodName)) ∈ lw_all := lw_g (lw_at lw_m2 91 rfl) rfl
theorem q422 : (Jvm.Cond.selects "NineDemands$Finding" ({ cls := "NineDemands$Finding", name := "of", desc := "(I)LNineDemands$Finding;" } : Jvm.MethodName) ({ cls := "NineDemands$Finding", name := "of", desc := "(I)LNineDemands$Finding;" } : Jvm.MethodName)) ∈ lw_all := lw_g (lw_at lw_m2 92 rfl) rfl
theorem q423 : (Jvm.Cond.code ({ cls := "NineDemands$Finding", name := "of", desc := "(I)LNineDemands$Finding;" } : Jvm.MethodName) prog_12_method_2_code (2 : Nat) (Option.some (Jvm.ClassFile.FieldType.object "NineDemands$Finding"))) ∈ lw_all := lw_g (lw_at lw_m2 93 rfl) rfl
theorem q1292 : (Jvm.Cond.selects "NineDemands$Finding" ({ cls := "java/lang/Object", name := "getClass", desc := "()Ljava/lang/Class;" } : Jvm.MethodName) ({ cls := "java/lang/Object", name := "getClass", desc := "()Ljava/lang/Class;" } : Jvm.MethodName)) ∈ lw_all := lw_g (lw_at lw_m6 2 rfl) rfl
theorem q2524 : (Jvm.Cond.castable "NineDemands$Finding" "java/lang/Object") ∈ lw_tbl := lw_at lw_m11 34 rfl
theorem in_X1 : ∀ w ∈ wsX10, w ∈ lw_all := lw_in wsX10 [157, 159, 161, 163, 165, 211, 205] (by decide +kernel) (by decide +kernel)
/-! NineDemands$Village -/
set_option maxRecDepth 100000
def RX2 : String := "NineDemands$Village"
def TX2 : u_T := fun k => match k with
  | 0 => ("NineDemands$Village", "told", "[I", true)
  | 1 => ("NineDemands$Village", "laws", "Ljava/util/ArrayList;", true)
  | 2 => ("NineDemands$Village", "tape", "[B", true)
  | 3 => ("NineDemands$Village", "taped", "I", false)
  | 4 => ("NineDemands$Village", "waiting", "[I", true)
  | _ => ("NineDemands$Village", "waits", "I", false)
def tyX2 : Nat → FieldType := fun k => match k with
  | 0 => .array .int
  | 1 => .object "java/util/ArrayList"
  | 2 => .array .byte
  | 3 => .int
  | 4 => .array .int
  | _ => .int
abbrev wsX20 : List Cond := u_ws RX2 TX2 6
theorem nmX2 : ∀ a, a < 6 → ∀ b, b < 6 → a ≠ b → (TX2 a).2.1 ≠ (TX2 b).2.1 := by decide +kernel
theorem tyX2_ok : ∀ k, k < 6 → parseFieldDescriptor (TX2 k).2.2.1 = some (tyX2 k) := by decide +kernel
abbrev cX2_init : ByteArray := prog_29_method_1_code
def yX2_init : MethodName := ⟨RX2, "<init>", "()V"⟩
def dkwX2_init_2 : List UInt8 := [180, 0, 9, 27, 6, 79, 132, 1, 1, 167, 255, 240, 177]
abbrev dktX2_init_2 : List UInt8 := dkwX2_init_2 ++ []
def dkwX2_init_1 : List UInt8 := [16, 50, 188, 8, 181, 0, 22, 42, 16, 20, 188, 10, 181, 0, 26, 3, 60, 27, 16, 12, 162, 0, 16, 42]
abbrev dktX2_init_1 : List UInt8 := dkwX2_init_1 ++ dktX2_init_2
def dkwX2_init_0 : List UInt8 := [42, 183, 0, 3, 42, 16, 12, 188, 10, 181, 0, 9, 42, 187, 0, 15, 89, 183, 0, 17, 181, 0, 18, 42]
abbrev dktX2_init_0 : List UInt8 := dkwX2_init_0 ++ dktX2_init_1
theorem dksX2_init_0 : cX2_init.data.toList.drop 0 = dktX2_init_0 := by decide +kernel
theorem dksX2_init_1 : cX2_init.data.toList.drop 24 = dktX2_init_1 := dk_seg dksX2_init_0 24 rfl rfl
theorem dksX2_init_2 : cX2_init.data.toList.drop 48 = dktX2_init_2 := dk_seg dksX2_init_1 24 rfl rfl
theorem dX2_init_0 : decode cX2_init 0 = .ok (.aload_n 0, 1) := dk_42 (dk_at dksX2_init_0 0 rfl rfl)
theorem dX2_init_1 : decode cX2_init 1 = .ok (.invokespecial 3, 3) := dk_183 0 3 (dk_at dksX2_init_0 1 rfl rfl)
theorem dX2_init_4 : decode cX2_init 4 = .ok (.aload_n 0, 1) := dk_42 (dk_at dksX2_init_0 4 rfl rfl)
theorem dX2_init_5 : decode cX2_init 5 = .ok (.bipush 12, 2) := dk_16 12 (dk_at dksX2_init_0 5 rfl rfl)
theorem dX2_init_7 : decode cX2_init 7 = .ok (.newarray .int, 2) := dk_188_10 (dk_at dksX2_init_0 7 rfl rfl)
theorem dX2_init_9 : decode cX2_init 9 = .ok (.putfield 9, 3) := dk_181 0 9 (dk_at dksX2_init_0 9 rfl rfl)
theorem dX2_init_12 : decode cX2_init 12 = .ok (.aload_n 0, 1) := dk_42 (dk_at dksX2_init_0 12 rfl rfl)
theorem dX2_init_13 : decode cX2_init 13 = .ok (.new 15, 3) := dk_187 0 15 (dk_at dksX2_init_0 13 rfl rfl)
theorem dX2_init_16 : decode cX2_init 16 = .ok (.dup, 1) := dk_89 (dk_at dksX2_init_0 16 rfl rfl)
theorem dX2_init_17 : decode cX2_init 17 = .ok (.invokespecial 17, 3) := dk_183 0 17 (dk_at dksX2_init_0 17 rfl rfl)
theorem dX2_init_20 : decode cX2_init 20 = .ok (.putfield 18, 3) := dk_181 0 18 (dk_at dksX2_init_0 20 rfl rfl)
theorem dX2_init_23 : decode cX2_init 23 = .ok (.aload_n 0, 1) := dk_42 (dk_at dksX2_init_0 23 rfl rfl)
theorem dX2_init_24 : decode cX2_init 24 = .ok (.bipush 50, 2) := dk_16 50 (dk_at dksX2_init_1 0 rfl rfl)
theorem dX2_init_26 : decode cX2_init 26 = .ok (.newarray .byte, 2) := dk_188_8 (dk_at dksX2_init_1 2 rfl rfl)
theorem dX2_init_28 : decode cX2_init 28 = .ok (.putfield 22, 3) := dk_181 0 22 (dk_at dksX2_init_1 4 rfl rfl)
theorem dX2_init_31 : decode cX2_init 31 = .ok (.aload_n 0, 1) := dk_42 (dk_at dksX2_init_1 7 rfl rfl)
theorem dX2_init_32 : decode cX2_init 32 = .ok (.bipush 20, 2) := dk_16 20 (dk_at dksX2_init_1 8 rfl rfl)
theorem dX2_init_34 : decode cX2_init 34 = .ok (.newarray .int, 2) := dk_188_10 (dk_at dksX2_init_1 10 rfl rfl)
theorem dX2_init_36 : decode cX2_init 36 = .ok (.putfield 26, 3) := dk_181 0 26 (dk_at dksX2_init_1 12 rfl rfl)
theorem dX2_init_39 : decode cX2_init 39 = .ok (.iconst 0, 1) := dk_3 (dk_at dksX2_init_1 15 rfl rfl)
theorem dX2_init_40 : decode cX2_init 40 = .ok (.istore_n 1, 1) := dk_60 (dk_at dksX2_init_1 16 rfl rfl)
theorem dX2_init_41 : decode cX2_init 41 = .ok (.iload_n 1, 1) := dk_27 (dk_at dksX2_init_1 17 rfl rfl)
theorem dX2_init_42 : decode cX2_init 42 = .ok (.bipush 12, 2) := dk_16 12 (dk_at dksX2_init_1 18 rfl rfl)
theorem dX2_init_44 : decode cX2_init 44 = .ok (.if_icmp .ge 16, 3) := dk_162 0 16 (dk_at dksX2_init_1 20 rfl rfl)
theorem dX2_init_47 : decode cX2_init 47 = .ok (.aload_n 0, 1) := dk_42 (dk_at dksX2_init_1 23 rfl rfl)
theorem dX2_init_48 : decode cX2_init 48 = .ok (.getfield 9, 3) := dk_180 0 9 (dk_at dksX2_init_2 0 rfl rfl)
theorem dX2_init_51 : decode cX2_init 51 = .ok (.iload_n 1, 1) := dk_27 (dk_at dksX2_init_2 3 rfl rfl)
theorem dX2_init_52 : decode cX2_init 52 = .ok (.iconst 3, 1) := dk_6 (dk_at dksX2_init_2 4 rfl rfl)
theorem dX2_init_53 : decode cX2_init 53 = .ok (.iastore, 1) := dk_79 (dk_at dksX2_init_2 5 rfl rfl)
theorem dX2_init_54 : decode cX2_init 54 = .ok (.iinc 1 1, 3) := dk_132 1 1 (dk_at dksX2_init_2 6 rfl rfl)
theorem dX2_init_57 : decode cX2_init 57 = .ok (.goto (-16), 3) := dk_167 255 240 (dk_at dksX2_init_2 9 rfl rfl)
theorem dX2_init_60 : decode cX2_init 60 = .ok (.return_, 1) := dk_177 (dk_at dksX2_init_2 12 rfl rfl)
abbrev cX2_breachOf : ByteArray := prog_29_method_3_code
def yX2_breachOf : MethodName := ⟨RX2, "breachOf", "(LNineDemands$Demand;[I)I"⟩
def dkwX2_breachOf_2 : List UInt8 := [180, 0, 77, 28, 46, 46, 29, 182, 0, 80, 154, 0, 5, 28, 172, 132, 2, 1, 167, 255, 193, 2, 172]
abbrev dktX2_breachOf_2 : List UInt8 := dkwX2_breachOf_2 ++ []
def dkwX2_breachOf_1 : List UInt8 := [43, 42, 180, 0, 61, 180, 0, 74, 28, 46, 46, 167, 0, 4, 4, 62, 42, 28, 43, 42, 180, 0, 61]
abbrev dktX2_breachOf_1 : List UInt8 := dkwX2_breachOf_1 ++ dktX2_breachOf_2
def dkwX2_breachOf_0 : List UInt8 := [3, 61, 28, 42, 180, 0, 61, 180, 0, 65, 162, 0, 58, 42, 180, 0, 61, 28, 182, 0, 70, 153, 0, 17]
abbrev dktX2_breachOf_0 : List UInt8 := dkwX2_breachOf_0 ++ dktX2_breachOf_1
theorem dksX2_breachOf_0 : cX2_breachOf.data.toList.drop 0 = dktX2_breachOf_0 := by decide +kernel
theorem dksX2_breachOf_1 : cX2_breachOf.data.toList.drop 24 = dktX2_breachOf_1 := dk_seg dksX2_breachOf_0 24 rfl rfl
theorem dksX2_breachOf_2 : cX2_breachOf.data.toList.drop 47 = dktX2_breachOf_2 := dk_seg dksX2_breachOf_1 23 rfl rfl
theorem dX2_breachOf_0 : decode cX2_breachOf 0 = .ok (.iconst 0, 1) := dk_3 (dk_at dksX2_breachOf_0 0 rfl rfl)
theorem dX2_breachOf_1 : decode cX2_breachOf 1 = .ok (.istore_n 2, 1) := dk_61 (dk_at dksX2_breachOf_0 1 rfl rfl)
theorem dX2_breachOf_2 : decode cX2_breachOf 2 = .ok (.iload_n 2, 1) := dk_28 (dk_at dksX2_breachOf_0 2 rfl rfl)
theorem dX2_breachOf_3 : decode cX2_breachOf 3 = .ok (.aload_n 0, 1) := dk_42 (dk_at dksX2_breachOf_0 3 rfl rfl)
theorem dX2_breachOf_4 : decode cX2_breachOf 4 = .ok (.getfield 61, 3) := dk_180 0 61 (dk_at dksX2_breachOf_0 4 rfl rfl)
theorem dX2_breachOf_7 : decode cX2_breachOf 7 = .ok (.getfield 65, 3) := dk_180 0 65 (dk_at dksX2_breachOf_0 7 rfl rfl)
theorem dX2_breachOf_10 : decode cX2_breachOf 10 = .ok (.if_icmp .ge 58, 3) := dk_162 0 58 (dk_at dksX2_breachOf_0 10 rfl rfl)
theorem dX2_breachOf_13 : decode cX2_breachOf 13 = .ok (.aload_n 0, 1) := dk_42 (dk_at dksX2_breachOf_0 13 rfl rfl)
theorem dX2_breachOf_14 : decode cX2_breachOf 14 = .ok (.getfield 61, 3) := dk_180 0 61 (dk_at dksX2_breachOf_0 14 rfl rfl)
theorem dX2_breachOf_17 : decode cX2_breachOf 17 = .ok (.iload_n 2, 1) := dk_28 (dk_at dksX2_breachOf_0 17 rfl rfl)
theorem dX2_breachOf_18 : decode cX2_breachOf 18 = .ok (.invokevirtual 70, 3) := dk_182 0 70 (dk_at dksX2_breachOf_0 18 rfl rfl)
theorem dX2_breachOf_21 : decode cX2_breachOf 21 = .ok (.ifCond .eq 17, 3) := dk_153 0 17 (dk_at dksX2_breachOf_0 21 rfl rfl)
theorem dX2_breachOf_24 : decode cX2_breachOf 24 = .ok (.aload_n 1, 1) := dk_43 (dk_at dksX2_breachOf_1 0 rfl rfl)
theorem dX2_breachOf_25 : decode cX2_breachOf 25 = .ok (.aload_n 0, 1) := dk_42 (dk_at dksX2_breachOf_1 1 rfl rfl)
theorem dX2_breachOf_26 : decode cX2_breachOf 26 = .ok (.getfield 61, 3) := dk_180 0 61 (dk_at dksX2_breachOf_1 2 rfl rfl)
theorem dX2_breachOf_29 : decode cX2_breachOf 29 = .ok (.getfield 74, 3) := dk_180 0 74 (dk_at dksX2_breachOf_1 5 rfl rfl)
theorem dX2_breachOf_32 : decode cX2_breachOf 32 = .ok (.iload_n 2, 1) := dk_28 (dk_at dksX2_breachOf_1 8 rfl rfl)
theorem dX2_breachOf_33 : decode cX2_breachOf 33 = .ok (.iaload, 1) := dk_46 (dk_at dksX2_breachOf_1 9 rfl rfl)
theorem dX2_breachOf_34 : decode cX2_breachOf 34 = .ok (.iaload, 1) := dk_46 (dk_at dksX2_breachOf_1 10 rfl rfl)
theorem dX2_breachOf_35 : decode cX2_breachOf 35 = .ok (.goto 4, 3) := dk_167 0 4 (dk_at dksX2_breachOf_1 11 rfl rfl)
theorem dX2_breachOf_38 : decode cX2_breachOf 38 = .ok (.iconst 1, 1) := dk_4 (dk_at dksX2_breachOf_1 14 rfl rfl)
theorem dX2_breachOf_39 : decode cX2_breachOf 39 = .ok (.istore_n 3, 1) := dk_62 (dk_at dksX2_breachOf_1 15 rfl rfl)
theorem dX2_breachOf_40 : decode cX2_breachOf 40 = .ok (.aload_n 0, 1) := dk_42 (dk_at dksX2_breachOf_1 16 rfl rfl)
theorem dX2_breachOf_41 : decode cX2_breachOf 41 = .ok (.iload_n 2, 1) := dk_28 (dk_at dksX2_breachOf_1 17 rfl rfl)
theorem dX2_breachOf_42 : decode cX2_breachOf 42 = .ok (.aload_n 1, 1) := dk_43 (dk_at dksX2_breachOf_1 18 rfl rfl)
theorem dX2_breachOf_43 : decode cX2_breachOf 43 = .ok (.aload_n 0, 1) := dk_42 (dk_at dksX2_breachOf_1 19 rfl rfl)
theorem dX2_breachOf_44 : decode cX2_breachOf 44 = .ok (.getfield 61, 3) := dk_180 0 61 (dk_at dksX2_breachOf_1 20 rfl rfl)
theorem dX2_breachOf_47 : decode cX2_breachOf 47 = .ok (.getfield 77, 3) := dk_180 0 77 (dk_at dksX2_breachOf_2 0 rfl rfl)
theorem dX2_breachOf_50 : decode cX2_breachOf 50 = .ok (.iload_n 2, 1) := dk_28 (dk_at dksX2_breachOf_2 3 rfl rfl)
theorem dX2_breachOf_51 : decode cX2_breachOf 51 = .ok (.iaload, 1) := dk_46 (dk_at dksX2_breachOf_2 4 rfl rfl)
theorem dX2_breachOf_52 : decode cX2_breachOf 52 = .ok (.iaload, 1) := dk_46 (dk_at dksX2_breachOf_2 5 rfl rfl)
theorem dX2_breachOf_53 : decode cX2_breachOf 53 = .ok (.iload_n 3, 1) := dk_29 (dk_at dksX2_breachOf_2 6 rfl rfl)
theorem dX2_breachOf_54 : decode cX2_breachOf 54 = .ok (.invokevirtual 80, 3) := dk_182 0 80 (dk_at dksX2_breachOf_2 7 rfl rfl)
theorem dX2_breachOf_57 : decode cX2_breachOf 57 = .ok (.ifCond .ne 5, 3) := dk_154 0 5 (dk_at dksX2_breachOf_2 10 rfl rfl)
theorem dX2_breachOf_60 : decode cX2_breachOf 60 = .ok (.iload_n 2, 1) := dk_28 (dk_at dksX2_breachOf_2 13 rfl rfl)
theorem dX2_breachOf_61 : decode cX2_breachOf 61 = .ok (.ireturn, 1) := dk_172 (dk_at dksX2_breachOf_2 14 rfl rfl)
theorem dX2_breachOf_62 : decode cX2_breachOf 62 = .ok (.iinc 2 1, 3) := dk_132 2 1 (dk_at dksX2_breachOf_2 15 rfl rfl)
theorem dX2_breachOf_65 : decode cX2_breachOf 65 = .ok (.goto (-63), 3) := dk_167 255 193 (dk_at dksX2_breachOf_2 18 rfl rfl)
theorem dX2_breachOf_68 : decode cX2_breachOf 68 = .ok (.iconst (-1), 1) := dk_2 (dk_at dksX2_breachOf_2 21 rfl rfl)
theorem dX2_breachOf_69 : decode cX2_breachOf 69 = .ok (.ireturn, 1) := dk_172 (dk_at dksX2_breachOf_2 22 rfl rfl)
abbrev cX2_fits : ByteArray := prog_29_method_4_code
def yX2_fits : MethodName := ⟨RX2, "fits", "(I[I)Z"⟩
def dkwX2_fits_2 : List UInt8 := [160, 0, 7, 4, 167, 0, 4, 3, 62, 132, 4, 1, 167, 255, 202, 29, 172]
abbrev dktX2_fits_2 : List UInt8 := dkwX2_fits_2 ++ []
def dkwX2_fits_1 : List UInt8 := [184, 0, 84, 153, 0, 23, 42, 180, 0, 18, 21, 4, 182, 0, 40, 192, 0, 44, 44, 184, 0, 88, 2]
abbrev dktX2_fits_1 : List UInt8 := dkwX2_fits_1 ++ dktX2_fits_2
def dkwX2_fits_0 : List UInt8 := [4, 62, 3, 54, 4, 21, 4, 42, 180, 0, 18, 182, 0, 36, 162, 0, 48, 29, 153, 0, 44, 27, 21, 4]
abbrev dktX2_fits_0 : List UInt8 := dkwX2_fits_0 ++ dktX2_fits_1
theorem dksX2_fits_0 : cX2_fits.data.toList.drop 0 = dktX2_fits_0 := by decide +kernel
theorem dksX2_fits_1 : cX2_fits.data.toList.drop 24 = dktX2_fits_1 := dk_seg dksX2_fits_0 24 rfl rfl
theorem dksX2_fits_2 : cX2_fits.data.toList.drop 47 = dktX2_fits_2 := dk_seg dksX2_fits_1 23 rfl rfl
theorem dX2_fits_0 : decode cX2_fits 0 = .ok (.iconst 1, 1) := dk_4 (dk_at dksX2_fits_0 0 rfl rfl)
theorem dX2_fits_1 : decode cX2_fits 1 = .ok (.istore_n 3, 1) := dk_62 (dk_at dksX2_fits_0 1 rfl rfl)
theorem dX2_fits_2 : decode cX2_fits 2 = .ok (.iconst 0, 1) := dk_3 (dk_at dksX2_fits_0 2 rfl rfl)
theorem dX2_fits_3 : decode cX2_fits 3 = .ok (.istore 4, 2) := dk_54 4 (dk_at dksX2_fits_0 3 rfl rfl)
theorem dX2_fits_5 : decode cX2_fits 5 = .ok (.iload 4, 2) := dk_21 4 (dk_at dksX2_fits_0 5 rfl rfl)
theorem dX2_fits_7 : decode cX2_fits 7 = .ok (.aload_n 0, 1) := dk_42 (dk_at dksX2_fits_0 7 rfl rfl)
theorem dX2_fits_8 : decode cX2_fits 8 = .ok (.getfield 18, 3) := dk_180 0 18 (dk_at dksX2_fits_0 8 rfl rfl)
theorem dX2_fits_11 : decode cX2_fits 11 = .ok (.invokevirtual 36, 3) := dk_182 0 36 (dk_at dksX2_fits_0 11 rfl rfl)
theorem dX2_fits_14 : decode cX2_fits 14 = .ok (.if_icmp .ge 48, 3) := dk_162 0 48 (dk_at dksX2_fits_0 14 rfl rfl)
theorem dX2_fits_17 : decode cX2_fits 17 = .ok (.iload_n 3, 1) := dk_29 (dk_at dksX2_fits_0 17 rfl rfl)
theorem dX2_fits_18 : decode cX2_fits 18 = .ok (.ifCond .eq 44, 3) := dk_153 0 44 (dk_at dksX2_fits_0 18 rfl rfl)
theorem dX2_fits_21 : decode cX2_fits 21 = .ok (.iload_n 1, 1) := dk_27 (dk_at dksX2_fits_0 21 rfl rfl)
theorem dX2_fits_22 : decode cX2_fits 22 = .ok (.iload 4, 2) := dk_21 4 (dk_at dksX2_fits_0 22 rfl rfl)
theorem dX2_fits_24 : decode cX2_fits 24 = .ok (.invokestatic 84, 3) := dk_184 0 84 (dk_at dksX2_fits_1 0 rfl rfl)
theorem dX2_fits_27 : decode cX2_fits 27 = .ok (.ifCond .eq 23, 3) := dk_153 0 23 (dk_at dksX2_fits_1 3 rfl rfl)
theorem dX2_fits_30 : decode cX2_fits 30 = .ok (.aload_n 0, 1) := dk_42 (dk_at dksX2_fits_1 6 rfl rfl)
theorem dX2_fits_31 : decode cX2_fits 31 = .ok (.getfield 18, 3) := dk_180 0 18 (dk_at dksX2_fits_1 7 rfl rfl)
theorem dX2_fits_34 : decode cX2_fits 34 = .ok (.iload 4, 2) := dk_21 4 (dk_at dksX2_fits_1 10 rfl rfl)
theorem dX2_fits_36 : decode cX2_fits 36 = .ok (.invokevirtual 40, 3) := dk_182 0 40 (dk_at dksX2_fits_1 12 rfl rfl)
theorem dX2_fits_39 : decode cX2_fits 39 = .ok (.checkcast 44, 3) := dk_192 0 44 (dk_at dksX2_fits_1 15 rfl rfl)
theorem dX2_fits_42 : decode cX2_fits 42 = .ok (.aload_n 2, 1) := dk_44 (dk_at dksX2_fits_1 18 rfl rfl)
theorem dX2_fits_43 : decode cX2_fits 43 = .ok (.invokestatic 88, 3) := dk_184 0 88 (dk_at dksX2_fits_1 19 rfl rfl)
theorem dX2_fits_46 : decode cX2_fits 46 = .ok (.iconst (-1), 1) := dk_2 (dk_at dksX2_fits_1 22 rfl rfl)
theorem dX2_fits_47 : decode cX2_fits 47 = .ok (.if_icmp .ne 7, 3) := dk_160 0 7 (dk_at dksX2_fits_2 0 rfl rfl)
theorem dX2_fits_50 : decode cX2_fits 50 = .ok (.iconst 1, 1) := dk_4 (dk_at dksX2_fits_2 3 rfl rfl)
theorem dX2_fits_51 : decode cX2_fits 51 = .ok (.goto 4, 3) := dk_167 0 4 (dk_at dksX2_fits_2 4 rfl rfl)
theorem dX2_fits_54 : decode cX2_fits 54 = .ok (.iconst 0, 1) := dk_3 (dk_at dksX2_fits_2 7 rfl rfl)
theorem dX2_fits_55 : decode cX2_fits 55 = .ok (.istore_n 3, 1) := dk_62 (dk_at dksX2_fits_2 8 rfl rfl)
theorem dX2_fits_56 : decode cX2_fits 56 = .ok (.iinc 4 1, 3) := dk_132 4 1 (dk_at dksX2_fits_2 9 rfl rfl)
theorem dX2_fits_59 : decode cX2_fits 59 = .ok (.goto (-54), 3) := dk_167 255 202 (dk_at dksX2_fits_2 12 rfl rfl)
theorem dX2_fits_62 : decode cX2_fits 62 = .ok (.iload_n 3, 1) := dk_29 (dk_at dksX2_fits_2 15 rfl rfl)
theorem dX2_fits_63 : decode cX2_fits 63 = .ok (.ireturn, 1) := dk_172 (dk_at dksX2_fits_2 16 rfl rfl)
abbrev cX2_prices : ByteArray := prog_29_method_5_code
def yX2_prices : MethodName := ⟨RX2, "prices", "(I)I"⟩
def dkwX2_prices_2 : List UInt8 := [167, 255, 213, 28, 172]
abbrev dktX2_prices_2 : List UInt8 := dkwX2_prices_2 ++ []
def dkwX2_prices_1 : List UInt8 := [42, 180, 0, 18, 29, 182, 0, 40, 192, 0, 44, 180, 0, 92, 167, 0, 4, 3, 96, 61, 132, 3, 1]
abbrev dktX2_prices_1 : List UInt8 := dkwX2_prices_1 ++ dktX2_prices_2
def dkwX2_prices_0 : List UInt8 := [3, 61, 3, 62, 29, 42, 180, 0, 18, 182, 0, 36, 162, 0, 38, 28, 27, 29, 184, 0, 84, 153, 0, 20]
abbrev dktX2_prices_0 : List UInt8 := dkwX2_prices_0 ++ dktX2_prices_1
theorem dksX2_prices_0 : cX2_prices.data.toList.drop 0 = dktX2_prices_0 := by decide +kernel
theorem dksX2_prices_1 : cX2_prices.data.toList.drop 24 = dktX2_prices_1 := dk_seg dksX2_prices_0 24 rfl rfl
theorem dksX2_prices_2 : cX2_prices.data.toList.drop 47 = dktX2_prices_2 := dk_seg dksX2_prices_1 23 rfl rfl
theorem dX2_prices_0 : decode cX2_prices 0 = .ok (.iconst 0, 1) := dk_3 (dk_at dksX2_prices_0 0 rfl rfl)
theorem dX2_prices_1 : decode cX2_prices 1 = .ok (.istore_n 2, 1) := dk_61 (dk_at dksX2_prices_0 1 rfl rfl)
theorem dX2_prices_2 : decode cX2_prices 2 = .ok (.iconst 0, 1) := dk_3 (dk_at dksX2_prices_0 2 rfl rfl)
theorem dX2_prices_3 : decode cX2_prices 3 = .ok (.istore_n 3, 1) := dk_62 (dk_at dksX2_prices_0 3 rfl rfl)
theorem dX2_prices_4 : decode cX2_prices 4 = .ok (.iload_n 3, 1) := dk_29 (dk_at dksX2_prices_0 4 rfl rfl)
theorem dX2_prices_5 : decode cX2_prices 5 = .ok (.aload_n 0, 1) := dk_42 (dk_at dksX2_prices_0 5 rfl rfl)
theorem dX2_prices_6 : decode cX2_prices 6 = .ok (.getfield 18, 3) := dk_180 0 18 (dk_at dksX2_prices_0 6 rfl rfl)
theorem dX2_prices_9 : decode cX2_prices 9 = .ok (.invokevirtual 36, 3) := dk_182 0 36 (dk_at dksX2_prices_0 9 rfl rfl)
theorem dX2_prices_12 : decode cX2_prices 12 = .ok (.if_icmp .ge 38, 3) := dk_162 0 38 (dk_at dksX2_prices_0 12 rfl rfl)
theorem dX2_prices_15 : decode cX2_prices 15 = .ok (.iload_n 2, 1) := dk_28 (dk_at dksX2_prices_0 15 rfl rfl)
theorem dX2_prices_16 : decode cX2_prices 16 = .ok (.iload_n 1, 1) := dk_27 (dk_at dksX2_prices_0 16 rfl rfl)
theorem dX2_prices_17 : decode cX2_prices 17 = .ok (.iload_n 3, 1) := dk_29 (dk_at dksX2_prices_0 17 rfl rfl)
theorem dX2_prices_18 : decode cX2_prices 18 = .ok (.invokestatic 84, 3) := dk_184 0 84 (dk_at dksX2_prices_0 18 rfl rfl)
theorem dX2_prices_21 : decode cX2_prices 21 = .ok (.ifCond .eq 20, 3) := dk_153 0 20 (dk_at dksX2_prices_0 21 rfl rfl)
theorem dX2_prices_24 : decode cX2_prices 24 = .ok (.aload_n 0, 1) := dk_42 (dk_at dksX2_prices_1 0 rfl rfl)
theorem dX2_prices_25 : decode cX2_prices 25 = .ok (.getfield 18, 3) := dk_180 0 18 (dk_at dksX2_prices_1 1 rfl rfl)
theorem dX2_prices_28 : decode cX2_prices 28 = .ok (.iload_n 3, 1) := dk_29 (dk_at dksX2_prices_1 4 rfl rfl)
theorem dX2_prices_29 : decode cX2_prices 29 = .ok (.invokevirtual 40, 3) := dk_182 0 40 (dk_at dksX2_prices_1 5 rfl rfl)
theorem dX2_prices_32 : decode cX2_prices 32 = .ok (.checkcast 44, 3) := dk_192 0 44 (dk_at dksX2_prices_1 8 rfl rfl)
theorem dX2_prices_35 : decode cX2_prices 35 = .ok (.getfield 92, 3) := dk_180 0 92 (dk_at dksX2_prices_1 11 rfl rfl)
theorem dX2_prices_38 : decode cX2_prices 38 = .ok (.goto 4, 3) := dk_167 0 4 (dk_at dksX2_prices_1 14 rfl rfl)
theorem dX2_prices_41 : decode cX2_prices 41 = .ok (.iconst 0, 1) := dk_3 (dk_at dksX2_prices_1 17 rfl rfl)
theorem dX2_prices_42 : decode cX2_prices 42 = .ok (.iadd, 1) := dk_96 (dk_at dksX2_prices_1 18 rfl rfl)
theorem dX2_prices_43 : decode cX2_prices 43 = .ok (.istore_n 2, 1) := dk_61 (dk_at dksX2_prices_1 19 rfl rfl)
theorem dX2_prices_44 : decode cX2_prices 44 = .ok (.iinc 3 1, 3) := dk_132 3 1 (dk_at dksX2_prices_1 20 rfl rfl)
theorem dX2_prices_47 : decode cX2_prices 47 = .ok (.goto (-43), 3) := dk_167 255 213 (dk_at dksX2_prices_2 0 rfl rfl)
theorem dX2_prices_50 : decode cX2_prices 50 = .ok (.iload_n 2, 1) := dk_28 (dk_at dksX2_prices_2 3 rfl rfl)
theorem dX2_prices_51 : decode cX2_prices 51 = .ok (.ireturn, 1) := dk_172 (dk_at dksX2_prices_2 4 rfl rfl)
abbrev cX2_copy : ByteArray := prog_29_method_2_code
def yX2_copy : MethodName := ⟨RX2, "copy", "()LNineDemands$Village;"⟩
def dkwX2_copy_4 : List UInt8 := [180, 0, 26, 3, 16, 20, 184, 0, 30, 43, 42, 180, 0, 58, 181, 0, 58, 43, 176]
abbrev dktX2_copy_4 : List UInt8 := dkwX2_copy_4 ++ []
def dkwX2_copy_3 : List UInt8 := [180, 0, 22, 3, 16, 50, 184, 0, 30, 43, 42, 180, 0, 54, 181, 0, 54, 42, 180, 0, 26, 3, 43]
abbrev dktX2_copy_3 : List UInt8 := dkwX2_copy_3 ++ dktX2_copy_4
def dkwX2_copy_2 : List UInt8 := [192, 0, 44, 182, 0, 46, 182, 0, 50, 87, 132, 2, 1, 167, 255, 220, 42, 180, 0, 22, 3, 43]
abbrev dktX2_copy_2 : List UInt8 := dkwX2_copy_2 ++ dktX2_copy_3
def dkwX2_copy_1 : List UInt8 := [61, 28, 42, 180, 0, 18, 182, 0, 36, 162, 0, 31, 43, 180, 0, 18, 42, 180, 0, 18, 28, 182, 0, 40]
abbrev dktX2_copy_1 : List UInt8 := dkwX2_copy_1 ++ dktX2_copy_2
def dkwX2_copy_0 : List UInt8 := [187, 0, 10, 89, 183, 0, 29, 76, 42, 180, 0, 9, 3, 43, 180, 0, 9, 3, 16, 12, 184, 0, 30, 3]
abbrev dktX2_copy_0 : List UInt8 := dkwX2_copy_0 ++ dktX2_copy_1
theorem dksX2_copy_0 : cX2_copy.data.toList.drop 0 = dktX2_copy_0 := by decide +kernel
theorem dksX2_copy_1 : cX2_copy.data.toList.drop 24 = dktX2_copy_1 := dk_seg dksX2_copy_0 24 rfl rfl
theorem dksX2_copy_2 : cX2_copy.data.toList.drop 48 = dktX2_copy_2 := dk_seg dksX2_copy_1 24 rfl rfl
theorem dksX2_copy_3 : cX2_copy.data.toList.drop 70 = dktX2_copy_3 := dk_seg dksX2_copy_2 22 rfl rfl
theorem dksX2_copy_4 : cX2_copy.data.toList.drop 93 = dktX2_copy_4 := dk_seg dksX2_copy_3 23 rfl rfl
theorem dX2_copy_0 : decode cX2_copy 0 = .ok (.new 10, 3) := dk_187 0 10 (dk_at dksX2_copy_0 0 rfl rfl)
theorem dX2_copy_3 : decode cX2_copy 3 = .ok (.dup, 1) := dk_89 (dk_at dksX2_copy_0 3 rfl rfl)
theorem dX2_copy_4 : decode cX2_copy 4 = .ok (.invokespecial 29, 3) := dk_183 0 29 (dk_at dksX2_copy_0 4 rfl rfl)
theorem dX2_copy_7 : decode cX2_copy 7 = .ok (.astore_n 1, 1) := dk_76 (dk_at dksX2_copy_0 7 rfl rfl)
theorem dX2_copy_8 : decode cX2_copy 8 = .ok (.aload_n 0, 1) := dk_42 (dk_at dksX2_copy_0 8 rfl rfl)
theorem dX2_copy_9 : decode cX2_copy 9 = .ok (.getfield 9, 3) := dk_180 0 9 (dk_at dksX2_copy_0 9 rfl rfl)
theorem dX2_copy_12 : decode cX2_copy 12 = .ok (.iconst 0, 1) := dk_3 (dk_at dksX2_copy_0 12 rfl rfl)
theorem dX2_copy_13 : decode cX2_copy 13 = .ok (.aload_n 1, 1) := dk_43 (dk_at dksX2_copy_0 13 rfl rfl)
theorem dX2_copy_14 : decode cX2_copy 14 = .ok (.getfield 9, 3) := dk_180 0 9 (dk_at dksX2_copy_0 14 rfl rfl)
theorem dX2_copy_17 : decode cX2_copy 17 = .ok (.iconst 0, 1) := dk_3 (dk_at dksX2_copy_0 17 rfl rfl)
theorem dX2_copy_18 : decode cX2_copy 18 = .ok (.bipush 12, 2) := dk_16 12 (dk_at dksX2_copy_0 18 rfl rfl)
theorem dX2_copy_20 : decode cX2_copy 20 = .ok (.invokestatic 30, 3) := dk_184 0 30 (dk_at dksX2_copy_0 20 rfl rfl)
theorem dX2_copy_23 : decode cX2_copy 23 = .ok (.iconst 0, 1) := dk_3 (dk_at dksX2_copy_0 23 rfl rfl)
theorem dX2_copy_24 : decode cX2_copy 24 = .ok (.istore_n 2, 1) := dk_61 (dk_at dksX2_copy_1 0 rfl rfl)
theorem dX2_copy_25 : decode cX2_copy 25 = .ok (.iload_n 2, 1) := dk_28 (dk_at dksX2_copy_1 1 rfl rfl)
theorem dX2_copy_26 : decode cX2_copy 26 = .ok (.aload_n 0, 1) := dk_42 (dk_at dksX2_copy_1 2 rfl rfl)
theorem dX2_copy_27 : decode cX2_copy 27 = .ok (.getfield 18, 3) := dk_180 0 18 (dk_at dksX2_copy_1 3 rfl rfl)
theorem dX2_copy_30 : decode cX2_copy 30 = .ok (.invokevirtual 36, 3) := dk_182 0 36 (dk_at dksX2_copy_1 6 rfl rfl)
theorem dX2_copy_33 : decode cX2_copy 33 = .ok (.if_icmp .ge 31, 3) := dk_162 0 31 (dk_at dksX2_copy_1 9 rfl rfl)
theorem dX2_copy_36 : decode cX2_copy 36 = .ok (.aload_n 1, 1) := dk_43 (dk_at dksX2_copy_1 12 rfl rfl)
theorem dX2_copy_37 : decode cX2_copy 37 = .ok (.getfield 18, 3) := dk_180 0 18 (dk_at dksX2_copy_1 13 rfl rfl)
theorem dX2_copy_40 : decode cX2_copy 40 = .ok (.aload_n 0, 1) := dk_42 (dk_at dksX2_copy_1 16 rfl rfl)
theorem dX2_copy_41 : decode cX2_copy 41 = .ok (.getfield 18, 3) := dk_180 0 18 (dk_at dksX2_copy_1 17 rfl rfl)
theorem dX2_copy_44 : decode cX2_copy 44 = .ok (.iload_n 2, 1) := dk_28 (dk_at dksX2_copy_1 20 rfl rfl)
theorem dX2_copy_45 : decode cX2_copy 45 = .ok (.invokevirtual 40, 3) := dk_182 0 40 (dk_at dksX2_copy_1 21 rfl rfl)
theorem dX2_copy_48 : decode cX2_copy 48 = .ok (.checkcast 44, 3) := dk_192 0 44 (dk_at dksX2_copy_2 0 rfl rfl)
theorem dX2_copy_51 : decode cX2_copy 51 = .ok (.invokevirtual 46, 3) := dk_182 0 46 (dk_at dksX2_copy_2 3 rfl rfl)
theorem dX2_copy_54 : decode cX2_copy 54 = .ok (.invokevirtual 50, 3) := dk_182 0 50 (dk_at dksX2_copy_2 6 rfl rfl)
theorem dX2_copy_57 : decode cX2_copy 57 = .ok (.pop, 1) := dk_87 (dk_at dksX2_copy_2 9 rfl rfl)
theorem dX2_copy_58 : decode cX2_copy 58 = .ok (.iinc 2 1, 3) := dk_132 2 1 (dk_at dksX2_copy_2 10 rfl rfl)
theorem dX2_copy_61 : decode cX2_copy 61 = .ok (.goto (-36), 3) := dk_167 255 220 (dk_at dksX2_copy_2 13 rfl rfl)
theorem dX2_copy_64 : decode cX2_copy 64 = .ok (.aload_n 0, 1) := dk_42 (dk_at dksX2_copy_2 16 rfl rfl)
theorem dX2_copy_65 : decode cX2_copy 65 = .ok (.getfield 22, 3) := dk_180 0 22 (dk_at dksX2_copy_2 17 rfl rfl)
theorem dX2_copy_68 : decode cX2_copy 68 = .ok (.iconst 0, 1) := dk_3 (dk_at dksX2_copy_2 20 rfl rfl)
theorem dX2_copy_69 : decode cX2_copy 69 = .ok (.aload_n 1, 1) := dk_43 (dk_at dksX2_copy_2 21 rfl rfl)
theorem dX2_copy_70 : decode cX2_copy 70 = .ok (.getfield 22, 3) := dk_180 0 22 (dk_at dksX2_copy_3 0 rfl rfl)
theorem dX2_copy_73 : decode cX2_copy 73 = .ok (.iconst 0, 1) := dk_3 (dk_at dksX2_copy_3 3 rfl rfl)
theorem dX2_copy_74 : decode cX2_copy 74 = .ok (.bipush 50, 2) := dk_16 50 (dk_at dksX2_copy_3 4 rfl rfl)
theorem dX2_copy_76 : decode cX2_copy 76 = .ok (.invokestatic 30, 3) := dk_184 0 30 (dk_at dksX2_copy_3 6 rfl rfl)
theorem dX2_copy_79 : decode cX2_copy 79 = .ok (.aload_n 1, 1) := dk_43 (dk_at dksX2_copy_3 9 rfl rfl)
theorem dX2_copy_80 : decode cX2_copy 80 = .ok (.aload_n 0, 1) := dk_42 (dk_at dksX2_copy_3 10 rfl rfl)
theorem dX2_copy_81 : decode cX2_copy 81 = .ok (.getfield 54, 3) := dk_180 0 54 (dk_at dksX2_copy_3 11 rfl rfl)
theorem dX2_copy_84 : decode cX2_copy 84 = .ok (.putfield 54, 3) := dk_181 0 54 (dk_at dksX2_copy_3 14 rfl rfl)
theorem dX2_copy_87 : decode cX2_copy 87 = .ok (.aload_n 0, 1) := dk_42 (dk_at dksX2_copy_3 17 rfl rfl)
theorem dX2_copy_88 : decode cX2_copy 88 = .ok (.getfield 26, 3) := dk_180 0 26 (dk_at dksX2_copy_3 18 rfl rfl)
theorem dX2_copy_91 : decode cX2_copy 91 = .ok (.iconst 0, 1) := dk_3 (dk_at dksX2_copy_3 21 rfl rfl)
theorem dX2_copy_92 : decode cX2_copy 92 = .ok (.aload_n 1, 1) := dk_43 (dk_at dksX2_copy_3 22 rfl rfl)
theorem dX2_copy_93 : decode cX2_copy 93 = .ok (.getfield 26, 3) := dk_180 0 26 (dk_at dksX2_copy_4 0 rfl rfl)
theorem dX2_copy_96 : decode cX2_copy 96 = .ok (.iconst 0, 1) := dk_3 (dk_at dksX2_copy_4 3 rfl rfl)
theorem dX2_copy_97 : decode cX2_copy 97 = .ok (.bipush 20, 2) := dk_16 20 (dk_at dksX2_copy_4 4 rfl rfl)
theorem dX2_copy_99 : decode cX2_copy 99 = .ok (.invokestatic 30, 3) := dk_184 0 30 (dk_at dksX2_copy_4 6 rfl rfl)
theorem dX2_copy_102 : decode cX2_copy 102 = .ok (.aload_n 1, 1) := dk_43 (dk_at dksX2_copy_4 9 rfl rfl)
theorem dX2_copy_103 : decode cX2_copy 103 = .ok (.aload_n 0, 1) := dk_42 (dk_at dksX2_copy_4 10 rfl rfl)
theorem dX2_copy_104 : decode cX2_copy 104 = .ok (.getfield 58, 3) := dk_180 0 58 (dk_at dksX2_copy_4 11 rfl rfl)
theorem dX2_copy_107 : decode cX2_copy 107 = .ok (.putfield 58, 3) := dk_181 0 58 (dk_at dksX2_copy_4 14 rfl rfl)
theorem dX2_copy_110 : decode cX2_copy 110 = .ok (.aload_n 1, 1) := dk_43 (dk_at dksX2_copy_4 17 rfl rfl)
theorem dX2_copy_111 : decode cX2_copy 111 = .ok (.areturn, 1) := dk_176 (dk_at dksX2_copy_4 18 rfl rfl)
theorem q96 : (Jvm.Cond.initialized "NineDemands$Village") ∈ lw_all := lw_g (lw_at lw_m1 6 rfl) rfl
theorem q216 : (Jvm.Cond.instantiable "NineDemands$Village" (6 : Nat)) ∈ lw_all := lw_g (lw_at lw_m1 126 rfl) rfl
theorem q218 : (Jvm.Cond.instanceMethod ({ cls := "NineDemands$Village", name := "<init>", desc := "()V" } : Jvm.MethodName)) ∈ lw_all := lw_g (lw_at lw_m1 128 rfl) rfl
theorem q219 : (Jvm.Cond.code ({ cls := "NineDemands$Village", name := "<init>", desc := "()V" } : Jvm.MethodName) prog_29_method_1_code (2 : Nat) (Option.none : Option Jvm.ClassFile.FieldType)) ∈ lw_all := lw_g (lw_at lw_m1 129 rfl) rfl
theorem q220 : (Jvm.Cond.methodLink "NineDemands$Village" (3 : Nat) ({ cls := "java/lang/Object", name := "<init>", desc := "()V" } : Jvm.MethodName)) ∈ lw_all := lw_g (lw_at lw_m1 130 rfl) rfl
theorem q221 : (Jvm.Cond.classLink "NineDemands$Village" (15 : Nat) "java/util/ArrayList") ∈ lw_all := lw_g (lw_at lw_m1 131 rfl) rfl
theorem q223 : (Jvm.Cond.methodLink "NineDemands$Village" (17 : Nat) ({ cls := "java/util/ArrayList", name := "<init>", desc := "()V" } : Jvm.MethodName)) ∈ lw_all := lw_g (lw_at lw_m1 133 rfl) rfl
theorem q248 : (Jvm.Cond.fieldLink "NineDemands$Village" (9 : Nat) "NineDemands$Village" "told" "[I") ∈ lw_all := lw_g (lw_at lw_m1 158 rfl) rfl
theorem q250 : (Jvm.Cond.fieldLink "NineDemands$Village" (18 : Nat) "NineDemands$Village" "laws" "Ljava/util/ArrayList;") ∈ lw_all := lw_g (lw_at lw_m1 160 rfl) rfl
theorem q252 : (Jvm.Cond.fieldLink "NineDemands$Village" (22 : Nat) "NineDemands$Village" "tape" "[B") ∈ lw_all := lw_g (lw_at lw_m1 162 rfl) rfl
theorem q254 : (Jvm.Cond.fieldLink "NineDemands$Village" (54 : Nat) "NineDemands$Village" "taped" "I") ∈ lw_all := lw_g (lw_at lw_m1 164 rfl) rfl
theorem q256 : (Jvm.Cond.fieldLink "NineDemands$Village" (26 : Nat) "NineDemands$Village" "waiting" "[I") ∈ lw_all := lw_g (lw_at lw_m1 166 rfl) rfl
theorem q258 : (Jvm.Cond.fieldLink "NineDemands$Village" (58 : Nat) "NineDemands$Village" "waits" "I") ∈ lw_all := lw_g (lw_at lw_m1 168 rfl) rfl
theorem q260 : (Jvm.Cond.laysFinal "NineDemands$Village" "NineDemands$Village" "told" "[I") ∈ lw_all := lw_g (lw_at lw_m1 170 rfl) rfl
theorem q261 : (Jvm.Cond.soleField "NineDemands$Village" "told") ∈ lw_all := lw_g (lw_at lw_m1 171 rfl) rfl
theorem q262 : (Jvm.Cond.laysFinal "NineDemands$Village" "NineDemands$Village" "laws" "Ljava/util/ArrayList;") ∈ lw_all := lw_g (lw_at lw_m1 172 rfl) rfl
theorem q263 : (Jvm.Cond.soleField "NineDemands$Village" "laws") ∈ lw_all := lw_g (lw_at lw_m1 173 rfl) rfl
theorem q264 : (Jvm.Cond.laysFinal "NineDemands$Village" "NineDemands$Village" "tape" "[B") ∈ lw_all := lw_g (lw_at lw_m1 174 rfl) rfl
theorem q265 : (Jvm.Cond.soleField "NineDemands$Village" "tape") ∈ lw_all := lw_g (lw_at lw_m1 175 rfl) rfl
theorem q266 : (Jvm.Cond.lays "NineDemands$Village" "NineDemands$Village" "taped" "I") ∈ lw_all := lw_g (lw_at lw_m1 176 rfl) rfl
theorem q267 : (Jvm.Cond.soleField "NineDemands$Village" "taped") ∈ lw_all := lw_g (lw_at lw_m1 177 rfl) rfl
theorem q268 : (Jvm.Cond.laysFinal "NineDemands$Village" "NineDemands$Village" "waiting" "[I") ∈ lw_all := lw_g (lw_at lw_m1 178 rfl) rfl
theorem q269 : (Jvm.Cond.soleField "NineDemands$Village" "waiting") ∈ lw_all := lw_g (lw_at lw_m1 179 rfl) rfl
theorem q270 : (Jvm.Cond.lays "NineDemands$Village" "NineDemands$Village" "waits" "I") ∈ lw_all := lw_g (lw_at lw_m1 180 rfl) rfl
theorem q271 : (Jvm.Cond.soleField "NineDemands$Village" "waits") ∈ lw_all := lw_g (lw_at lw_m1 181 rfl) rfl
theorem q272 : (Jvm.Cond.superclass "NineDemands$Village" "java/lang/Object") ∈ lw_all := lw_g (lw_at lw_m1 182 rfl) rfl
theorem q562 : (Jvm.Cond.fieldLink "NineDemands$Village" (92 : Nat) "NineDemands$Demand" "price" "I") ∈ lw_all := lw_g (lw_at lw_m2 232 rfl) rfl
theorem q569 : (Jvm.Cond.fieldLink "NineDemands$Village" (61 : Nat) "NineDemands$Demand" "cases" "LNineDemands$Cases;") ∈ lw_all := lw_g (lw_at lw_m2 239 rfl) rfl
theorem q1120 : (Jvm.Cond.fieldLinkNest "NineDemands$Village" (77 : Nat) "NineDemands$Cases" "first" "[I" "NineDemands") ∈ lw_tbl := lw_at lw_m5 70 rfl
theorem q1127 : (Jvm.Cond.fieldLinkNest "NineDemands$Village" (74 : Nat) "NineDemands$Cases" "second" "[I" "NineDemands") ∈ lw_tbl := lw_at lw_m5 77 rfl
theorem q1138 : (Jvm.Cond.fieldLinkNest "NineDemands$Village" (65 : Nat) "NineDemands$Cases" "many" "I" "NineDemands") ∈ lw_tbl := lw_at lw_m5 88 rfl
theorem q1306 : (Jvm.Cond.selects "NineDemands$Village" ({ cls := "java/lang/Object", name := "getClass", desc := "()Ljava/lang/Class;" } : Jvm.MethodName) ({ cls := "java/lang/Object", name := "getClass", desc := "()Ljava/lang/Class;" } : Jvm.MethodName)) ∈ lw_all := lw_g (lw_at lw_m6 16 rfl) rfl
theorem q1403 : (Jvm.Cond.static ({ cls := "NineDemands$Village", name := "breachOf", desc := "(LNineDemands$Demand;[I)I" } : Jvm.MethodName)) ∈ lw_all := lw_g (lw_at lw_m6 113 rfl) rfl
theorem q1404 : (Jvm.Cond.code ({ cls := "NineDemands$Village", name := "breachOf", desc := "(LNineDemands$Demand;[I)I" } : Jvm.MethodName) prog_29_method_3_code (4 : Nat) (Option.some Jvm.ClassFile.FieldType.int)) ∈ lw_all := lw_g (lw_at lw_m6 114 rfl) rfl
theorem q1405 : (Jvm.Cond.methodLink "NineDemands$Village" (70 : Nat) ({ cls := "NineDemands$Cases", name := "isPair", desc := "(I)Z" } : Jvm.MethodName)) ∈ lw_all := lw_g (lw_at lw_m6 115 rfl) rfl
theorem q1406 : (Jvm.Cond.methodLink "NineDemands$Village" (80 : Nat) ({ cls := "NineDemands$Demand", name := "goes", desc := "(III)Z" } : Jvm.MethodName)) ∈ lw_all := lw_g (lw_at lw_m6 116 rfl) rfl
theorem q1531 : (Jvm.Cond.instanceMethod ({ cls := "NineDemands$Village", name := "fits", desc := "(I[I)Z" } : Jvm.MethodName)) ∈ lw_all := lw_g (lw_at lw_m7 1 rfl) rfl
theorem q1532 : (Jvm.Cond.selects "NineDemands$Village" ({ cls := "NineDemands$Village", name := "fits", desc := "(I[I)Z" } : Jvm.MethodName) ({ cls := "NineDemands$Village", name := "fits", desc := "(I[I)Z" } : Jvm.MethodName)) ∈ lw_all := lw_g (lw_at lw_m7 2 rfl) rfl
theorem q1533 : (Jvm.Cond.code ({ cls := "NineDemands$Village", name := "fits", desc := "(I[I)Z" } : Jvm.MethodName) prog_29_method_4_code (5 : Nat) (Option.some Jvm.ClassFile.FieldType.boolean)) ∈ lw_all := lw_g (lw_at lw_m7 3 rfl) rfl
theorem q1534 : (Jvm.Cond.methodLink "NineDemands$Village" (36 : Nat) ({ cls := "java/util/ArrayList", name := "size", desc := "()I" } : Jvm.MethodName)) ∈ lw_all := lw_g (lw_at lw_m7 4 rfl) rfl
theorem q1535 : (Jvm.Cond.methodLinkNest "NineDemands$Village" (84 : Nat) ({ cls := "NineDemands", name := "has", desc := "(II)Z" } : Jvm.MethodName) "NineDemands") ∈ lw_tbl := lw_at lw_m7 5 rfl
theorem q1536 : (Jvm.Cond.methodLink "NineDemands$Village" (40 : Nat) ({ cls := "java/util/ArrayList", name := "get", desc := "(I)Ljava/lang/Object;" } : Jvm.MethodName)) ∈ lw_all := lw_g (lw_at lw_m7 6 rfl) rfl
theorem q1537 : (Jvm.Cond.classLink "NineDemands$Village" (44 : Nat) "NineDemands$Demand") ∈ lw_all := lw_g (lw_at lw_m7 7 rfl) rfl
theorem q1538 : (Jvm.Cond.methodLink "NineDemands$Village" (88 : Nat) ({ cls := "NineDemands$Village", name := "breachOf", desc := "(LNineDemands$Demand;[I)I" } : Jvm.MethodName)) ∈ lw_all := lw_g (lw_at lw_m7 8 rfl) rfl
theorem q1626 : (Jvm.Cond.instanceMethod ({ cls := "NineDemands$Village", name := "prices", desc := "(I)I" } : Jvm.MethodName)) ∈ lw_all := lw_g (lw_at lw_m7 96 rfl) rfl
theorem q1627 : (Jvm.Cond.selects "NineDemands$Village" ({ cls := "NineDemands$Village", name := "prices", desc := "(I)I" } : Jvm.MethodName) ({ cls := "NineDemands$Village", name := "prices", desc := "(I)I" } : Jvm.MethodName)) ∈ lw_all := lw_g (lw_at lw_m7 97 rfl) rfl
theorem q1628 : (Jvm.Cond.code ({ cls := "NineDemands$Village", name := "prices", desc := "(I)I" } : Jvm.MethodName) prog_29_method_5_code (4 : Nat) (Option.some Jvm.ClassFile.FieldType.int)) ∈ lw_all := lw_g (lw_at lw_m7 98 rfl) rfl
theorem q1908 : (Jvm.Cond.instanceMethod ({ cls := "NineDemands$Village", name := "copy", desc := "()LNineDemands$Village;" } : Jvm.MethodName)) ∈ lw_all := lw_g (lw_at lw_m8 138 rfl) rfl
theorem q1909 : (Jvm.Cond.selects "NineDemands$Village" ({ cls := "NineDemands$Village", name := "copy", desc := "()LNineDemands$Village;" } : Jvm.MethodName) ({ cls := "NineDemands$Village", name := "copy", desc := "()LNineDemands$Village;" } : Jvm.MethodName)) ∈ lw_all := lw_g (lw_at lw_m8 139 rfl) rfl
theorem q1910 : (Jvm.Cond.code ({ cls := "NineDemands$Village", name := "copy", desc := "()LNineDemands$Village;" } : Jvm.MethodName) prog_29_method_2_code (3 : Nat) (Option.some (Jvm.ClassFile.FieldType.object "NineDemands$Village"))) ∈ lw_all := lw_g (lw_at lw_m8 140 rfl) rfl
theorem q1911 : (Jvm.Cond.classLink "NineDemands$Village" (10 : Nat) "NineDemands$Village") ∈ lw_all := lw_g (lw_at lw_m8 141 rfl) rfl
theorem q1912 : (Jvm.Cond.methodLink "NineDemands$Village" (29 : Nat) ({ cls := "NineDemands$Village", name := "<init>", desc := "()V" } : Jvm.MethodName)) ∈ lw_all := lw_g (lw_at lw_m8 142 rfl) rfl
theorem q1913 : (Jvm.Cond.methodLink "NineDemands$Village" (30 : Nat) ({ cls := "java/lang/System", name := "arraycopy", desc := "(Ljava/lang/Object;ILjava/lang/Object;II)V" } : Jvm.MethodName)) ∈ lw_all := lw_g (lw_at lw_m8 143 rfl) rfl
theorem q1914 : (Jvm.Cond.methodLink "NineDemands$Village" (46 : Nat) ({ cls := "NineDemands$Demand", name := "again", desc := "()LNineDemands$Demand;" } : Jvm.MethodName)) ∈ lw_all := lw_g (lw_at lw_m8 144 rfl) rfl
theorem q1956 : (Jvm.Cond.methodLink "NineDemands$Village" (50 : Nat) ({ cls := "java/util/ArrayList", name := "add", desc := "(Ljava/lang/Object;)Z" } : Jvm.MethodName)) ∈ lw_all := lw_g (lw_at lw_m8 186 rfl) rfl
theorem q2525 : (Jvm.Cond.castable "NineDemands$Village" "java/lang/Object") ∈ lw_tbl := lw_at lw_m11 35 rfl
theorem in_X2 : ∀ w ∈ wsX20, w ∈ lw_all := lw_in wsX20 [260, 262, 264, 266, 268, 270] (by decide +kernel) (by decide +kernel)
/-! NineDemands$Trace -/
set_option maxRecDepth 100000
def RX3 : String := "NineDemands$Trace"
def TX3 : u_T := fun k => match k with
  | 0 => ("NineDemands$Trace", "ran", "[I", true)
  | _ => ("NineDemands$Trace", "many", "I", false)
def tyX3 : Nat → FieldType := fun k => match k with
  | 0 => .array .int
  | _ => .int
abbrev wsX30 : List Cond := u_ws RX3 TX3 2
theorem nmX3 : ∀ a, a < 2 → ∀ b, b < 2 → a ≠ b → (TX3 a).2.1 ≠ (TX3 b).2.1 := by decide +kernel
theorem tyX3_ok : ∀ k, k < 2 → parseFieldDescriptor (TX3 k).2.2.1 = some (tyX3 k) := by decide +kernel
abbrev cX3_init : ByteArray := prog_25_method_1_code
def yX3_init : MethodName := ⟨RX3, "<init>", "()V"⟩
def dkwX3_init_0 : List UInt8 := [42, 183, 0, 3, 42, 16, 40, 188, 10, 181, 0, 9, 177]
abbrev dktX3_init_0 : List UInt8 := dkwX3_init_0 ++ []
theorem dksX3_init_0 : cX3_init.data.toList.drop 0 = dktX3_init_0 := by decide +kernel
theorem dX3_init_0 : decode cX3_init 0 = .ok (.aload_n 0, 1) := dk_42 (dk_at dksX3_init_0 0 rfl rfl)
theorem dX3_init_1 : decode cX3_init 1 = .ok (.invokespecial 3, 3) := dk_183 0 3 (dk_at dksX3_init_0 1 rfl rfl)
theorem dX3_init_4 : decode cX3_init 4 = .ok (.aload_n 0, 1) := dk_42 (dk_at dksX3_init_0 4 rfl rfl)
theorem dX3_init_5 : decode cX3_init 5 = .ok (.bipush 40, 2) := dk_16 40 (dk_at dksX3_init_0 5 rfl rfl)
theorem dX3_init_7 : decode cX3_init 7 = .ok (.newarray .int, 2) := dk_188_10 (dk_at dksX3_init_0 7 rfl rfl)
theorem dX3_init_9 : decode cX3_init 9 = .ok (.putfield 9, 3) := dk_181 0 9 (dk_at dksX3_init_0 9 rfl rfl)
theorem dX3_init_12 : decode cX3_init 12 = .ok (.return_, 1) := dk_177 (dk_at dksX3_init_0 12 rfl rfl)
abbrev cX3_begins : ByteArray := prog_25_method_2_code
def yX3_begins : MethodName := ⟨RX3, "begins", "(I)V"⟩
def dkwX3_begins_1 : List UInt8 := [4, 96, 181, 0, 15, 177]
abbrev dktX3_begins_1 : List UInt8 := dkwX3_begins_1 ++ []
def dkwX3_begins_0 : List UInt8 := [42, 180, 0, 15, 16, 40, 162, 0, 23, 42, 180, 0, 9, 42, 180, 0, 15, 27, 79, 42, 89, 180, 0, 15]
abbrev dktX3_begins_0 : List UInt8 := dkwX3_begins_0 ++ dktX3_begins_1
theorem dksX3_begins_0 : cX3_begins.data.toList.drop 0 = dktX3_begins_0 := by decide +kernel
theorem dksX3_begins_1 : cX3_begins.data.toList.drop 24 = dktX3_begins_1 := dk_seg dksX3_begins_0 24 rfl rfl
theorem dX3_begins_0 : decode cX3_begins 0 = .ok (.aload_n 0, 1) := dk_42 (dk_at dksX3_begins_0 0 rfl rfl)
theorem dX3_begins_1 : decode cX3_begins 1 = .ok (.getfield 15, 3) := dk_180 0 15 (dk_at dksX3_begins_0 1 rfl rfl)
theorem dX3_begins_4 : decode cX3_begins 4 = .ok (.bipush 40, 2) := dk_16 40 (dk_at dksX3_begins_0 4 rfl rfl)
theorem dX3_begins_6 : decode cX3_begins 6 = .ok (.if_icmp .ge 23, 3) := dk_162 0 23 (dk_at dksX3_begins_0 6 rfl rfl)
theorem dX3_begins_9 : decode cX3_begins 9 = .ok (.aload_n 0, 1) := dk_42 (dk_at dksX3_begins_0 9 rfl rfl)
theorem dX3_begins_10 : decode cX3_begins 10 = .ok (.getfield 9, 3) := dk_180 0 9 (dk_at dksX3_begins_0 10 rfl rfl)
theorem dX3_begins_13 : decode cX3_begins 13 = .ok (.aload_n 0, 1) := dk_42 (dk_at dksX3_begins_0 13 rfl rfl)
theorem dX3_begins_14 : decode cX3_begins 14 = .ok (.getfield 15, 3) := dk_180 0 15 (dk_at dksX3_begins_0 14 rfl rfl)
theorem dX3_begins_17 : decode cX3_begins 17 = .ok (.iload_n 1, 1) := dk_27 (dk_at dksX3_begins_0 17 rfl rfl)
theorem dX3_begins_18 : decode cX3_begins 18 = .ok (.iastore, 1) := dk_79 (dk_at dksX3_begins_0 18 rfl rfl)
theorem dX3_begins_19 : decode cX3_begins 19 = .ok (.aload_n 0, 1) := dk_42 (dk_at dksX3_begins_0 19 rfl rfl)
theorem dX3_begins_20 : decode cX3_begins 20 = .ok (.dup, 1) := dk_89 (dk_at dksX3_begins_0 20 rfl rfl)
theorem dX3_begins_21 : decode cX3_begins 21 = .ok (.getfield 15, 3) := dk_180 0 15 (dk_at dksX3_begins_0 21 rfl rfl)
theorem dX3_begins_24 : decode cX3_begins 24 = .ok (.iconst 1, 1) := dk_4 (dk_at dksX3_begins_1 0 rfl rfl)
theorem dX3_begins_25 : decode cX3_begins 25 = .ok (.iadd, 1) := dk_96 (dk_at dksX3_begins_1 1 rfl rfl)
theorem dX3_begins_26 : decode cX3_begins 26 = .ok (.putfield 15, 3) := dk_181 0 15 (dk_at dksX3_begins_1 2 rfl rfl)
theorem dX3_begins_29 : decode cX3_begins 29 = .ok (.return_, 1) := dk_177 (dk_at dksX3_begins_1 5 rfl rfl)
theorem q100 : (Jvm.Cond.initialized "NineDemands$Trace") ∈ lw_all := lw_g (lw_at lw_m1 10 rfl) rfl
theorem q275 : (Jvm.Cond.instantiable "NineDemands$Trace" (2 : Nat)) ∈ lw_all := lw_g (lw_at lw_m1 185 rfl) rfl
theorem q277 : (Jvm.Cond.instanceMethod ({ cls := "NineDemands$Trace", name := "<init>", desc := "()V" } : Jvm.MethodName)) ∈ lw_all := lw_g (lw_at lw_m1 187 rfl) rfl
theorem q278 : (Jvm.Cond.code ({ cls := "NineDemands$Trace", name := "<init>", desc := "()V" } : Jvm.MethodName) prog_25_method_1_code (1 : Nat) (Option.none : Option Jvm.ClassFile.FieldType)) ∈ lw_all := lw_g (lw_at lw_m1 188 rfl) rfl
theorem q279 : (Jvm.Cond.methodLink "NineDemands$Trace" (3 : Nat) ({ cls := "java/lang/Object", name := "<init>", desc := "()V" } : Jvm.MethodName)) ∈ lw_all := lw_g (lw_at lw_m1 189 rfl) rfl
theorem q280 : (Jvm.Cond.fieldLink "NineDemands$Trace" (9 : Nat) "NineDemands$Trace" "ran" "[I") ∈ lw_all := lw_g (lw_at lw_m1 190 rfl) rfl
theorem q282 : (Jvm.Cond.fieldLink "NineDemands$Trace" (15 : Nat) "NineDemands$Trace" "many" "I") ∈ lw_all := lw_g (lw_at lw_m1 192 rfl) rfl
theorem q284 : (Jvm.Cond.laysFinal "NineDemands$Trace" "NineDemands$Trace" "ran" "[I") ∈ lw_all := lw_g (lw_at lw_m1 194 rfl) rfl
theorem q285 : (Jvm.Cond.soleField "NineDemands$Trace" "ran") ∈ lw_all := lw_g (lw_at lw_m1 195 rfl) rfl
theorem q286 : (Jvm.Cond.lays "NineDemands$Trace" "NineDemands$Trace" "many" "I") ∈ lw_all := lw_g (lw_at lw_m1 196 rfl) rfl
theorem q287 : (Jvm.Cond.soleField "NineDemands$Trace" "many") ∈ lw_all := lw_g (lw_at lw_m1 197 rfl) rfl
theorem q288 : (Jvm.Cond.superclass "NineDemands$Trace" "java/lang/Object") ∈ lw_all := lw_g (lw_at lw_m1 198 rfl) rfl
theorem q1302 : (Jvm.Cond.selects "NineDemands$Trace" ({ cls := "java/lang/Object", name := "getClass", desc := "()Ljava/lang/Class;" } : Jvm.MethodName) ({ cls := "java/lang/Object", name := "getClass", desc := "()Ljava/lang/Class;" } : Jvm.MethodName)) ∈ lw_all := lw_g (lw_at lw_m6 12 rfl) rfl
theorem q1669 : (Jvm.Cond.instanceMethod ({ cls := "NineDemands$Trace", name := "begins", desc := "(I)V" } : Jvm.MethodName)) ∈ lw_all := lw_g (lw_at lw_m7 139 rfl) rfl
theorem q1670 : (Jvm.Cond.selects "NineDemands$Trace" ({ cls := "NineDemands$Trace", name := "begins", desc := "(I)V" } : Jvm.MethodName) ({ cls := "NineDemands$Trace", name := "begins", desc := "(I)V" } : Jvm.MethodName)) ∈ lw_all := lw_g (lw_at lw_m7 140 rfl) rfl
theorem q1671 : (Jvm.Cond.code ({ cls := "NineDemands$Trace", name := "begins", desc := "(I)V" } : Jvm.MethodName) prog_25_method_2_code (2 : Nat) (Option.none : Option Jvm.ClassFile.FieldType)) ∈ lw_all := lw_g (lw_at lw_m7 141 rfl) rfl
theorem q2527 : (Jvm.Cond.castable "NineDemands$Trace" "java/lang/Object") ∈ lw_tbl := lw_at lw_m11 37 rfl
theorem in_X3 : ∀ w ∈ wsX30, w ∈ lw_all := lw_in wsX30 [284, 286] (by decide +kernel) (by decide +kernel)
/-! NineDemands$Facts -/
set_option maxRecDepth 100000
def RX4 : String := "NineDemands$Facts"
def TX4 : u_T := fun k => match k with
  | _ => ("NineDemands$Facts", "named", "[I", true)
def tyX4 : Nat → FieldType := fun k => match k with
  | _ => .array .int
abbrev wsX40 : List Cond := u_ws RX4 TX4 1
theorem nmX4 : ∀ a, a < 1 → ∀ b, b < 1 → a ≠ b → (TX4 a).2.1 ≠ (TX4 b).2.1 := by decide +kernel
theorem tyX4_ok : ∀ k, k < 1 → parseFieldDescriptor (TX4 k).2.2.1 = some (tyX4 k) := by decide +kernel
abbrev cX4_init : ByteArray := prog_9_method_1_code
def yX4_init : MethodName := ⟨RX4, "<init>", "()V"⟩
def dkwX4_init_0 : List UInt8 := [42, 183, 0, 1, 42, 17, 0, 128, 188, 10, 181, 0, 7, 177]
abbrev dktX4_init_0 : List UInt8 := dkwX4_init_0 ++ []
theorem dksX4_init_0 : cX4_init.data.toList.drop 0 = dktX4_init_0 := by decide +kernel
theorem dX4_init_0 : decode cX4_init 0 = .ok (.aload_n 0, 1) := dk_42 (dk_at dksX4_init_0 0 rfl rfl)
theorem dX4_init_1 : decode cX4_init 1 = .ok (.invokespecial 1, 3) := dk_183 0 1 (dk_at dksX4_init_0 1 rfl rfl)
theorem dX4_init_4 : decode cX4_init 4 = .ok (.aload_n 0, 1) := dk_42 (dk_at dksX4_init_0 4 rfl rfl)
theorem dX4_init_5 : decode cX4_init 5 = .ok (.sipush 128, 3) := dk_17 0 128 (dk_at dksX4_init_0 5 rfl rfl)
theorem dX4_init_8 : decode cX4_init 8 = .ok (.newarray .int, 2) := dk_188_10 (dk_at dksX4_init_0 8 rfl rfl)
theorem dX4_init_10 : decode cX4_init 10 = .ok (.putfield 7, 3) := dk_181 0 7 (dk_at dksX4_init_0 10 rfl rfl)
theorem dX4_init_13 : decode cX4_init 13 = .ok (.return_, 1) := dk_177 (dk_at dksX4_init_0 13 rfl rfl)
abbrev cX4_with : ByteArray := prog_9_method_2_code
def yX4_with : MethodName := ⟨RX4, "with", "(CI)LNineDemands$Facts;"⟩
def dkwX4_with_0 : List UInt8 := [42, 180, 0, 7, 27, 28, 79, 42, 176]
abbrev dktX4_with_0 : List UInt8 := dkwX4_with_0 ++ []
theorem dksX4_with_0 : cX4_with.data.toList.drop 0 = dktX4_with_0 := by decide +kernel
theorem dX4_with_0 : decode cX4_with 0 = .ok (.aload_n 0, 1) := dk_42 (dk_at dksX4_with_0 0 rfl rfl)
theorem dX4_with_1 : decode cX4_with 1 = .ok (.getfield 7, 3) := dk_180 0 7 (dk_at dksX4_with_0 1 rfl rfl)
theorem dX4_with_4 : decode cX4_with 4 = .ok (.iload_n 1, 1) := dk_27 (dk_at dksX4_with_0 4 rfl rfl)
theorem dX4_with_5 : decode cX4_with 5 = .ok (.iload_n 2, 1) := dk_28 (dk_at dksX4_with_0 5 rfl rfl)
theorem dX4_with_6 : decode cX4_with 6 = .ok (.iastore, 1) := dk_79 (dk_at dksX4_with_0 6 rfl rfl)
theorem dX4_with_7 : decode cX4_with 7 = .ok (.aload_n 0, 1) := dk_42 (dk_at dksX4_with_0 7 rfl rfl)
theorem dX4_with_8 : decode cX4_with 8 = .ok (.areturn, 1) := dk_176 (dk_at dksX4_with_0 8 rfl rfl)
theorem q101 : (Jvm.Cond.initialized "NineDemands$Facts") ∈ lw_all := lw_g (lw_at lw_m1 11 rfl) rfl
theorem q290 : (Jvm.Cond.instantiable "NineDemands$Facts" (1 : Nat)) ∈ lw_all := lw_g (lw_at lw_m1 200 rfl) rfl
theorem q292 : (Jvm.Cond.instanceMethod ({ cls := "NineDemands$Facts", name := "<init>", desc := "()V" } : Jvm.MethodName)) ∈ lw_all := lw_g (lw_at lw_m1 202 rfl) rfl
theorem q293 : (Jvm.Cond.code ({ cls := "NineDemands$Facts", name := "<init>", desc := "()V" } : Jvm.MethodName) prog_9_method_1_code (1 : Nat) (Option.none : Option Jvm.ClassFile.FieldType)) ∈ lw_all := lw_g (lw_at lw_m1 203 rfl) rfl
theorem q294 : (Jvm.Cond.methodLink "NineDemands$Facts" (1 : Nat) ({ cls := "java/lang/Object", name := "<init>", desc := "()V" } : Jvm.MethodName)) ∈ lw_all := lw_g (lw_at lw_m1 204 rfl) rfl
theorem q295 : (Jvm.Cond.fieldLink "NineDemands$Facts" (7 : Nat) "NineDemands$Facts" "named" "[I") ∈ lw_all := lw_g (lw_at lw_m1 205 rfl) rfl
theorem q297 : (Jvm.Cond.laysFinal "NineDemands$Facts" "NineDemands$Facts" "named" "[I") ∈ lw_all := lw_g (lw_at lw_m1 207 rfl) rfl
theorem q298 : (Jvm.Cond.soleField "NineDemands$Facts" "named") ∈ lw_all := lw_g (lw_at lw_m1 208 rfl) rfl
theorem q299 : (Jvm.Cond.superclass "NineDemands$Facts" "java/lang/Object") ∈ lw_all := lw_g (lw_at lw_m1 209 rfl) rfl
theorem q1219 : (Jvm.Cond.instanceMethod ({ cls := "NineDemands$Facts", name := "with", desc := "(CI)LNineDemands$Facts;" } : Jvm.MethodName)) ∈ lw_all := lw_g (lw_at lw_m5 169 rfl) rfl
theorem q1220 : (Jvm.Cond.selects "NineDemands$Facts" ({ cls := "NineDemands$Facts", name := "with", desc := "(CI)LNineDemands$Facts;" } : Jvm.MethodName) ({ cls := "NineDemands$Facts", name := "with", desc := "(CI)LNineDemands$Facts;" } : Jvm.MethodName)) ∈ lw_all := lw_g (lw_at lw_m5 170 rfl) rfl
theorem q1221 : (Jvm.Cond.code ({ cls := "NineDemands$Facts", name := "with", desc := "(CI)LNineDemands$Facts;" } : Jvm.MethodName) prog_9_method_2_code (3 : Nat) (Option.some (Jvm.ClassFile.FieldType.object "NineDemands$Facts"))) ∈ lw_all := lw_g (lw_at lw_m5 171 rfl) rfl
theorem q1289 : (Jvm.Cond.selects "NineDemands$Facts" ({ cls := "java/lang/Object", name := "getClass", desc := "()Ljava/lang/Class;" } : Jvm.MethodName) ({ cls := "java/lang/Object", name := "getClass", desc := "()Ljava/lang/Class;" } : Jvm.MethodName)) ∈ lw_all := lw_g (lw_at lw_m5 239 rfl) rfl
theorem q2528 : (Jvm.Cond.castable "NineDemands$Facts" "java/lang/Object") ∈ lw_tbl := lw_at lw_m11 38 rfl
theorem in_X4 : ∀ w ∈ wsX40, w ∈ lw_all := lw_in wsX40 [297] (by decide +kernel) (by decide +kernel)
/-! NineDemands$Search -/
set_option maxRecDepth 100000
def RX5 : String := "NineDemands$Search"
def TX5 : u_T := fun k => match k with
  | 0 => ("NineDemands$Search", "web", "LNineDemands$Web;", true)
  | 1 => ("NineDemands$Search", "left", "[I", true)
  | 2 => ("NineDemands$Search", "rule", "[I", true)
  | 3 => ("NineDemands$Search", "halls", "I", false)
  | _ => ("NineDemands$Search", "fewest", "I", false)
def tyX5 : Nat → FieldType := fun k => match k with
  | 0 => .object "NineDemands$Web"
  | 1 => .array .int
  | 2 => .array .int
  | 3 => .int
  | _ => .int
abbrev wsX50 : List Cond := u_ws RX5 TX5 5
theorem nmX5 : ∀ a, a < 5 → ∀ b, b < 5 → a ≠ b → (TX5 a).2.1 ≠ (TX5 b).2.1 := by decide +kernel
theorem tyX5_ok : ∀ k, k < 5 → parseFieldDescriptor (TX5 k).2.2.1 = some (tyX5 k) := by decide +kernel
abbrev cX5_init : ByteArray := prog_17_method_1_code
def yX5_init : MethodName := ⟨RX5, "<init>", "()V"⟩
def dkwX5_init_1 : List UInt8 := [42, 16, 12, 188, 10, 181, 0, 22, 177]
abbrev dktX5_init_1 : List UInt8 := dkwX5_init_1 ++ []
def dkwX5_init_0 : List UInt8 := [42, 183, 0, 3, 42, 187, 0, 9, 89, 183, 0, 11, 181, 0, 12, 42, 17, 0, 156, 188, 10, 181, 0, 18]
abbrev dktX5_init_0 : List UInt8 := dkwX5_init_0 ++ dktX5_init_1
theorem dksX5_init_0 : cX5_init.data.toList.drop 0 = dktX5_init_0 := by decide +kernel
theorem dksX5_init_1 : cX5_init.data.toList.drop 24 = dktX5_init_1 := dk_seg dksX5_init_0 24 rfl rfl
theorem dX5_init_0 : decode cX5_init 0 = .ok (.aload_n 0, 1) := dk_42 (dk_at dksX5_init_0 0 rfl rfl)
theorem dX5_init_1 : decode cX5_init 1 = .ok (.invokespecial 3, 3) := dk_183 0 3 (dk_at dksX5_init_0 1 rfl rfl)
theorem dX5_init_4 : decode cX5_init 4 = .ok (.aload_n 0, 1) := dk_42 (dk_at dksX5_init_0 4 rfl rfl)
theorem dX5_init_5 : decode cX5_init 5 = .ok (.new 9, 3) := dk_187 0 9 (dk_at dksX5_init_0 5 rfl rfl)
theorem dX5_init_8 : decode cX5_init 8 = .ok (.dup, 1) := dk_89 (dk_at dksX5_init_0 8 rfl rfl)
theorem dX5_init_9 : decode cX5_init 9 = .ok (.invokespecial 11, 3) := dk_183 0 11 (dk_at dksX5_init_0 9 rfl rfl)
theorem dX5_init_12 : decode cX5_init 12 = .ok (.putfield 12, 3) := dk_181 0 12 (dk_at dksX5_init_0 12 rfl rfl)
theorem dX5_init_15 : decode cX5_init 15 = .ok (.aload_n 0, 1) := dk_42 (dk_at dksX5_init_0 15 rfl rfl)
theorem dX5_init_16 : decode cX5_init 16 = .ok (.sipush 156, 3) := dk_17 0 156 (dk_at dksX5_init_0 16 rfl rfl)
theorem dX5_init_19 : decode cX5_init 19 = .ok (.newarray .int, 2) := dk_188_10 (dk_at dksX5_init_0 19 rfl rfl)
theorem dX5_init_21 : decode cX5_init 21 = .ok (.putfield 18, 3) := dk_181 0 18 (dk_at dksX5_init_0 21 rfl rfl)
theorem dX5_init_24 : decode cX5_init 24 = .ok (.aload_n 0, 1) := dk_42 (dk_at dksX5_init_1 0 rfl rfl)
theorem dX5_init_25 : decode cX5_init 25 = .ok (.bipush 12, 2) := dk_16 12 (dk_at dksX5_init_1 1 rfl rfl)
theorem dX5_init_27 : decode cX5_init 27 = .ok (.newarray .int, 2) := dk_188_10 (dk_at dksX5_init_1 3 rfl rfl)
theorem dX5_init_29 : decode cX5_init 29 = .ok (.putfield 22, 3) := dk_181 0 22 (dk_at dksX5_init_1 5 rfl rfl)
theorem dX5_init_32 : decode cX5_init 32 = .ok (.return_, 1) := dk_177 (dk_at dksX5_init_1 8 rfl rfl)
abbrev cX5_begin : ByteArray := prog_17_method_2_code
def yX5_begin : MethodName := ⟨RX5, "begin", "(I)V"⟩
def dkwX5_begin_1 : List UInt8 := [180, 0, 29, 28, 46, 79, 132, 2, 1, 167, 255, 232, 177]
abbrev dktX5_begin_1 : List UInt8 := dkwX5_begin_1 ++ []
def dkwX5_begin_0 : List UInt8 := [42, 27, 181, 0, 25, 3, 61, 28, 16, 12, 162, 0, 24, 42, 180, 0, 18, 28, 42, 180, 0, 12]
abbrev dktX5_begin_0 : List UInt8 := dkwX5_begin_0 ++ dktX5_begin_1
theorem dksX5_begin_0 : cX5_begin.data.toList.drop 0 = dktX5_begin_0 := by decide +kernel
theorem dksX5_begin_1 : cX5_begin.data.toList.drop 22 = dktX5_begin_1 := dk_seg dksX5_begin_0 22 rfl rfl
theorem dX5_begin_0 : decode cX5_begin 0 = .ok (.aload_n 0, 1) := dk_42 (dk_at dksX5_begin_0 0 rfl rfl)
theorem dX5_begin_1 : decode cX5_begin 1 = .ok (.iload_n 1, 1) := dk_27 (dk_at dksX5_begin_0 1 rfl rfl)
theorem dX5_begin_2 : decode cX5_begin 2 = .ok (.putfield 25, 3) := dk_181 0 25 (dk_at dksX5_begin_0 2 rfl rfl)
theorem dX5_begin_5 : decode cX5_begin 5 = .ok (.iconst 0, 1) := dk_3 (dk_at dksX5_begin_0 5 rfl rfl)
theorem dX5_begin_6 : decode cX5_begin 6 = .ok (.istore_n 2, 1) := dk_61 (dk_at dksX5_begin_0 6 rfl rfl)
theorem dX5_begin_7 : decode cX5_begin 7 = .ok (.iload_n 2, 1) := dk_28 (dk_at dksX5_begin_0 7 rfl rfl)
theorem dX5_begin_8 : decode cX5_begin 8 = .ok (.bipush 12, 2) := dk_16 12 (dk_at dksX5_begin_0 8 rfl rfl)
theorem dX5_begin_10 : decode cX5_begin 10 = .ok (.if_icmp .ge 24, 3) := dk_162 0 24 (dk_at dksX5_begin_0 10 rfl rfl)
theorem dX5_begin_13 : decode cX5_begin 13 = .ok (.aload_n 0, 1) := dk_42 (dk_at dksX5_begin_0 13 rfl rfl)
theorem dX5_begin_14 : decode cX5_begin 14 = .ok (.getfield 18, 3) := dk_180 0 18 (dk_at dksX5_begin_0 14 rfl rfl)
theorem dX5_begin_17 : decode cX5_begin 17 = .ok (.iload_n 2, 1) := dk_28 (dk_at dksX5_begin_0 17 rfl rfl)
theorem dX5_begin_18 : decode cX5_begin 18 = .ok (.aload_n 0, 1) := dk_42 (dk_at dksX5_begin_0 18 rfl rfl)
theorem dX5_begin_19 : decode cX5_begin 19 = .ok (.getfield 12, 3) := dk_180 0 12 (dk_at dksX5_begin_0 19 rfl rfl)
theorem dX5_begin_22 : decode cX5_begin 22 = .ok (.getfield 29, 3) := dk_180 0 29 (dk_at dksX5_begin_1 0 rfl rfl)
theorem dX5_begin_25 : decode cX5_begin 25 = .ok (.iload_n 2, 1) := dk_28 (dk_at dksX5_begin_1 3 rfl rfl)
theorem dX5_begin_26 : decode cX5_begin 26 = .ok (.iaload, 1) := dk_46 (dk_at dksX5_begin_1 4 rfl rfl)
theorem dX5_begin_27 : decode cX5_begin 27 = .ok (.iastore, 1) := dk_79 (dk_at dksX5_begin_1 5 rfl rfl)
theorem dX5_begin_28 : decode cX5_begin 28 = .ok (.iinc 2 1, 3) := dk_132 2 1 (dk_at dksX5_begin_1 6 rfl rfl)
theorem dX5_begin_31 : decode cX5_begin 31 = .ok (.goto (-24), 3) := dk_167 255 232 (dk_at dksX5_begin_1 9 rfl rfl)
theorem dX5_begin_34 : decode cX5_begin 34 = .ok (.return_, 1) := dk_177 (dk_at dksX5_begin_1 12 rfl rfl)
abbrev cX5_finds : ByteArray := prog_17_method_7_code
def yX5_finds : MethodName := ⟨RX5, "finds", "()Z"⟩
def dkwX5_finds_0 : List UInt8 := [42, 3, 182, 0, 43, 172]
abbrev dktX5_finds_0 : List UInt8 := dkwX5_finds_0 ++ []
theorem dksX5_finds_0 : cX5_finds.data.toList.drop 0 = dktX5_finds_0 := by decide +kernel
theorem dX5_finds_0 : decode cX5_finds 0 = .ok (.aload_n 0, 1) := dk_42 (dk_at dksX5_finds_0 0 rfl rfl)
theorem dX5_finds_1 : decode cX5_finds 1 = .ok (.iconst 0, 1) := dk_3 (dk_at dksX5_finds_0 1 rfl rfl)
theorem dX5_finds_2 : decode cX5_finds 2 = .ok (.invokevirtual 43, 3) := dk_182 0 43 (dk_at dksX5_finds_0 2 rfl rfl)
theorem dX5_finds_5 : decode cX5_finds 5 = .ok (.ireturn, 1) := dk_172 (dk_at dksX5_finds_0 5 rfl rfl)
abbrev cX5_finds_2 : ByteArray := prog_17_method_8_code
def yX5_finds_2 : MethodName := ⟨RX5, "finds", "(I)Z"⟩
def dkwX5_finds_2_3 : List UInt8 := [153, 0, 5, 4, 172, 132, 2, 1, 167, 255, 211, 3, 172]
abbrev dktX5_finds_2_3 : List UInt8 := dkwX5_finds_2_3 ++ []
def dkwX5_finds_2_2 : List UInt8 := [28, 182, 0, 51, 153, 0, 24, 42, 27, 28, 182, 0, 54, 153, 0, 15, 42, 27, 4, 96, 182, 0, 43]
abbrev dktX5_finds_2_2 : List UInt8 := dkwX5_finds_2_2 ++ dktX5_finds_2_3
def dkwX5_finds_2_1 : List UInt8 := [42, 27, 4, 96, 182, 0, 43, 172, 4, 61, 28, 6, 163, 0, 46, 42, 180, 0, 22, 27, 28, 79, 42, 27]
abbrev dktX5_finds_2_1 : List UInt8 := dkwX5_finds_2_1 ++ dktX5_finds_2_2
def dkwX5_finds_2_0 : List UInt8 := [27, 16, 12, 160, 0, 5, 4, 172, 42, 180, 0, 25, 27, 184, 0, 32, 154, 0, 16, 42, 27, 182, 0, 47]
abbrev dktX5_finds_2_0 : List UInt8 := dkwX5_finds_2_0 ++ dktX5_finds_2_1
theorem dksX5_finds_2_0 : cX5_finds_2.data.toList.drop 0 = dktX5_finds_2_0 := by decide +kernel
theorem dksX5_finds_2_1 : cX5_finds_2.data.toList.drop 24 = dktX5_finds_2_1 := dk_seg dksX5_finds_2_0 24 rfl rfl
theorem dksX5_finds_2_2 : cX5_finds_2.data.toList.drop 48 = dktX5_finds_2_2 := dk_seg dksX5_finds_2_1 24 rfl rfl
theorem dksX5_finds_2_3 : cX5_finds_2.data.toList.drop 71 = dktX5_finds_2_3 := dk_seg dksX5_finds_2_2 23 rfl rfl
theorem dX5_finds_2_0 : decode cX5_finds_2 0 = .ok (.iload_n 1, 1) := dk_27 (dk_at dksX5_finds_2_0 0 rfl rfl)
theorem dX5_finds_2_1 : decode cX5_finds_2 1 = .ok (.bipush 12, 2) := dk_16 12 (dk_at dksX5_finds_2_0 1 rfl rfl)
theorem dX5_finds_2_3 : decode cX5_finds_2 3 = .ok (.if_icmp .ne 5, 3) := dk_160 0 5 (dk_at dksX5_finds_2_0 3 rfl rfl)
theorem dX5_finds_2_6 : decode cX5_finds_2 6 = .ok (.iconst 1, 1) := dk_4 (dk_at dksX5_finds_2_0 6 rfl rfl)
theorem dX5_finds_2_7 : decode cX5_finds_2 7 = .ok (.ireturn, 1) := dk_172 (dk_at dksX5_finds_2_0 7 rfl rfl)
theorem dX5_finds_2_8 : decode cX5_finds_2 8 = .ok (.aload_n 0, 1) := dk_42 (dk_at dksX5_finds_2_0 8 rfl rfl)
theorem dX5_finds_2_9 : decode cX5_finds_2 9 = .ok (.getfield 25, 3) := dk_180 0 25 (dk_at dksX5_finds_2_0 9 rfl rfl)
theorem dX5_finds_2_12 : decode cX5_finds_2 12 = .ok (.iload_n 1, 1) := dk_27 (dk_at dksX5_finds_2_0 12 rfl rfl)
theorem dX5_finds_2_13 : decode cX5_finds_2 13 = .ok (.invokestatic 32, 3) := dk_184 0 32 (dk_at dksX5_finds_2_0 13 rfl rfl)
theorem dX5_finds_2_16 : decode cX5_finds_2 16 = .ok (.ifCond .ne 16, 3) := dk_154 0 16 (dk_at dksX5_finds_2_0 16 rfl rfl)
theorem dX5_finds_2_19 : decode cX5_finds_2 19 = .ok (.aload_n 0, 1) := dk_42 (dk_at dksX5_finds_2_0 19 rfl rfl)
theorem dX5_finds_2_20 : decode cX5_finds_2 20 = .ok (.iload_n 1, 1) := dk_27 (dk_at dksX5_finds_2_0 20 rfl rfl)
theorem dX5_finds_2_21 : decode cX5_finds_2 21 = .ok (.invokevirtual 47, 3) := dk_182 0 47 (dk_at dksX5_finds_2_0 21 rfl rfl)
theorem dX5_finds_2_24 : decode cX5_finds_2 24 = .ok (.aload_n 0, 1) := dk_42 (dk_at dksX5_finds_2_1 0 rfl rfl)
theorem dX5_finds_2_25 : decode cX5_finds_2 25 = .ok (.iload_n 1, 1) := dk_27 (dk_at dksX5_finds_2_1 1 rfl rfl)
theorem dX5_finds_2_26 : decode cX5_finds_2 26 = .ok (.iconst 1, 1) := dk_4 (dk_at dksX5_finds_2_1 2 rfl rfl)
theorem dX5_finds_2_27 : decode cX5_finds_2 27 = .ok (.iadd, 1) := dk_96 (dk_at dksX5_finds_2_1 3 rfl rfl)
theorem dX5_finds_2_28 : decode cX5_finds_2 28 = .ok (.invokevirtual 43, 3) := dk_182 0 43 (dk_at dksX5_finds_2_1 4 rfl rfl)
theorem dX5_finds_2_31 : decode cX5_finds_2 31 = .ok (.ireturn, 1) := dk_172 (dk_at dksX5_finds_2_1 7 rfl rfl)
theorem dX5_finds_2_32 : decode cX5_finds_2 32 = .ok (.iconst 1, 1) := dk_4 (dk_at dksX5_finds_2_1 8 rfl rfl)
theorem dX5_finds_2_33 : decode cX5_finds_2 33 = .ok (.istore_n 2, 1) := dk_61 (dk_at dksX5_finds_2_1 9 rfl rfl)
theorem dX5_finds_2_34 : decode cX5_finds_2 34 = .ok (.iload_n 2, 1) := dk_28 (dk_at dksX5_finds_2_1 10 rfl rfl)
theorem dX5_finds_2_35 : decode cX5_finds_2 35 = .ok (.iconst 3, 1) := dk_6 (dk_at dksX5_finds_2_1 11 rfl rfl)
theorem dX5_finds_2_36 : decode cX5_finds_2 36 = .ok (.if_icmp .gt 46, 3) := dk_163 0 46 (dk_at dksX5_finds_2_1 12 rfl rfl)
theorem dX5_finds_2_39 : decode cX5_finds_2 39 = .ok (.aload_n 0, 1) := dk_42 (dk_at dksX5_finds_2_1 15 rfl rfl)
theorem dX5_finds_2_40 : decode cX5_finds_2 40 = .ok (.getfield 22, 3) := dk_180 0 22 (dk_at dksX5_finds_2_1 16 rfl rfl)
theorem dX5_finds_2_43 : decode cX5_finds_2 43 = .ok (.iload_n 1, 1) := dk_27 (dk_at dksX5_finds_2_1 19 rfl rfl)
theorem dX5_finds_2_44 : decode cX5_finds_2 44 = .ok (.iload_n 2, 1) := dk_28 (dk_at dksX5_finds_2_1 20 rfl rfl)
theorem dX5_finds_2_45 : decode cX5_finds_2 45 = .ok (.iastore, 1) := dk_79 (dk_at dksX5_finds_2_1 21 rfl rfl)
theorem dX5_finds_2_46 : decode cX5_finds_2 46 = .ok (.aload_n 0, 1) := dk_42 (dk_at dksX5_finds_2_1 22 rfl rfl)
theorem dX5_finds_2_47 : decode cX5_finds_2 47 = .ok (.iload_n 1, 1) := dk_27 (dk_at dksX5_finds_2_1 23 rfl rfl)
theorem dX5_finds_2_48 : decode cX5_finds_2 48 = .ok (.iload_n 2, 1) := dk_28 (dk_at dksX5_finds_2_2 0 rfl rfl)
theorem dX5_finds_2_49 : decode cX5_finds_2 49 = .ok (.invokevirtual 51, 3) := dk_182 0 51 (dk_at dksX5_finds_2_2 1 rfl rfl)
theorem dX5_finds_2_52 : decode cX5_finds_2 52 = .ok (.ifCond .eq 24, 3) := dk_153 0 24 (dk_at dksX5_finds_2_2 4 rfl rfl)
theorem dX5_finds_2_55 : decode cX5_finds_2 55 = .ok (.aload_n 0, 1) := dk_42 (dk_at dksX5_finds_2_2 7 rfl rfl)
theorem dX5_finds_2_56 : decode cX5_finds_2 56 = .ok (.iload_n 1, 1) := dk_27 (dk_at dksX5_finds_2_2 8 rfl rfl)
theorem dX5_finds_2_57 : decode cX5_finds_2 57 = .ok (.iload_n 2, 1) := dk_28 (dk_at dksX5_finds_2_2 9 rfl rfl)
theorem dX5_finds_2_58 : decode cX5_finds_2 58 = .ok (.invokevirtual 54, 3) := dk_182 0 54 (dk_at dksX5_finds_2_2 10 rfl rfl)
theorem dX5_finds_2_61 : decode cX5_finds_2 61 = .ok (.ifCond .eq 15, 3) := dk_153 0 15 (dk_at dksX5_finds_2_2 13 rfl rfl)
theorem dX5_finds_2_64 : decode cX5_finds_2 64 = .ok (.aload_n 0, 1) := dk_42 (dk_at dksX5_finds_2_2 16 rfl rfl)
theorem dX5_finds_2_65 : decode cX5_finds_2 65 = .ok (.iload_n 1, 1) := dk_27 (dk_at dksX5_finds_2_2 17 rfl rfl)
theorem dX5_finds_2_66 : decode cX5_finds_2 66 = .ok (.iconst 1, 1) := dk_4 (dk_at dksX5_finds_2_2 18 rfl rfl)
theorem dX5_finds_2_67 : decode cX5_finds_2 67 = .ok (.iadd, 1) := dk_96 (dk_at dksX5_finds_2_2 19 rfl rfl)
theorem dX5_finds_2_68 : decode cX5_finds_2 68 = .ok (.invokevirtual 43, 3) := dk_182 0 43 (dk_at dksX5_finds_2_2 20 rfl rfl)
theorem dX5_finds_2_71 : decode cX5_finds_2 71 = .ok (.ifCond .eq 5, 3) := dk_153 0 5 (dk_at dksX5_finds_2_3 0 rfl rfl)
theorem dX5_finds_2_74 : decode cX5_finds_2 74 = .ok (.iconst 1, 1) := dk_4 (dk_at dksX5_finds_2_3 3 rfl rfl)
theorem dX5_finds_2_75 : decode cX5_finds_2 75 = .ok (.ireturn, 1) := dk_172 (dk_at dksX5_finds_2_3 4 rfl rfl)
theorem dX5_finds_2_76 : decode cX5_finds_2 76 = .ok (.iinc 2 1, 3) := dk_132 2 1 (dk_at dksX5_finds_2_3 5 rfl rfl)
theorem dX5_finds_2_79 : decode cX5_finds_2 79 = .ok (.goto (-45), 3) := dk_167 255 211 (dk_at dksX5_finds_2_3 8 rfl rfl)
theorem dX5_finds_2_82 : decode cX5_finds_2 82 = .ok (.iconst 0, 1) := dk_3 (dk_at dksX5_finds_2_3 11 rfl rfl)
theorem dX5_finds_2_83 : decode cX5_finds_2 83 = .ok (.ireturn, 1) := dk_172 (dk_at dksX5_finds_2_3 12 rfl rfl)
abbrev cX5_passes : ByteArray := prog_17_method_6_code
def yX5_passes : MethodName := ⟨RX5, "passes", "(I)V"⟩
def dkwX5_passes_1 : List UInt8 := [180, 0, 18, 16, 12, 27, 104, 28, 96, 46, 79, 132, 2, 1, 167, 255, 223, 177]
abbrev dktX5_passes_1 : List UInt8 := dkwX5_passes_1 ++ []
def dkwX5_passes_0 : List UInt8 := [27, 4, 96, 61, 28, 16, 12, 162, 0, 33, 42, 180, 0, 18, 16, 12, 27, 4, 96, 104, 28, 96, 42]
abbrev dktX5_passes_0 : List UInt8 := dkwX5_passes_0 ++ dktX5_passes_1
theorem dksX5_passes_0 : cX5_passes.data.toList.drop 0 = dktX5_passes_0 := by decide +kernel
theorem dksX5_passes_1 : cX5_passes.data.toList.drop 23 = dktX5_passes_1 := dk_seg dksX5_passes_0 23 rfl rfl
theorem dX5_passes_0 : decode cX5_passes 0 = .ok (.iload_n 1, 1) := dk_27 (dk_at dksX5_passes_0 0 rfl rfl)
theorem dX5_passes_1 : decode cX5_passes 1 = .ok (.iconst 1, 1) := dk_4 (dk_at dksX5_passes_0 1 rfl rfl)
theorem dX5_passes_2 : decode cX5_passes 2 = .ok (.iadd, 1) := dk_96 (dk_at dksX5_passes_0 2 rfl rfl)
theorem dX5_passes_3 : decode cX5_passes 3 = .ok (.istore_n 2, 1) := dk_61 (dk_at dksX5_passes_0 3 rfl rfl)
theorem dX5_passes_4 : decode cX5_passes 4 = .ok (.iload_n 2, 1) := dk_28 (dk_at dksX5_passes_0 4 rfl rfl)
theorem dX5_passes_5 : decode cX5_passes 5 = .ok (.bipush 12, 2) := dk_16 12 (dk_at dksX5_passes_0 5 rfl rfl)
theorem dX5_passes_7 : decode cX5_passes 7 = .ok (.if_icmp .ge 33, 3) := dk_162 0 33 (dk_at dksX5_passes_0 7 rfl rfl)
theorem dX5_passes_10 : decode cX5_passes 10 = .ok (.aload_n 0, 1) := dk_42 (dk_at dksX5_passes_0 10 rfl rfl)
theorem dX5_passes_11 : decode cX5_passes 11 = .ok (.getfield 18, 3) := dk_180 0 18 (dk_at dksX5_passes_0 11 rfl rfl)
theorem dX5_passes_14 : decode cX5_passes 14 = .ok (.bipush 12, 2) := dk_16 12 (dk_at dksX5_passes_0 14 rfl rfl)
theorem dX5_passes_16 : decode cX5_passes 16 = .ok (.iload_n 1, 1) := dk_27 (dk_at dksX5_passes_0 16 rfl rfl)
theorem dX5_passes_17 : decode cX5_passes 17 = .ok (.iconst 1, 1) := dk_4 (dk_at dksX5_passes_0 17 rfl rfl)
theorem dX5_passes_18 : decode cX5_passes 18 = .ok (.iadd, 1) := dk_96 (dk_at dksX5_passes_0 18 rfl rfl)
theorem dX5_passes_19 : decode cX5_passes 19 = .ok (.imul, 1) := dk_104 (dk_at dksX5_passes_0 19 rfl rfl)
theorem dX5_passes_20 : decode cX5_passes 20 = .ok (.iload_n 2, 1) := dk_28 (dk_at dksX5_passes_0 20 rfl rfl)
theorem dX5_passes_21 : decode cX5_passes 21 = .ok (.iadd, 1) := dk_96 (dk_at dksX5_passes_0 21 rfl rfl)
theorem dX5_passes_22 : decode cX5_passes 22 = .ok (.aload_n 0, 1) := dk_42 (dk_at dksX5_passes_0 22 rfl rfl)
theorem dX5_passes_23 : decode cX5_passes 23 = .ok (.getfield 18, 3) := dk_180 0 18 (dk_at dksX5_passes_1 0 rfl rfl)
theorem dX5_passes_26 : decode cX5_passes 26 = .ok (.bipush 12, 2) := dk_16 12 (dk_at dksX5_passes_1 3 rfl rfl)
theorem dX5_passes_28 : decode cX5_passes 28 = .ok (.iload_n 1, 1) := dk_27 (dk_at dksX5_passes_1 5 rfl rfl)
theorem dX5_passes_29 : decode cX5_passes 29 = .ok (.imul, 1) := dk_104 (dk_at dksX5_passes_1 6 rfl rfl)
theorem dX5_passes_30 : decode cX5_passes 30 = .ok (.iload_n 2, 1) := dk_28 (dk_at dksX5_passes_1 7 rfl rfl)
theorem dX5_passes_31 : decode cX5_passes 31 = .ok (.iadd, 1) := dk_96 (dk_at dksX5_passes_1 8 rfl rfl)
theorem dX5_passes_32 : decode cX5_passes 32 = .ok (.iaload, 1) := dk_46 (dk_at dksX5_passes_1 9 rfl rfl)
theorem dX5_passes_33 : decode cX5_passes 33 = .ok (.iastore, 1) := dk_79 (dk_at dksX5_passes_1 10 rfl rfl)
theorem dX5_passes_34 : decode cX5_passes 34 = .ok (.iinc 2 1, 3) := dk_132 2 1 (dk_at dksX5_passes_1 11 rfl rfl)
theorem dX5_passes_37 : decode cX5_passes 37 = .ok (.goto (-33), 3) := dk_167 255 223 (dk_at dksX5_passes_1 14 rfl rfl)
theorem dX5_passes_40 : decode cX5_passes 40 = .ok (.return_, 1) := dk_177 (dk_at dksX5_passes_1 17 rfl rfl)
abbrev cX5_isLeft : ByteArray := prog_17_method_4_code
def yX5_isLeft : MethodName := ⟨RX5, "isLeft", "(II)Z"⟩
def dkwX5_isLeft_0 : List UInt8 := [42, 180, 0, 18, 16, 12, 27, 104, 27, 96, 46, 28, 184, 0, 32, 172]
abbrev dktX5_isLeft_0 : List UInt8 := dkwX5_isLeft_0 ++ []
theorem dksX5_isLeft_0 : cX5_isLeft.data.toList.drop 0 = dktX5_isLeft_0 := by decide +kernel
theorem dX5_isLeft_0 : decode cX5_isLeft 0 = .ok (.aload_n 0, 1) := dk_42 (dk_at dksX5_isLeft_0 0 rfl rfl)
theorem dX5_isLeft_1 : decode cX5_isLeft 1 = .ok (.getfield 18, 3) := dk_180 0 18 (dk_at dksX5_isLeft_0 1 rfl rfl)
theorem dX5_isLeft_4 : decode cX5_isLeft 4 = .ok (.bipush 12, 2) := dk_16 12 (dk_at dksX5_isLeft_0 4 rfl rfl)
theorem dX5_isLeft_6 : decode cX5_isLeft 6 = .ok (.iload_n 1, 1) := dk_27 (dk_at dksX5_isLeft_0 6 rfl rfl)
theorem dX5_isLeft_7 : decode cX5_isLeft 7 = .ok (.imul, 1) := dk_104 (dk_at dksX5_isLeft_0 7 rfl rfl)
theorem dX5_isLeft_8 : decode cX5_isLeft 8 = .ok (.iload_n 1, 1) := dk_27 (dk_at dksX5_isLeft_0 8 rfl rfl)
theorem dX5_isLeft_9 : decode cX5_isLeft 9 = .ok (.iadd, 1) := dk_96 (dk_at dksX5_isLeft_0 9 rfl rfl)
theorem dX5_isLeft_10 : decode cX5_isLeft 10 = .ok (.iaload, 1) := dk_46 (dk_at dksX5_isLeft_0 10 rfl rfl)
theorem dX5_isLeft_11 : decode cX5_isLeft 11 = .ok (.iload_n 2, 1) := dk_28 (dk_at dksX5_isLeft_0 11 rfl rfl)
theorem dX5_isLeft_12 : decode cX5_isLeft 12 = .ok (.invokestatic 32, 3) := dk_184 0 32 (dk_at dksX5_isLeft_0 12 rfl rfl)
theorem dX5_isLeft_15 : decode cX5_isLeft 15 = .ok (.ireturn, 1) := dk_172 (dk_at dksX5_isLeft_0 15 rfl rfl)
abbrev cX5_goesOn : ByteArray := prog_17_method_5_code
def yX5_goesOn : MethodName := ⟨RX5, "goesOn", "(II)Z"⟩
def dkwX5_goesOn_4 : List UInt8 := [79, 132, 4, 1, 167, 255, 165, 29, 172]
abbrev dktX5_goesOn_4 : List UInt8 := dkwX5_goesOn_4 ++ []
def dkwX5_goesOn_3 : List UInt8 := [153, 0, 7, 4, 167, 0, 4, 3, 62, 42, 180, 0, 18, 16, 12, 27, 4, 96, 104, 21, 4, 96, 21, 5]
abbrev dktX5_goesOn_3 : List UInt8 := dkwX5_goesOn_3 ++ dktX5_goesOn_4
def dkwX5_goesOn_2 : List UInt8 := [180, 0, 36, 16, 12, 27, 104, 21, 4, 96, 46, 28, 184, 0, 39, 126, 54, 5, 29, 153, 0, 12, 21, 5]
abbrev dktX5_goesOn_2 : List UInt8 := dkwX5_goesOn_2 ++ dktX5_goesOn_3
def dkwX5_goesOn_1 : List UInt8 := [96, 46, 54, 5, 42, 180, 0, 25, 21, 4, 184, 0, 32, 153, 0, 42, 21, 5, 42, 180, 0, 12]
abbrev dktX5_goesOn_1 : List UInt8 := dkwX5_goesOn_1 ++ dktX5_goesOn_2
def dkwX5_goesOn_0 : List UInt8 := [4, 62, 27, 4, 96, 54, 4, 21, 4, 16, 12, 162, 0, 90, 42, 180, 0, 18, 16, 12, 27, 104, 21, 4]
abbrev dktX5_goesOn_0 : List UInt8 := dkwX5_goesOn_0 ++ dktX5_goesOn_1
theorem dksX5_goesOn_0 : cX5_goesOn.data.toList.drop 0 = dktX5_goesOn_0 := by decide +kernel
theorem dksX5_goesOn_1 : cX5_goesOn.data.toList.drop 24 = dktX5_goesOn_1 := dk_seg dksX5_goesOn_0 24 rfl rfl
theorem dksX5_goesOn_2 : cX5_goesOn.data.toList.drop 46 = dktX5_goesOn_2 := dk_seg dksX5_goesOn_1 22 rfl rfl
theorem dksX5_goesOn_3 : cX5_goesOn.data.toList.drop 70 = dktX5_goesOn_3 := dk_seg dksX5_goesOn_2 24 rfl rfl
theorem dksX5_goesOn_4 : cX5_goesOn.data.toList.drop 94 = dktX5_goesOn_4 := dk_seg dksX5_goesOn_3 24 rfl rfl
theorem dX5_goesOn_0 : decode cX5_goesOn 0 = .ok (.iconst 1, 1) := dk_4 (dk_at dksX5_goesOn_0 0 rfl rfl)
theorem dX5_goesOn_1 : decode cX5_goesOn 1 = .ok (.istore_n 3, 1) := dk_62 (dk_at dksX5_goesOn_0 1 rfl rfl)
theorem dX5_goesOn_2 : decode cX5_goesOn 2 = .ok (.iload_n 1, 1) := dk_27 (dk_at dksX5_goesOn_0 2 rfl rfl)
theorem dX5_goesOn_3 : decode cX5_goesOn 3 = .ok (.iconst 1, 1) := dk_4 (dk_at dksX5_goesOn_0 3 rfl rfl)
theorem dX5_goesOn_4 : decode cX5_goesOn 4 = .ok (.iadd, 1) := dk_96 (dk_at dksX5_goesOn_0 4 rfl rfl)
theorem dX5_goesOn_5 : decode cX5_goesOn 5 = .ok (.istore 4, 2) := dk_54 4 (dk_at dksX5_goesOn_0 5 rfl rfl)
theorem dX5_goesOn_7 : decode cX5_goesOn 7 = .ok (.iload 4, 2) := dk_21 4 (dk_at dksX5_goesOn_0 7 rfl rfl)
theorem dX5_goesOn_9 : decode cX5_goesOn 9 = .ok (.bipush 12, 2) := dk_16 12 (dk_at dksX5_goesOn_0 9 rfl rfl)
theorem dX5_goesOn_11 : decode cX5_goesOn 11 = .ok (.if_icmp .ge 90, 3) := dk_162 0 90 (dk_at dksX5_goesOn_0 11 rfl rfl)
theorem dX5_goesOn_14 : decode cX5_goesOn 14 = .ok (.aload_n 0, 1) := dk_42 (dk_at dksX5_goesOn_0 14 rfl rfl)
theorem dX5_goesOn_15 : decode cX5_goesOn 15 = .ok (.getfield 18, 3) := dk_180 0 18 (dk_at dksX5_goesOn_0 15 rfl rfl)
theorem dX5_goesOn_18 : decode cX5_goesOn 18 = .ok (.bipush 12, 2) := dk_16 12 (dk_at dksX5_goesOn_0 18 rfl rfl)
theorem dX5_goesOn_20 : decode cX5_goesOn 20 = .ok (.iload_n 1, 1) := dk_27 (dk_at dksX5_goesOn_0 20 rfl rfl)
theorem dX5_goesOn_21 : decode cX5_goesOn 21 = .ok (.imul, 1) := dk_104 (dk_at dksX5_goesOn_0 21 rfl rfl)
theorem dX5_goesOn_22 : decode cX5_goesOn 22 = .ok (.iload 4, 2) := dk_21 4 (dk_at dksX5_goesOn_0 22 rfl rfl)
theorem dX5_goesOn_24 : decode cX5_goesOn 24 = .ok (.iadd, 1) := dk_96 (dk_at dksX5_goesOn_1 0 rfl rfl)
theorem dX5_goesOn_25 : decode cX5_goesOn 25 = .ok (.iaload, 1) := dk_46 (dk_at dksX5_goesOn_1 1 rfl rfl)
theorem dX5_goesOn_26 : decode cX5_goesOn 26 = .ok (.istore 5, 2) := dk_54 5 (dk_at dksX5_goesOn_1 2 rfl rfl)
theorem dX5_goesOn_28 : decode cX5_goesOn 28 = .ok (.aload_n 0, 1) := dk_42 (dk_at dksX5_goesOn_1 4 rfl rfl)
theorem dX5_goesOn_29 : decode cX5_goesOn 29 = .ok (.getfield 25, 3) := dk_180 0 25 (dk_at dksX5_goesOn_1 5 rfl rfl)
theorem dX5_goesOn_32 : decode cX5_goesOn 32 = .ok (.iload 4, 2) := dk_21 4 (dk_at dksX5_goesOn_1 8 rfl rfl)
theorem dX5_goesOn_34 : decode cX5_goesOn 34 = .ok (.invokestatic 32, 3) := dk_184 0 32 (dk_at dksX5_goesOn_1 10 rfl rfl)
theorem dX5_goesOn_37 : decode cX5_goesOn 37 = .ok (.ifCond .eq 42, 3) := dk_153 0 42 (dk_at dksX5_goesOn_1 13 rfl rfl)
theorem dX5_goesOn_40 : decode cX5_goesOn 40 = .ok (.iload 5, 2) := dk_21 5 (dk_at dksX5_goesOn_1 16 rfl rfl)
theorem dX5_goesOn_42 : decode cX5_goesOn 42 = .ok (.aload_n 0, 1) := dk_42 (dk_at dksX5_goesOn_1 18 rfl rfl)
theorem dX5_goesOn_43 : decode cX5_goesOn 43 = .ok (.getfield 12, 3) := dk_180 0 12 (dk_at dksX5_goesOn_1 19 rfl rfl)
theorem dX5_goesOn_46 : decode cX5_goesOn 46 = .ok (.getfield 36, 3) := dk_180 0 36 (dk_at dksX5_goesOn_2 0 rfl rfl)
theorem dX5_goesOn_49 : decode cX5_goesOn 49 = .ok (.bipush 12, 2) := dk_16 12 (dk_at dksX5_goesOn_2 3 rfl rfl)
theorem dX5_goesOn_51 : decode cX5_goesOn 51 = .ok (.iload_n 1, 1) := dk_27 (dk_at dksX5_goesOn_2 5 rfl rfl)
theorem dX5_goesOn_52 : decode cX5_goesOn 52 = .ok (.imul, 1) := dk_104 (dk_at dksX5_goesOn_2 6 rfl rfl)
theorem dX5_goesOn_53 : decode cX5_goesOn 53 = .ok (.iload 4, 2) := dk_21 4 (dk_at dksX5_goesOn_2 7 rfl rfl)
theorem dX5_goesOn_55 : decode cX5_goesOn 55 = .ok (.iadd, 1) := dk_96 (dk_at dksX5_goesOn_2 9 rfl rfl)
theorem dX5_goesOn_56 : decode cX5_goesOn 56 = .ok (.iaload, 1) := dk_46 (dk_at dksX5_goesOn_2 10 rfl rfl)
theorem dX5_goesOn_57 : decode cX5_goesOn 57 = .ok (.iload_n 2, 1) := dk_28 (dk_at dksX5_goesOn_2 11 rfl rfl)
theorem dX5_goesOn_58 : decode cX5_goesOn 58 = .ok (.invokestatic 39, 3) := dk_184 0 39 (dk_at dksX5_goesOn_2 12 rfl rfl)
theorem dX5_goesOn_61 : decode cX5_goesOn 61 = .ok (.iand, 1) := dk_126 (dk_at dksX5_goesOn_2 15 rfl rfl)
theorem dX5_goesOn_62 : decode cX5_goesOn 62 = .ok (.istore 5, 2) := dk_54 5 (dk_at dksX5_goesOn_2 16 rfl rfl)
theorem dX5_goesOn_64 : decode cX5_goesOn 64 = .ok (.iload_n 3, 1) := dk_29 (dk_at dksX5_goesOn_2 18 rfl rfl)
theorem dX5_goesOn_65 : decode cX5_goesOn 65 = .ok (.ifCond .eq 12, 3) := dk_153 0 12 (dk_at dksX5_goesOn_2 19 rfl rfl)
theorem dX5_goesOn_68 : decode cX5_goesOn 68 = .ok (.iload 5, 2) := dk_21 5 (dk_at dksX5_goesOn_2 22 rfl rfl)
theorem dX5_goesOn_70 : decode cX5_goesOn 70 = .ok (.ifCond .eq 7, 3) := dk_153 0 7 (dk_at dksX5_goesOn_3 0 rfl rfl)
theorem dX5_goesOn_73 : decode cX5_goesOn 73 = .ok (.iconst 1, 1) := dk_4 (dk_at dksX5_goesOn_3 3 rfl rfl)
theorem dX5_goesOn_74 : decode cX5_goesOn 74 = .ok (.goto 4, 3) := dk_167 0 4 (dk_at dksX5_goesOn_3 4 rfl rfl)
theorem dX5_goesOn_77 : decode cX5_goesOn 77 = .ok (.iconst 0, 1) := dk_3 (dk_at dksX5_goesOn_3 7 rfl rfl)
theorem dX5_goesOn_78 : decode cX5_goesOn 78 = .ok (.istore_n 3, 1) := dk_62 (dk_at dksX5_goesOn_3 8 rfl rfl)
theorem dX5_goesOn_79 : decode cX5_goesOn 79 = .ok (.aload_n 0, 1) := dk_42 (dk_at dksX5_goesOn_3 9 rfl rfl)
theorem dX5_goesOn_80 : decode cX5_goesOn 80 = .ok (.getfield 18, 3) := dk_180 0 18 (dk_at dksX5_goesOn_3 10 rfl rfl)
theorem dX5_goesOn_83 : decode cX5_goesOn 83 = .ok (.bipush 12, 2) := dk_16 12 (dk_at dksX5_goesOn_3 13 rfl rfl)
theorem dX5_goesOn_85 : decode cX5_goesOn 85 = .ok (.iload_n 1, 1) := dk_27 (dk_at dksX5_goesOn_3 15 rfl rfl)
theorem dX5_goesOn_86 : decode cX5_goesOn 86 = .ok (.iconst 1, 1) := dk_4 (dk_at dksX5_goesOn_3 16 rfl rfl)
theorem dX5_goesOn_87 : decode cX5_goesOn 87 = .ok (.iadd, 1) := dk_96 (dk_at dksX5_goesOn_3 17 rfl rfl)
theorem dX5_goesOn_88 : decode cX5_goesOn 88 = .ok (.imul, 1) := dk_104 (dk_at dksX5_goesOn_3 18 rfl rfl)
theorem dX5_goesOn_89 : decode cX5_goesOn 89 = .ok (.iload 4, 2) := dk_21 4 (dk_at dksX5_goesOn_3 19 rfl rfl)
theorem dX5_goesOn_91 : decode cX5_goesOn 91 = .ok (.iadd, 1) := dk_96 (dk_at dksX5_goesOn_3 21 rfl rfl)
theorem dX5_goesOn_92 : decode cX5_goesOn 92 = .ok (.iload 5, 2) := dk_21 5 (dk_at dksX5_goesOn_3 22 rfl rfl)
theorem dX5_goesOn_94 : decode cX5_goesOn 94 = .ok (.iastore, 1) := dk_79 (dk_at dksX5_goesOn_4 0 rfl rfl)
theorem dX5_goesOn_95 : decode cX5_goesOn 95 = .ok (.iinc 4 1, 3) := dk_132 4 1 (dk_at dksX5_goesOn_4 1 rfl rfl)
theorem dX5_goesOn_98 : decode cX5_goesOn 98 = .ok (.goto (-91), 3) := dk_167 255 165 (dk_at dksX5_goesOn_4 4 rfl rfl)
theorem dX5_goesOn_101 : decode cX5_goesOn 101 = .ok (.iload_n 3, 1) := dk_29 (dk_at dksX5_goesOn_4 7 rfl rfl)
theorem dX5_goesOn_102 : decode cX5_goesOn 102 = .ok (.ireturn, 1) := dk_172 (dk_at dksX5_goesOn_4 8 rfl rfl)
abbrev cX5_counts : ByteArray := prog_17_method_9_code
def yX5_counts : MethodName := ⟨RX5, "counts", "()J"⟩
def dkwX5_counts_2 : List UInt8 := [182, 0, 64, 105, 64, 132, 4, 1, 167, 255, 207, 31, 173]
abbrev dktX5_counts_2 : List UInt8 := dkwX5_counts_2 ++ []
def dkwX5_counts_1 : List UInt8 := [180, 0, 12, 21, 4, 182, 0, 57, 54, 5, 29, 21, 5, 128, 62, 42, 21, 5, 182, 0, 61, 31, 42, 3]
abbrev dktX5_counts_1 : List UInt8 := dkwX5_counts_1 ++ dktX5_counts_2
def dkwX5_counts_0 : List UInt8 := [10, 64, 3, 62, 3, 54, 4, 21, 4, 16, 12, 162, 0, 48, 29, 21, 4, 184, 0, 32, 154, 0, 33, 42]
abbrev dktX5_counts_0 : List UInt8 := dkwX5_counts_0 ++ dktX5_counts_1
theorem dksX5_counts_0 : cX5_counts.data.toList.drop 0 = dktX5_counts_0 := by decide +kernel
theorem dksX5_counts_1 : cX5_counts.data.toList.drop 24 = dktX5_counts_1 := dk_seg dksX5_counts_0 24 rfl rfl
theorem dksX5_counts_2 : cX5_counts.data.toList.drop 48 = dktX5_counts_2 := dk_seg dksX5_counts_1 24 rfl rfl
theorem dX5_counts_0 : decode cX5_counts 0 = .ok (.lconst 1, 1) := dk_10 (dk_at dksX5_counts_0 0 rfl rfl)
theorem dX5_counts_1 : decode cX5_counts 1 = .ok (.lstore_n 1, 1) := dk_64 (dk_at dksX5_counts_0 1 rfl rfl)
theorem dX5_counts_2 : decode cX5_counts 2 = .ok (.iconst 0, 1) := dk_3 (dk_at dksX5_counts_0 2 rfl rfl)
theorem dX5_counts_3 : decode cX5_counts 3 = .ok (.istore_n 3, 1) := dk_62 (dk_at dksX5_counts_0 3 rfl rfl)
theorem dX5_counts_4 : decode cX5_counts 4 = .ok (.iconst 0, 1) := dk_3 (dk_at dksX5_counts_0 4 rfl rfl)
theorem dX5_counts_5 : decode cX5_counts 5 = .ok (.istore 4, 2) := dk_54 4 (dk_at dksX5_counts_0 5 rfl rfl)
theorem dX5_counts_7 : decode cX5_counts 7 = .ok (.iload 4, 2) := dk_21 4 (dk_at dksX5_counts_0 7 rfl rfl)
theorem dX5_counts_9 : decode cX5_counts 9 = .ok (.bipush 12, 2) := dk_16 12 (dk_at dksX5_counts_0 9 rfl rfl)
theorem dX5_counts_11 : decode cX5_counts 11 = .ok (.if_icmp .ge 48, 3) := dk_162 0 48 (dk_at dksX5_counts_0 11 rfl rfl)
theorem dX5_counts_14 : decode cX5_counts 14 = .ok (.iload_n 3, 1) := dk_29 (dk_at dksX5_counts_0 14 rfl rfl)
theorem dX5_counts_15 : decode cX5_counts 15 = .ok (.iload 4, 2) := dk_21 4 (dk_at dksX5_counts_0 15 rfl rfl)
theorem dX5_counts_17 : decode cX5_counts 17 = .ok (.invokestatic 32, 3) := dk_184 0 32 (dk_at dksX5_counts_0 17 rfl rfl)
theorem dX5_counts_20 : decode cX5_counts 20 = .ok (.ifCond .ne 33, 3) := dk_154 0 33 (dk_at dksX5_counts_0 20 rfl rfl)
theorem dX5_counts_23 : decode cX5_counts 23 = .ok (.aload_n 0, 1) := dk_42 (dk_at dksX5_counts_0 23 rfl rfl)
theorem dX5_counts_24 : decode cX5_counts 24 = .ok (.getfield 12, 3) := dk_180 0 12 (dk_at dksX5_counts_1 0 rfl rfl)
theorem dX5_counts_27 : decode cX5_counts 27 = .ok (.iload 4, 2) := dk_21 4 (dk_at dksX5_counts_1 3 rfl rfl)
theorem dX5_counts_29 : decode cX5_counts 29 = .ok (.invokevirtual 57, 3) := dk_182 0 57 (dk_at dksX5_counts_1 5 rfl rfl)
theorem dX5_counts_32 : decode cX5_counts 32 = .ok (.istore 5, 2) := dk_54 5 (dk_at dksX5_counts_1 8 rfl rfl)
theorem dX5_counts_34 : decode cX5_counts 34 = .ok (.iload_n 3, 1) := dk_29 (dk_at dksX5_counts_1 10 rfl rfl)
theorem dX5_counts_35 : decode cX5_counts 35 = .ok (.iload 5, 2) := dk_21 5 (dk_at dksX5_counts_1 11 rfl rfl)
theorem dX5_counts_37 : decode cX5_counts 37 = .ok (.ior, 1) := dk_128 (dk_at dksX5_counts_1 13 rfl rfl)
theorem dX5_counts_38 : decode cX5_counts 38 = .ok (.istore_n 3, 1) := dk_62 (dk_at dksX5_counts_1 14 rfl rfl)
theorem dX5_counts_39 : decode cX5_counts 39 = .ok (.aload_n 0, 1) := dk_42 (dk_at dksX5_counts_1 15 rfl rfl)
theorem dX5_counts_40 : decode cX5_counts 40 = .ok (.iload 5, 2) := dk_21 5 (dk_at dksX5_counts_1 16 rfl rfl)
theorem dX5_counts_42 : decode cX5_counts 42 = .ok (.invokevirtual 61, 3) := dk_182 0 61 (dk_at dksX5_counts_1 18 rfl rfl)
theorem dX5_counts_45 : decode cX5_counts 45 = .ok (.lload_n 1, 1) := dk_31 (dk_at dksX5_counts_1 21 rfl rfl)
theorem dX5_counts_46 : decode cX5_counts 46 = .ok (.aload_n 0, 1) := dk_42 (dk_at dksX5_counts_1 22 rfl rfl)
theorem dX5_counts_47 : decode cX5_counts 47 = .ok (.iconst 0, 1) := dk_3 (dk_at dksX5_counts_1 23 rfl rfl)
theorem dX5_counts_48 : decode cX5_counts 48 = .ok (.invokevirtual 64, 3) := dk_182 0 64 (dk_at dksX5_counts_2 0 rfl rfl)
theorem dX5_counts_51 : decode cX5_counts 51 = .ok (.lmul, 1) := dk_105 (dk_at dksX5_counts_2 3 rfl rfl)
theorem dX5_counts_52 : decode cX5_counts 52 = .ok (.lstore_n 1, 1) := dk_64 (dk_at dksX5_counts_2 4 rfl rfl)
theorem dX5_counts_53 : decode cX5_counts 53 = .ok (.iinc 4 1, 3) := dk_132 4 1 (dk_at dksX5_counts_2 5 rfl rfl)
theorem dX5_counts_56 : decode cX5_counts 56 = .ok (.goto (-49), 3) := dk_167 255 207 (dk_at dksX5_counts_2 8 rfl rfl)
theorem dX5_counts_59 : decode cX5_counts 59 = .ok (.lload_n 1, 1) := dk_31 (dk_at dksX5_counts_2 11 rfl rfl)
theorem dX5_counts_60 : decode cX5_counts 60 = .ok (.lreturn, 1) := dk_173 (dk_at dksX5_counts_2 12 rfl rfl)
abbrev cX5_counted : ByteArray := prog_17_method_10_code
def yX5_counted : MethodName := ⟨RX5, "counted", "(I)J"⟩
def dkwX5_counted_3 : List UInt8 := [167, 0, 4, 9, 97, 65, 132, 4, 1, 167, 255, 213, 32, 173]
abbrev dktX5_counted_3 : List UInt8 := dkwX5_counted_3 ++ []
def dkwX5_counted_2 : List UInt8 := [182, 0, 51, 153, 0, 23, 42, 27, 21, 4, 182, 0, 54, 153, 0, 13, 42, 27, 4, 96, 182, 0, 64]
abbrev dktX5_counted_2 : List UInt8 := dkwX5_counted_2 ++ dktX5_counted_3
def dkwX5_counted_1 : List UInt8 := [42, 27, 4, 96, 182, 0, 64, 173, 9, 65, 4, 54, 4, 21, 4, 6, 163, 0, 43, 32, 42, 27, 21, 4]
abbrev dktX5_counted_1 : List UInt8 := dkwX5_counted_1 ++ dktX5_counted_2
def dkwX5_counted_0 : List UInt8 := [27, 16, 12, 160, 0, 5, 10, 173, 42, 180, 0, 25, 27, 184, 0, 32, 154, 0, 16, 42, 27, 182, 0, 47]
abbrev dktX5_counted_0 : List UInt8 := dkwX5_counted_0 ++ dktX5_counted_1
theorem dksX5_counted_0 : cX5_counted.data.toList.drop 0 = dktX5_counted_0 := by decide +kernel
theorem dksX5_counted_1 : cX5_counted.data.toList.drop 24 = dktX5_counted_1 := dk_seg dksX5_counted_0 24 rfl rfl
theorem dksX5_counted_2 : cX5_counted.data.toList.drop 48 = dktX5_counted_2 := dk_seg dksX5_counted_1 24 rfl rfl
theorem dksX5_counted_3 : cX5_counted.data.toList.drop 71 = dktX5_counted_3 := dk_seg dksX5_counted_2 23 rfl rfl
theorem dX5_counted_0 : decode cX5_counted 0 = .ok (.iload_n 1, 1) := dk_27 (dk_at dksX5_counted_0 0 rfl rfl)
theorem dX5_counted_1 : decode cX5_counted 1 = .ok (.bipush 12, 2) := dk_16 12 (dk_at dksX5_counted_0 1 rfl rfl)
theorem dX5_counted_3 : decode cX5_counted 3 = .ok (.if_icmp .ne 5, 3) := dk_160 0 5 (dk_at dksX5_counted_0 3 rfl rfl)
theorem dX5_counted_6 : decode cX5_counted 6 = .ok (.lconst 1, 1) := dk_10 (dk_at dksX5_counted_0 6 rfl rfl)
theorem dX5_counted_7 : decode cX5_counted 7 = .ok (.lreturn, 1) := dk_173 (dk_at dksX5_counted_0 7 rfl rfl)
theorem dX5_counted_8 : decode cX5_counted 8 = .ok (.aload_n 0, 1) := dk_42 (dk_at dksX5_counted_0 8 rfl rfl)
theorem dX5_counted_9 : decode cX5_counted 9 = .ok (.getfield 25, 3) := dk_180 0 25 (dk_at dksX5_counted_0 9 rfl rfl)
theorem dX5_counted_12 : decode cX5_counted 12 = .ok (.iload_n 1, 1) := dk_27 (dk_at dksX5_counted_0 12 rfl rfl)
theorem dX5_counted_13 : decode cX5_counted 13 = .ok (.invokestatic 32, 3) := dk_184 0 32 (dk_at dksX5_counted_0 13 rfl rfl)
theorem dX5_counted_16 : decode cX5_counted 16 = .ok (.ifCond .ne 16, 3) := dk_154 0 16 (dk_at dksX5_counted_0 16 rfl rfl)
theorem dX5_counted_19 : decode cX5_counted 19 = .ok (.aload_n 0, 1) := dk_42 (dk_at dksX5_counted_0 19 rfl rfl)
theorem dX5_counted_20 : decode cX5_counted 20 = .ok (.iload_n 1, 1) := dk_27 (dk_at dksX5_counted_0 20 rfl rfl)
theorem dX5_counted_21 : decode cX5_counted 21 = .ok (.invokevirtual 47, 3) := dk_182 0 47 (dk_at dksX5_counted_0 21 rfl rfl)
theorem dX5_counted_24 : decode cX5_counted 24 = .ok (.aload_n 0, 1) := dk_42 (dk_at dksX5_counted_1 0 rfl rfl)
theorem dX5_counted_25 : decode cX5_counted 25 = .ok (.iload_n 1, 1) := dk_27 (dk_at dksX5_counted_1 1 rfl rfl)
theorem dX5_counted_26 : decode cX5_counted 26 = .ok (.iconst 1, 1) := dk_4 (dk_at dksX5_counted_1 2 rfl rfl)
theorem dX5_counted_27 : decode cX5_counted 27 = .ok (.iadd, 1) := dk_96 (dk_at dksX5_counted_1 3 rfl rfl)
theorem dX5_counted_28 : decode cX5_counted 28 = .ok (.invokevirtual 64, 3) := dk_182 0 64 (dk_at dksX5_counted_1 4 rfl rfl)
theorem dX5_counted_31 : decode cX5_counted 31 = .ok (.lreturn, 1) := dk_173 (dk_at dksX5_counted_1 7 rfl rfl)
theorem dX5_counted_32 : decode cX5_counted 32 = .ok (.lconst 0, 1) := dk_9 (dk_at dksX5_counted_1 8 rfl rfl)
theorem dX5_counted_33 : decode cX5_counted 33 = .ok (.lstore_n 2, 1) := dk_65 (dk_at dksX5_counted_1 9 rfl rfl)
theorem dX5_counted_34 : decode cX5_counted 34 = .ok (.iconst 1, 1) := dk_4 (dk_at dksX5_counted_1 10 rfl rfl)
theorem dX5_counted_35 : decode cX5_counted 35 = .ok (.istore 4, 2) := dk_54 4 (dk_at dksX5_counted_1 11 rfl rfl)
theorem dX5_counted_37 : decode cX5_counted 37 = .ok (.iload 4, 2) := dk_21 4 (dk_at dksX5_counted_1 13 rfl rfl)
theorem dX5_counted_39 : decode cX5_counted 39 = .ok (.iconst 3, 1) := dk_6 (dk_at dksX5_counted_1 15 rfl rfl)
theorem dX5_counted_40 : decode cX5_counted 40 = .ok (.if_icmp .gt 43, 3) := dk_163 0 43 (dk_at dksX5_counted_1 16 rfl rfl)
theorem dX5_counted_43 : decode cX5_counted 43 = .ok (.lload_n 2, 1) := dk_32 (dk_at dksX5_counted_1 19 rfl rfl)
theorem dX5_counted_44 : decode cX5_counted 44 = .ok (.aload_n 0, 1) := dk_42 (dk_at dksX5_counted_1 20 rfl rfl)
theorem dX5_counted_45 : decode cX5_counted 45 = .ok (.iload_n 1, 1) := dk_27 (dk_at dksX5_counted_1 21 rfl rfl)
theorem dX5_counted_46 : decode cX5_counted 46 = .ok (.iload 4, 2) := dk_21 4 (dk_at dksX5_counted_1 22 rfl rfl)
theorem dX5_counted_48 : decode cX5_counted 48 = .ok (.invokevirtual 51, 3) := dk_182 0 51 (dk_at dksX5_counted_2 0 rfl rfl)
theorem dX5_counted_51 : decode cX5_counted 51 = .ok (.ifCond .eq 23, 3) := dk_153 0 23 (dk_at dksX5_counted_2 3 rfl rfl)
theorem dX5_counted_54 : decode cX5_counted 54 = .ok (.aload_n 0, 1) := dk_42 (dk_at dksX5_counted_2 6 rfl rfl)
theorem dX5_counted_55 : decode cX5_counted 55 = .ok (.iload_n 1, 1) := dk_27 (dk_at dksX5_counted_2 7 rfl rfl)
theorem dX5_counted_56 : decode cX5_counted 56 = .ok (.iload 4, 2) := dk_21 4 (dk_at dksX5_counted_2 8 rfl rfl)
theorem dX5_counted_58 : decode cX5_counted 58 = .ok (.invokevirtual 54, 3) := dk_182 0 54 (dk_at dksX5_counted_2 10 rfl rfl)
theorem dX5_counted_61 : decode cX5_counted 61 = .ok (.ifCond .eq 13, 3) := dk_153 0 13 (dk_at dksX5_counted_2 13 rfl rfl)
theorem dX5_counted_64 : decode cX5_counted 64 = .ok (.aload_n 0, 1) := dk_42 (dk_at dksX5_counted_2 16 rfl rfl)
theorem dX5_counted_65 : decode cX5_counted 65 = .ok (.iload_n 1, 1) := dk_27 (dk_at dksX5_counted_2 17 rfl rfl)
theorem dX5_counted_66 : decode cX5_counted 66 = .ok (.iconst 1, 1) := dk_4 (dk_at dksX5_counted_2 18 rfl rfl)
theorem dX5_counted_67 : decode cX5_counted 67 = .ok (.iadd, 1) := dk_96 (dk_at dksX5_counted_2 19 rfl rfl)
theorem dX5_counted_68 : decode cX5_counted 68 = .ok (.invokevirtual 64, 3) := dk_182 0 64 (dk_at dksX5_counted_2 20 rfl rfl)
theorem dX5_counted_71 : decode cX5_counted 71 = .ok (.goto 4, 3) := dk_167 0 4 (dk_at dksX5_counted_3 0 rfl rfl)
theorem dX5_counted_74 : decode cX5_counted 74 = .ok (.lconst 0, 1) := dk_9 (dk_at dksX5_counted_3 3 rfl rfl)
theorem dX5_counted_75 : decode cX5_counted 75 = .ok (.ladd, 1) := dk_97 (dk_at dksX5_counted_3 4 rfl rfl)
theorem dX5_counted_76 : decode cX5_counted 76 = .ok (.lstore_n 2, 1) := dk_65 (dk_at dksX5_counted_3 5 rfl rfl)
theorem dX5_counted_77 : decode cX5_counted 77 = .ok (.iinc 4 1, 3) := dk_132 4 1 (dk_at dksX5_counted_3 6 rfl rfl)
theorem dX5_counted_80 : decode cX5_counted 80 = .ok (.goto (-43), 3) := dk_167 255 213 (dk_at dksX5_counted_3 9 rfl rfl)
theorem dX5_counted_83 : decode cX5_counted 83 = .ok (.lload_n 2, 1) := dk_32 (dk_at dksX5_counted_3 12 rfl rfl)
theorem dX5_counted_84 : decode cX5_counted 84 = .ok (.lreturn, 1) := dk_173 (dk_at dksX5_counted_3 13 rfl rfl)
abbrev cX5_keep : ByteArray := prog_17_method_3_code
def yX5_keep : MethodName := ⟨RX5, "keep", "(II)V"⟩
def dkwX5_keep_0 : List UInt8 := [42, 180, 0, 18, 27, 92, 46, 4, 28, 120, 126, 79, 177]
abbrev dktX5_keep_0 : List UInt8 := dkwX5_keep_0 ++ []
theorem dksX5_keep_0 : cX5_keep.data.toList.drop 0 = dktX5_keep_0 := by decide +kernel
theorem dX5_keep_0 : decode cX5_keep 0 = .ok (.aload_n 0, 1) := dk_42 (dk_at dksX5_keep_0 0 rfl rfl)
theorem dX5_keep_1 : decode cX5_keep 1 = .ok (.getfield 18, 3) := dk_180 0 18 (dk_at dksX5_keep_0 1 rfl rfl)
theorem dX5_keep_4 : decode cX5_keep 4 = .ok (.iload_n 1, 1) := dk_27 (dk_at dksX5_keep_0 4 rfl rfl)
theorem dX5_keep_5 : decode cX5_keep 5 = .ok (.dup2, 1) := dk_92 (dk_at dksX5_keep_0 5 rfl rfl)
theorem dX5_keep_6 : decode cX5_keep 6 = .ok (.iaload, 1) := dk_46 (dk_at dksX5_keep_0 6 rfl rfl)
theorem dX5_keep_7 : decode cX5_keep 7 = .ok (.iconst 1, 1) := dk_4 (dk_at dksX5_keep_0 7 rfl rfl)
theorem dX5_keep_8 : decode cX5_keep 8 = .ok (.iload_n 2, 1) := dk_28 (dk_at dksX5_keep_0 8 rfl rfl)
theorem dX5_keep_9 : decode cX5_keep 9 = .ok (.ishl, 1) := dk_120 (dk_at dksX5_keep_0 9 rfl rfl)
theorem dX5_keep_10 : decode cX5_keep 10 = .ok (.iand, 1) := dk_126 (dk_at dksX5_keep_0 10 rfl rfl)
theorem dX5_keep_11 : decode cX5_keep 11 = .ok (.iastore, 1) := dk_79 (dk_at dksX5_keep_0 11 rfl rfl)
theorem dX5_keep_12 : decode cX5_keep 12 = .ok (.return_, 1) := dk_177 (dk_at dksX5_keep_0 12 rfl rfl)
abbrev cX5_nearest : ByteArray := prog_17_method_11_code
def yX5_nearest : MethodName := ⟨RX5, "nearest", "([I)I"⟩
def dkwX5_nearest_3 : List UInt8 := [172]
abbrev dktX5_nearest_3 : List UInt8 := dkwX5_nearest_3 ++ []
def dkwX5_nearest_2 : List UInt8 := [181, 0, 68, 42, 3, 3, 43, 182, 0, 71, 28, 42, 180, 0, 68, 96, 61, 132, 4, 1, 167, 255, 195, 28]
abbrev dktX5_nearest_2 : List UInt8 := dkwX5_nearest_2 ++ dktX5_nearest_3
def dkwX5_nearest_1 : List UInt8 := [180, 0, 12, 21, 4, 182, 0, 57, 54, 5, 29, 21, 5, 128, 62, 42, 21, 5, 182, 0, 61, 42, 16, 13]
abbrev dktX5_nearest_1 : List UInt8 := dkwX5_nearest_1 ++ dktX5_nearest_2
def dkwX5_nearest_0 : List UInt8 := [3, 61, 3, 62, 3, 54, 4, 21, 4, 16, 12, 162, 0, 60, 29, 21, 4, 184, 0, 32, 154, 0, 45, 42]
abbrev dktX5_nearest_0 : List UInt8 := dkwX5_nearest_0 ++ dktX5_nearest_1
theorem dksX5_nearest_0 : cX5_nearest.data.toList.drop 0 = dktX5_nearest_0 := by decide +kernel
theorem dksX5_nearest_1 : cX5_nearest.data.toList.drop 24 = dktX5_nearest_1 := dk_seg dksX5_nearest_0 24 rfl rfl
theorem dksX5_nearest_2 : cX5_nearest.data.toList.drop 48 = dktX5_nearest_2 := dk_seg dksX5_nearest_1 24 rfl rfl
theorem dksX5_nearest_3 : cX5_nearest.data.toList.drop 72 = dktX5_nearest_3 := dk_seg dksX5_nearest_2 24 rfl rfl
theorem dX5_nearest_0 : decode cX5_nearest 0 = .ok (.iconst 0, 1) := dk_3 (dk_at dksX5_nearest_0 0 rfl rfl)
theorem dX5_nearest_1 : decode cX5_nearest 1 = .ok (.istore_n 2, 1) := dk_61 (dk_at dksX5_nearest_0 1 rfl rfl)
theorem dX5_nearest_2 : decode cX5_nearest 2 = .ok (.iconst 0, 1) := dk_3 (dk_at dksX5_nearest_0 2 rfl rfl)
theorem dX5_nearest_3 : decode cX5_nearest 3 = .ok (.istore_n 3, 1) := dk_62 (dk_at dksX5_nearest_0 3 rfl rfl)
theorem dX5_nearest_4 : decode cX5_nearest 4 = .ok (.iconst 0, 1) := dk_3 (dk_at dksX5_nearest_0 4 rfl rfl)
theorem dX5_nearest_5 : decode cX5_nearest 5 = .ok (.istore 4, 2) := dk_54 4 (dk_at dksX5_nearest_0 5 rfl rfl)
theorem dX5_nearest_7 : decode cX5_nearest 7 = .ok (.iload 4, 2) := dk_21 4 (dk_at dksX5_nearest_0 7 rfl rfl)
theorem dX5_nearest_9 : decode cX5_nearest 9 = .ok (.bipush 12, 2) := dk_16 12 (dk_at dksX5_nearest_0 9 rfl rfl)
theorem dX5_nearest_11 : decode cX5_nearest 11 = .ok (.if_icmp .ge 60, 3) := dk_162 0 60 (dk_at dksX5_nearest_0 11 rfl rfl)
theorem dX5_nearest_14 : decode cX5_nearest 14 = .ok (.iload_n 3, 1) := dk_29 (dk_at dksX5_nearest_0 14 rfl rfl)
theorem dX5_nearest_15 : decode cX5_nearest 15 = .ok (.iload 4, 2) := dk_21 4 (dk_at dksX5_nearest_0 15 rfl rfl)
theorem dX5_nearest_17 : decode cX5_nearest 17 = .ok (.invokestatic 32, 3) := dk_184 0 32 (dk_at dksX5_nearest_0 17 rfl rfl)
theorem dX5_nearest_20 : decode cX5_nearest 20 = .ok (.ifCond .ne 45, 3) := dk_154 0 45 (dk_at dksX5_nearest_0 20 rfl rfl)
theorem dX5_nearest_23 : decode cX5_nearest 23 = .ok (.aload_n 0, 1) := dk_42 (dk_at dksX5_nearest_0 23 rfl rfl)
theorem dX5_nearest_24 : decode cX5_nearest 24 = .ok (.getfield 12, 3) := dk_180 0 12 (dk_at dksX5_nearest_1 0 rfl rfl)
theorem dX5_nearest_27 : decode cX5_nearest 27 = .ok (.iload 4, 2) := dk_21 4 (dk_at dksX5_nearest_1 3 rfl rfl)
theorem dX5_nearest_29 : decode cX5_nearest 29 = .ok (.invokevirtual 57, 3) := dk_182 0 57 (dk_at dksX5_nearest_1 5 rfl rfl)
theorem dX5_nearest_32 : decode cX5_nearest 32 = .ok (.istore 5, 2) := dk_54 5 (dk_at dksX5_nearest_1 8 rfl rfl)
theorem dX5_nearest_34 : decode cX5_nearest 34 = .ok (.iload_n 3, 1) := dk_29 (dk_at dksX5_nearest_1 10 rfl rfl)
theorem dX5_nearest_35 : decode cX5_nearest 35 = .ok (.iload 5, 2) := dk_21 5 (dk_at dksX5_nearest_1 11 rfl rfl)
theorem dX5_nearest_37 : decode cX5_nearest 37 = .ok (.ior, 1) := dk_128 (dk_at dksX5_nearest_1 13 rfl rfl)
theorem dX5_nearest_38 : decode cX5_nearest 38 = .ok (.istore_n 3, 1) := dk_62 (dk_at dksX5_nearest_1 14 rfl rfl)
theorem dX5_nearest_39 : decode cX5_nearest 39 = .ok (.aload_n 0, 1) := dk_42 (dk_at dksX5_nearest_1 15 rfl rfl)
theorem dX5_nearest_40 : decode cX5_nearest 40 = .ok (.iload 5, 2) := dk_21 5 (dk_at dksX5_nearest_1 16 rfl rfl)
theorem dX5_nearest_42 : decode cX5_nearest 42 = .ok (.invokevirtual 61, 3) := dk_182 0 61 (dk_at dksX5_nearest_1 18 rfl rfl)
theorem dX5_nearest_45 : decode cX5_nearest 45 = .ok (.aload_n 0, 1) := dk_42 (dk_at dksX5_nearest_1 21 rfl rfl)
theorem dX5_nearest_46 : decode cX5_nearest 46 = .ok (.bipush 13, 2) := dk_16 13 (dk_at dksX5_nearest_1 22 rfl rfl)
theorem dX5_nearest_48 : decode cX5_nearest 48 = .ok (.putfield 68, 3) := dk_181 0 68 (dk_at dksX5_nearest_2 0 rfl rfl)
theorem dX5_nearest_51 : decode cX5_nearest 51 = .ok (.aload_n 0, 1) := dk_42 (dk_at dksX5_nearest_2 3 rfl rfl)
theorem dX5_nearest_52 : decode cX5_nearest 52 = .ok (.iconst 0, 1) := dk_3 (dk_at dksX5_nearest_2 4 rfl rfl)
theorem dX5_nearest_53 : decode cX5_nearest 53 = .ok (.iconst 0, 1) := dk_3 (dk_at dksX5_nearest_2 5 rfl rfl)
theorem dX5_nearest_54 : decode cX5_nearest 54 = .ok (.aload_n 1, 1) := dk_43 (dk_at dksX5_nearest_2 6 rfl rfl)
theorem dX5_nearest_55 : decode cX5_nearest 55 = .ok (.invokevirtual 71, 3) := dk_182 0 71 (dk_at dksX5_nearest_2 7 rfl rfl)
theorem dX5_nearest_58 : decode cX5_nearest 58 = .ok (.iload_n 2, 1) := dk_28 (dk_at dksX5_nearest_2 10 rfl rfl)
theorem dX5_nearest_59 : decode cX5_nearest 59 = .ok (.aload_n 0, 1) := dk_42 (dk_at dksX5_nearest_2 11 rfl rfl)
theorem dX5_nearest_60 : decode cX5_nearest 60 = .ok (.getfield 68, 3) := dk_180 0 68 (dk_at dksX5_nearest_2 12 rfl rfl)
theorem dX5_nearest_63 : decode cX5_nearest 63 = .ok (.iadd, 1) := dk_96 (dk_at dksX5_nearest_2 15 rfl rfl)
theorem dX5_nearest_64 : decode cX5_nearest 64 = .ok (.istore_n 2, 1) := dk_61 (dk_at dksX5_nearest_2 16 rfl rfl)
theorem dX5_nearest_65 : decode cX5_nearest 65 = .ok (.iinc 4 1, 3) := dk_132 4 1 (dk_at dksX5_nearest_2 17 rfl rfl)
theorem dX5_nearest_68 : decode cX5_nearest 68 = .ok (.goto (-61), 3) := dk_167 255 195 (dk_at dksX5_nearest_2 20 rfl rfl)
theorem dX5_nearest_71 : decode cX5_nearest 71 = .ok (.iload_n 2, 1) := dk_28 (dk_at dksX5_nearest_2 23 rfl rfl)
theorem dX5_nearest_72 : decode cX5_nearest 72 = .ok (.ireturn, 1) := dk_172 (dk_at dksX5_nearest_3 0 rfl rfl)
abbrev cX5_nears : ByteArray := prog_17_method_12_code
def yX5_nears : MethodName := ⟨RX5, "nears", "(II[I)V"⟩
def dkwX5_nears_5 : List UInt8 := [153, 0, 14, 42, 27, 4, 96, 28, 4, 96, 45, 182, 0, 71, 132, 5, 1, 167, 255, 209, 177]
abbrev dktX5_nears_5 : List UInt8 := dkwX5_nears_5 ++ []
def dkwX5_nears_4 : List UInt8 := [21, 4, 159, 0, 34, 42, 27, 21, 5, 182, 0, 51, 153, 0, 24, 42, 27, 21, 5, 182, 0, 54]
abbrev dktX5_nears_4 : List UInt8 := dkwX5_nears_4 ++ dktX5_nears_5
def dkwX5_nears_3 : List UInt8 := [153, 0, 12, 42, 27, 4, 96, 28, 45, 182, 0, 71, 4, 54, 5, 21, 5, 6, 163, 0, 47, 21, 5]
abbrev dktX5_nears_3 : List UInt8 := dkwX5_nears_3 ++ dktX5_nears_4
def dkwX5_nears_2 : List UInt8 := [177, 45, 27, 46, 54, 4, 42, 27, 21, 4, 182, 0, 51, 153, 0, 22, 42, 27, 21, 4, 182, 0, 54]
abbrev dktX5_nears_2 : List UInt8 := dkwX5_nears_2 ++ dktX5_nears_3
def dkwX5_nears_1 : List UInt8 := [180, 0, 25, 27, 184, 0, 32, 154, 0, 18, 42, 27, 182, 0, 47, 42, 27, 4, 96, 28, 45, 182, 0, 71]
abbrev dktX5_nears_1 : List UInt8 := dkwX5_nears_1 ++ dktX5_nears_2
def dkwX5_nears_0 : List UInt8 := [28, 42, 180, 0, 68, 161, 0, 4, 177, 27, 16, 12, 160, 0, 9, 42, 28, 181, 0, 68, 177, 42]
abbrev dktX5_nears_0 : List UInt8 := dkwX5_nears_0 ++ dktX5_nears_1
theorem dksX5_nears_0 : cX5_nears.data.toList.drop 0 = dktX5_nears_0 := by decide +kernel
theorem dksX5_nears_1 : cX5_nears.data.toList.drop 22 = dktX5_nears_1 := dk_seg dksX5_nears_0 22 rfl rfl
theorem dksX5_nears_2 : cX5_nears.data.toList.drop 46 = dktX5_nears_2 := dk_seg dksX5_nears_1 24 rfl rfl
theorem dksX5_nears_3 : cX5_nears.data.toList.drop 69 = dktX5_nears_3 := dk_seg dksX5_nears_2 23 rfl rfl
theorem dksX5_nears_4 : cX5_nears.data.toList.drop 92 = dktX5_nears_4 := dk_seg dksX5_nears_3 23 rfl rfl
theorem dksX5_nears_5 : cX5_nears.data.toList.drop 114 = dktX5_nears_5 := dk_seg dksX5_nears_4 22 rfl rfl
theorem dX5_nears_0 : decode cX5_nears 0 = .ok (.iload_n 2, 1) := dk_28 (dk_at dksX5_nears_0 0 rfl rfl)
theorem dX5_nears_1 : decode cX5_nears 1 = .ok (.aload_n 0, 1) := dk_42 (dk_at dksX5_nears_0 1 rfl rfl)
theorem dX5_nears_2 : decode cX5_nears 2 = .ok (.getfield 68, 3) := dk_180 0 68 (dk_at dksX5_nears_0 2 rfl rfl)
theorem dX5_nears_5 : decode cX5_nears 5 = .ok (.if_icmp .lt 4, 3) := dk_161 0 4 (dk_at dksX5_nears_0 5 rfl rfl)
theorem dX5_nears_8 : decode cX5_nears 8 = .ok (.return_, 1) := dk_177 (dk_at dksX5_nears_0 8 rfl rfl)
theorem dX5_nears_9 : decode cX5_nears 9 = .ok (.iload_n 1, 1) := dk_27 (dk_at dksX5_nears_0 9 rfl rfl)
theorem dX5_nears_10 : decode cX5_nears 10 = .ok (.bipush 12, 2) := dk_16 12 (dk_at dksX5_nears_0 10 rfl rfl)
theorem dX5_nears_12 : decode cX5_nears 12 = .ok (.if_icmp .ne 9, 3) := dk_160 0 9 (dk_at dksX5_nears_0 12 rfl rfl)
theorem dX5_nears_15 : decode cX5_nears 15 = .ok (.aload_n 0, 1) := dk_42 (dk_at dksX5_nears_0 15 rfl rfl)
theorem dX5_nears_16 : decode cX5_nears 16 = .ok (.iload_n 2, 1) := dk_28 (dk_at dksX5_nears_0 16 rfl rfl)
theorem dX5_nears_17 : decode cX5_nears 17 = .ok (.putfield 68, 3) := dk_181 0 68 (dk_at dksX5_nears_0 17 rfl rfl)
theorem dX5_nears_20 : decode cX5_nears 20 = .ok (.return_, 1) := dk_177 (dk_at dksX5_nears_0 20 rfl rfl)
theorem dX5_nears_21 : decode cX5_nears 21 = .ok (.aload_n 0, 1) := dk_42 (dk_at dksX5_nears_0 21 rfl rfl)
theorem dX5_nears_22 : decode cX5_nears 22 = .ok (.getfield 25, 3) := dk_180 0 25 (dk_at dksX5_nears_1 0 rfl rfl)
theorem dX5_nears_25 : decode cX5_nears 25 = .ok (.iload_n 1, 1) := dk_27 (dk_at dksX5_nears_1 3 rfl rfl)
theorem dX5_nears_26 : decode cX5_nears 26 = .ok (.invokestatic 32, 3) := dk_184 0 32 (dk_at dksX5_nears_1 4 rfl rfl)
theorem dX5_nears_29 : decode cX5_nears 29 = .ok (.ifCond .ne 18, 3) := dk_154 0 18 (dk_at dksX5_nears_1 7 rfl rfl)
theorem dX5_nears_32 : decode cX5_nears 32 = .ok (.aload_n 0, 1) := dk_42 (dk_at dksX5_nears_1 10 rfl rfl)
theorem dX5_nears_33 : decode cX5_nears 33 = .ok (.iload_n 1, 1) := dk_27 (dk_at dksX5_nears_1 11 rfl rfl)
theorem dX5_nears_34 : decode cX5_nears 34 = .ok (.invokevirtual 47, 3) := dk_182 0 47 (dk_at dksX5_nears_1 12 rfl rfl)
theorem dX5_nears_37 : decode cX5_nears 37 = .ok (.aload_n 0, 1) := dk_42 (dk_at dksX5_nears_1 15 rfl rfl)
theorem dX5_nears_38 : decode cX5_nears 38 = .ok (.iload_n 1, 1) := dk_27 (dk_at dksX5_nears_1 16 rfl rfl)
theorem dX5_nears_39 : decode cX5_nears 39 = .ok (.iconst 1, 1) := dk_4 (dk_at dksX5_nears_1 17 rfl rfl)
theorem dX5_nears_40 : decode cX5_nears 40 = .ok (.iadd, 1) := dk_96 (dk_at dksX5_nears_1 18 rfl rfl)
theorem dX5_nears_41 : decode cX5_nears 41 = .ok (.iload_n 2, 1) := dk_28 (dk_at dksX5_nears_1 19 rfl rfl)
theorem dX5_nears_42 : decode cX5_nears 42 = .ok (.aload_n 3, 1) := dk_45 (dk_at dksX5_nears_1 20 rfl rfl)
theorem dX5_nears_43 : decode cX5_nears 43 = .ok (.invokevirtual 71, 3) := dk_182 0 71 (dk_at dksX5_nears_1 21 rfl rfl)
theorem dX5_nears_46 : decode cX5_nears 46 = .ok (.return_, 1) := dk_177 (dk_at dksX5_nears_2 0 rfl rfl)
theorem dX5_nears_47 : decode cX5_nears 47 = .ok (.aload_n 3, 1) := dk_45 (dk_at dksX5_nears_2 1 rfl rfl)
theorem dX5_nears_48 : decode cX5_nears 48 = .ok (.iload_n 1, 1) := dk_27 (dk_at dksX5_nears_2 2 rfl rfl)
theorem dX5_nears_49 : decode cX5_nears 49 = .ok (.iaload, 1) := dk_46 (dk_at dksX5_nears_2 3 rfl rfl)
theorem dX5_nears_50 : decode cX5_nears 50 = .ok (.istore 4, 2) := dk_54 4 (dk_at dksX5_nears_2 4 rfl rfl)
theorem dX5_nears_52 : decode cX5_nears 52 = .ok (.aload_n 0, 1) := dk_42 (dk_at dksX5_nears_2 6 rfl rfl)
theorem dX5_nears_53 : decode cX5_nears 53 = .ok (.iload_n 1, 1) := dk_27 (dk_at dksX5_nears_2 7 rfl rfl)
theorem dX5_nears_54 : decode cX5_nears 54 = .ok (.iload 4, 2) := dk_21 4 (dk_at dksX5_nears_2 8 rfl rfl)
theorem dX5_nears_56 : decode cX5_nears 56 = .ok (.invokevirtual 51, 3) := dk_182 0 51 (dk_at dksX5_nears_2 10 rfl rfl)
theorem dX5_nears_59 : decode cX5_nears 59 = .ok (.ifCond .eq 22, 3) := dk_153 0 22 (dk_at dksX5_nears_2 13 rfl rfl)
theorem dX5_nears_62 : decode cX5_nears 62 = .ok (.aload_n 0, 1) := dk_42 (dk_at dksX5_nears_2 16 rfl rfl)
theorem dX5_nears_63 : decode cX5_nears 63 = .ok (.iload_n 1, 1) := dk_27 (dk_at dksX5_nears_2 17 rfl rfl)
theorem dX5_nears_64 : decode cX5_nears 64 = .ok (.iload 4, 2) := dk_21 4 (dk_at dksX5_nears_2 18 rfl rfl)
theorem dX5_nears_66 : decode cX5_nears 66 = .ok (.invokevirtual 54, 3) := dk_182 0 54 (dk_at dksX5_nears_2 20 rfl rfl)
theorem dX5_nears_69 : decode cX5_nears 69 = .ok (.ifCond .eq 12, 3) := dk_153 0 12 (dk_at dksX5_nears_3 0 rfl rfl)
theorem dX5_nears_72 : decode cX5_nears 72 = .ok (.aload_n 0, 1) := dk_42 (dk_at dksX5_nears_3 3 rfl rfl)
theorem dX5_nears_73 : decode cX5_nears 73 = .ok (.iload_n 1, 1) := dk_27 (dk_at dksX5_nears_3 4 rfl rfl)
theorem dX5_nears_74 : decode cX5_nears 74 = .ok (.iconst 1, 1) := dk_4 (dk_at dksX5_nears_3 5 rfl rfl)
theorem dX5_nears_75 : decode cX5_nears 75 = .ok (.iadd, 1) := dk_96 (dk_at dksX5_nears_3 6 rfl rfl)
theorem dX5_nears_76 : decode cX5_nears 76 = .ok (.iload_n 2, 1) := dk_28 (dk_at dksX5_nears_3 7 rfl rfl)
theorem dX5_nears_77 : decode cX5_nears 77 = .ok (.aload_n 3, 1) := dk_45 (dk_at dksX5_nears_3 8 rfl rfl)
theorem dX5_nears_78 : decode cX5_nears 78 = .ok (.invokevirtual 71, 3) := dk_182 0 71 (dk_at dksX5_nears_3 9 rfl rfl)
theorem dX5_nears_81 : decode cX5_nears 81 = .ok (.iconst 1, 1) := dk_4 (dk_at dksX5_nears_3 12 rfl rfl)
theorem dX5_nears_82 : decode cX5_nears 82 = .ok (.istore 5, 2) := dk_54 5 (dk_at dksX5_nears_3 13 rfl rfl)
theorem dX5_nears_84 : decode cX5_nears 84 = .ok (.iload 5, 2) := dk_21 5 (dk_at dksX5_nears_3 15 rfl rfl)
theorem dX5_nears_86 : decode cX5_nears 86 = .ok (.iconst 3, 1) := dk_6 (dk_at dksX5_nears_3 17 rfl rfl)
theorem dX5_nears_87 : decode cX5_nears 87 = .ok (.if_icmp .gt 47, 3) := dk_163 0 47 (dk_at dksX5_nears_3 18 rfl rfl)
theorem dX5_nears_90 : decode cX5_nears 90 = .ok (.iload 5, 2) := dk_21 5 (dk_at dksX5_nears_3 21 rfl rfl)
theorem dX5_nears_92 : decode cX5_nears 92 = .ok (.iload 4, 2) := dk_21 4 (dk_at dksX5_nears_4 0 rfl rfl)
theorem dX5_nears_94 : decode cX5_nears 94 = .ok (.if_icmp .eq 34, 3) := dk_159 0 34 (dk_at dksX5_nears_4 2 rfl rfl)
theorem dX5_nears_97 : decode cX5_nears 97 = .ok (.aload_n 0, 1) := dk_42 (dk_at dksX5_nears_4 5 rfl rfl)
theorem dX5_nears_98 : decode cX5_nears 98 = .ok (.iload_n 1, 1) := dk_27 (dk_at dksX5_nears_4 6 rfl rfl)
theorem dX5_nears_99 : decode cX5_nears 99 = .ok (.iload 5, 2) := dk_21 5 (dk_at dksX5_nears_4 7 rfl rfl)
theorem dX5_nears_101 : decode cX5_nears 101 = .ok (.invokevirtual 51, 3) := dk_182 0 51 (dk_at dksX5_nears_4 9 rfl rfl)
theorem dX5_nears_104 : decode cX5_nears 104 = .ok (.ifCond .eq 24, 3) := dk_153 0 24 (dk_at dksX5_nears_4 12 rfl rfl)
theorem dX5_nears_107 : decode cX5_nears 107 = .ok (.aload_n 0, 1) := dk_42 (dk_at dksX5_nears_4 15 rfl rfl)
theorem dX5_nears_108 : decode cX5_nears 108 = .ok (.iload_n 1, 1) := dk_27 (dk_at dksX5_nears_4 16 rfl rfl)
theorem dX5_nears_109 : decode cX5_nears 109 = .ok (.iload 5, 2) := dk_21 5 (dk_at dksX5_nears_4 17 rfl rfl)
theorem dX5_nears_111 : decode cX5_nears 111 = .ok (.invokevirtual 54, 3) := dk_182 0 54 (dk_at dksX5_nears_4 19 rfl rfl)
theorem dX5_nears_114 : decode cX5_nears 114 = .ok (.ifCond .eq 14, 3) := dk_153 0 14 (dk_at dksX5_nears_5 0 rfl rfl)
theorem dX5_nears_117 : decode cX5_nears 117 = .ok (.aload_n 0, 1) := dk_42 (dk_at dksX5_nears_5 3 rfl rfl)
theorem dX5_nears_118 : decode cX5_nears 118 = .ok (.iload_n 1, 1) := dk_27 (dk_at dksX5_nears_5 4 rfl rfl)
theorem dX5_nears_119 : decode cX5_nears 119 = .ok (.iconst 1, 1) := dk_4 (dk_at dksX5_nears_5 5 rfl rfl)
theorem dX5_nears_120 : decode cX5_nears 120 = .ok (.iadd, 1) := dk_96 (dk_at dksX5_nears_5 6 rfl rfl)
theorem dX5_nears_121 : decode cX5_nears 121 = .ok (.iload_n 2, 1) := dk_28 (dk_at dksX5_nears_5 7 rfl rfl)
theorem dX5_nears_122 : decode cX5_nears 122 = .ok (.iconst 1, 1) := dk_4 (dk_at dksX5_nears_5 8 rfl rfl)
theorem dX5_nears_123 : decode cX5_nears 123 = .ok (.iadd, 1) := dk_96 (dk_at dksX5_nears_5 9 rfl rfl)
theorem dX5_nears_124 : decode cX5_nears 124 = .ok (.aload_n 3, 1) := dk_45 (dk_at dksX5_nears_5 10 rfl rfl)
theorem dX5_nears_125 : decode cX5_nears 125 = .ok (.invokevirtual 71, 3) := dk_182 0 71 (dk_at dksX5_nears_5 11 rfl rfl)
theorem dX5_nears_128 : decode cX5_nears 128 = .ok (.iinc 5 1, 3) := dk_132 5 1 (dk_at dksX5_nears_5 14 rfl rfl)
theorem dX5_nears_131 : decode cX5_nears 131 = .ok (.goto (-47), 3) := dk_167 255 209 (dk_at dksX5_nears_5 17 rfl rfl)
theorem dX5_nears_134 : decode cX5_nears 134 = .ok (.return_, 1) := dk_177 (dk_at dksX5_nears_5 20 rfl rfl)
theorem q102 : (Jvm.Cond.initialized "NineDemands$Search") ∈ lw_all := lw_g (lw_at lw_m1 12 rfl) rfl
theorem q301 : (Jvm.Cond.instantiable "NineDemands$Search" (5 : Nat)) ∈ lw_all := lw_g (lw_at lw_m1 211 rfl) rfl
theorem q303 : (Jvm.Cond.instanceMethod ({ cls := "NineDemands$Search", name := "<init>", desc := "()V" } : Jvm.MethodName)) ∈ lw_all := lw_g (lw_at lw_m1 213 rfl) rfl
theorem q304 : (Jvm.Cond.code ({ cls := "NineDemands$Search", name := "<init>", desc := "()V" } : Jvm.MethodName) prog_17_method_1_code (1 : Nat) (Option.none : Option Jvm.ClassFile.FieldType)) ∈ lw_all := lw_g (lw_at lw_m1 214 rfl) rfl
theorem q305 : (Jvm.Cond.methodLink "NineDemands$Search" (3 : Nat) ({ cls := "java/lang/Object", name := "<init>", desc := "()V" } : Jvm.MethodName)) ∈ lw_all := lw_g (lw_at lw_m1 215 rfl) rfl
theorem q306 : (Jvm.Cond.classLink "NineDemands$Search" (9 : Nat) "NineDemands$Web") ∈ lw_all := lw_g (lw_at lw_m1 216 rfl) rfl
theorem q308 : (Jvm.Cond.methodLinkNest "NineDemands$Search" (11 : Nat) ({ cls := "NineDemands$Web", name := "<init>", desc := "()V" } : Jvm.MethodName) "NineDemands") ∈ lw_tbl := lw_at lw_m1 218 rfl
theorem q313 : (Jvm.Cond.fieldLinkNest "NineDemands$Search" (29 : Nat) "NineDemands$Web" "alone" "[I" "NineDemands") ∈ lw_tbl := lw_at lw_m1 223 rfl
theorem q315 : (Jvm.Cond.fieldLinkNest "NineDemands$Search" (36 : Nat) "NineDemands$Web" "pair" "[I" "NineDemands") ∈ lw_tbl := lw_at lw_m1 225 rfl
theorem q321 : (Jvm.Cond.fieldLink "NineDemands$Search" (12 : Nat) "NineDemands$Search" "web" "LNineDemands$Web;") ∈ lw_all := lw_g (lw_at lw_m1 231 rfl) rfl
theorem q323 : (Jvm.Cond.fieldLink "NineDemands$Search" (18 : Nat) "NineDemands$Search" "left" "[I") ∈ lw_all := lw_g (lw_at lw_m1 233 rfl) rfl
theorem q324 : (Jvm.Cond.fieldLink "NineDemands$Search" (22 : Nat) "NineDemands$Search" "rule" "[I") ∈ lw_all := lw_g (lw_at lw_m1 234 rfl) rfl
theorem q326 : (Jvm.Cond.fieldLink "NineDemands$Search" (25 : Nat) "NineDemands$Search" "halls" "I") ∈ lw_all := lw_g (lw_at lw_m1 236 rfl) rfl
theorem q327 : (Jvm.Cond.fieldLink "NineDemands$Search" (68 : Nat) "NineDemands$Search" "fewest" "I") ∈ lw_all := lw_g (lw_at lw_m1 237 rfl) rfl
theorem q328 : (Jvm.Cond.laysFinal "NineDemands$Search" "NineDemands$Search" "web" "LNineDemands$Web;") ∈ lw_all := lw_g (lw_at lw_m1 238 rfl) rfl
theorem q329 : (Jvm.Cond.soleField "NineDemands$Search" "web") ∈ lw_all := lw_g (lw_at lw_m1 239 rfl) rfl
theorem q330 : (Jvm.Cond.laysFinal "NineDemands$Search" "NineDemands$Search" "left" "[I") ∈ lw_all := lw_g (lw_at lw_m2 0 rfl) rfl
theorem q331 : (Jvm.Cond.soleField "NineDemands$Search" "left") ∈ lw_all := lw_g (lw_at lw_m2 1 rfl) rfl
theorem q332 : (Jvm.Cond.laysFinal "NineDemands$Search" "NineDemands$Search" "rule" "[I") ∈ lw_all := lw_g (lw_at lw_m2 2 rfl) rfl
theorem q333 : (Jvm.Cond.soleField "NineDemands$Search" "rule") ∈ lw_all := lw_g (lw_at lw_m2 3 rfl) rfl
theorem q334 : (Jvm.Cond.lays "NineDemands$Search" "NineDemands$Search" "halls" "I") ∈ lw_all := lw_g (lw_at lw_m2 4 rfl) rfl
theorem q335 : (Jvm.Cond.soleField "NineDemands$Search" "halls") ∈ lw_all := lw_g (lw_at lw_m2 5 rfl) rfl
theorem q336 : (Jvm.Cond.lays "NineDemands$Search" "NineDemands$Search" "fewest" "I") ∈ lw_all := lw_g (lw_at lw_m2 6 rfl) rfl
theorem q337 : (Jvm.Cond.soleField "NineDemands$Search" "fewest") ∈ lw_all := lw_g (lw_at lw_m2 7 rfl) rfl
theorem q338 : (Jvm.Cond.superclass "NineDemands$Search" "java/lang/Object") ∈ lw_all := lw_g (lw_at lw_m2 8 rfl) rfl
theorem q1297 : (Jvm.Cond.selects "NineDemands$Search" ({ cls := "java/lang/Object", name := "getClass", desc := "()Ljava/lang/Class;" } : Jvm.MethodName) ({ cls := "java/lang/Object", name := "getClass", desc := "()Ljava/lang/Class;" } : Jvm.MethodName)) ∈ lw_all := lw_g (lw_at lw_m6 7 rfl) rfl
theorem q1450 : (Jvm.Cond.instanceMethod ({ cls := "NineDemands$Search", name := "begin", desc := "(I)V" } : Jvm.MethodName)) ∈ lw_all := lw_g (lw_at lw_m6 160 rfl) rfl
theorem q1451 : (Jvm.Cond.selects "NineDemands$Search" ({ cls := "NineDemands$Search", name := "begin", desc := "(I)V" } : Jvm.MethodName) ({ cls := "NineDemands$Search", name := "begin", desc := "(I)V" } : Jvm.MethodName)) ∈ lw_all := lw_g (lw_at lw_m6 161 rfl) rfl
theorem q1452 : (Jvm.Cond.code ({ cls := "NineDemands$Search", name := "begin", desc := "(I)V" } : Jvm.MethodName) prog_17_method_2_code (3 : Nat) (Option.none : Option Jvm.ClassFile.FieldType)) ∈ lw_all := lw_g (lw_at lw_m6 162 rfl) rfl
theorem q1454 : (Jvm.Cond.instanceMethod ({ cls := "NineDemands$Search", name := "finds", desc := "()Z" } : Jvm.MethodName)) ∈ lw_all := lw_g (lw_at lw_m6 164 rfl) rfl
theorem q1455 : (Jvm.Cond.selects "NineDemands$Search" ({ cls := "NineDemands$Search", name := "finds", desc := "()Z" } : Jvm.MethodName) ({ cls := "NineDemands$Search", name := "finds", desc := "()Z" } : Jvm.MethodName)) ∈ lw_all := lw_g (lw_at lw_m6 165 rfl) rfl
theorem q1456 : (Jvm.Cond.code ({ cls := "NineDemands$Search", name := "finds", desc := "()Z" } : Jvm.MethodName) prog_17_method_7_code (1 : Nat) (Option.some Jvm.ClassFile.FieldType.boolean)) ∈ lw_all := lw_g (lw_at lw_m6 166 rfl) rfl
theorem q1457 : (Jvm.Cond.methodLink "NineDemands$Search" (43 : Nat) ({ cls := "NineDemands$Search", name := "finds", desc := "(I)Z" } : Jvm.MethodName)) ∈ lw_all := lw_g (lw_at lw_m6 167 rfl) rfl
theorem q1458 : (Jvm.Cond.privateMethod ({ cls := "NineDemands$Search", name := "finds", desc := "(I)Z" } : Jvm.MethodName)) ∈ lw_tbl := lw_at lw_m6 168 rfl
theorem q1459 : (Jvm.Cond.instanceMethod ({ cls := "NineDemands$Search", name := "finds", desc := "(I)Z" } : Jvm.MethodName)) ∈ lw_all := lw_g (lw_at lw_m6 169 rfl) rfl
theorem q1460 : (Jvm.Cond.code ({ cls := "NineDemands$Search", name := "finds", desc := "(I)Z" } : Jvm.MethodName) prog_17_method_8_code (3 : Nat) (Option.some Jvm.ClassFile.FieldType.boolean)) ∈ lw_all := lw_g (lw_at lw_m6 170 rfl) rfl
theorem q1461 : (Jvm.Cond.methodLinkNest "NineDemands$Search" (32 : Nat) ({ cls := "NineDemands", name := "has", desc := "(II)Z" } : Jvm.MethodName) "NineDemands") ∈ lw_tbl := lw_at lw_m6 171 rfl
theorem q1462 : (Jvm.Cond.methodLink "NineDemands$Search" (47 : Nat) ({ cls := "NineDemands$Search", name := "passes", desc := "(I)V" } : Jvm.MethodName)) ∈ lw_all := lw_g (lw_at lw_m6 172 rfl) rfl
theorem q1463 : (Jvm.Cond.privateMethod ({ cls := "NineDemands$Search", name := "passes", desc := "(I)V" } : Jvm.MethodName)) ∈ lw_tbl := lw_at lw_m6 173 rfl
theorem q1464 : (Jvm.Cond.instanceMethod ({ cls := "NineDemands$Search", name := "passes", desc := "(I)V" } : Jvm.MethodName)) ∈ lw_all := lw_g (lw_at lw_m6 174 rfl) rfl
theorem q1465 : (Jvm.Cond.code ({ cls := "NineDemands$Search", name := "passes", desc := "(I)V" } : Jvm.MethodName) prog_17_method_6_code (3 : Nat) (Option.none : Option Jvm.ClassFile.FieldType)) ∈ lw_all := lw_g (lw_at lw_m6 175 rfl) rfl
theorem q1466 : (Jvm.Cond.methodLink "NineDemands$Search" (51 : Nat) ({ cls := "NineDemands$Search", name := "isLeft", desc := "(II)Z" } : Jvm.MethodName)) ∈ lw_all := lw_g (lw_at lw_m6 176 rfl) rfl
theorem q1467 : (Jvm.Cond.privateMethod ({ cls := "NineDemands$Search", name := "isLeft", desc := "(II)Z" } : Jvm.MethodName)) ∈ lw_tbl := lw_at lw_m6 177 rfl
theorem q1468 : (Jvm.Cond.instanceMethod ({ cls := "NineDemands$Search", name := "isLeft", desc := "(II)Z" } : Jvm.MethodName)) ∈ lw_all := lw_g (lw_at lw_m6 178 rfl) rfl
theorem q1469 : (Jvm.Cond.code ({ cls := "NineDemands$Search", name := "isLeft", desc := "(II)Z" } : Jvm.MethodName) prog_17_method_4_code (3 : Nat) (Option.some Jvm.ClassFile.FieldType.boolean)) ∈ lw_all := lw_g (lw_at lw_m6 179 rfl) rfl
theorem q1470 : (Jvm.Cond.methodLink "NineDemands$Search" (54 : Nat) ({ cls := "NineDemands$Search", name := "goesOn", desc := "(II)Z" } : Jvm.MethodName)) ∈ lw_all := lw_g (lw_at lw_m6 180 rfl) rfl
theorem q1471 : (Jvm.Cond.privateMethod ({ cls := "NineDemands$Search", name := "goesOn", desc := "(II)Z" } : Jvm.MethodName)) ∈ lw_tbl := lw_at lw_m6 181 rfl
theorem q1472 : (Jvm.Cond.instanceMethod ({ cls := "NineDemands$Search", name := "goesOn", desc := "(II)Z" } : Jvm.MethodName)) ∈ lw_all := lw_g (lw_at lw_m6 182 rfl) rfl
theorem q1473 : (Jvm.Cond.code ({ cls := "NineDemands$Search", name := "goesOn", desc := "(II)Z" } : Jvm.MethodName) prog_17_method_5_code (6 : Nat) (Option.some Jvm.ClassFile.FieldType.boolean)) ∈ lw_all := lw_g (lw_at lw_m6 183 rfl) rfl
theorem q1474 : (Jvm.Cond.methodLink "NineDemands$Search" (39 : Nat) ({ cls := "NineDemands$Web", name := "partners", desc := "(II)I" } : Jvm.MethodName)) ∈ lw_all := lw_g (lw_at lw_m6 184 rfl) rfl
theorem q1489 : (Jvm.Cond.instanceMethod ({ cls := "NineDemands$Search", name := "counts", desc := "()J" } : Jvm.MethodName)) ∈ lw_all := lw_g (lw_at lw_m6 199 rfl) rfl
theorem q1490 : (Jvm.Cond.selects "NineDemands$Search" ({ cls := "NineDemands$Search", name := "counts", desc := "()J" } : Jvm.MethodName) ({ cls := "NineDemands$Search", name := "counts", desc := "()J" } : Jvm.MethodName)) ∈ lw_all := lw_g (lw_at lw_m6 200 rfl) rfl
theorem q1491 : (Jvm.Cond.code ({ cls := "NineDemands$Search", name := "counts", desc := "()J" } : Jvm.MethodName) prog_17_method_9_code (6 : Nat) (Option.some Jvm.ClassFile.FieldType.long)) ∈ lw_all := lw_g (lw_at lw_m6 201 rfl) rfl
theorem q1492 : (Jvm.Cond.methodLink "NineDemands$Search" (57 : Nat) ({ cls := "NineDemands$Web", name := "tied", desc := "(I)I" } : Jvm.MethodName)) ∈ lw_all := lw_g (lw_at lw_m6 202 rfl) rfl
theorem q1497 : (Jvm.Cond.methodLink "NineDemands$Search" (61 : Nat) ({ cls := "NineDemands$Search", name := "begin", desc := "(I)V" } : Jvm.MethodName)) ∈ lw_all := lw_g (lw_at lw_m6 207 rfl) rfl
theorem q1498 : (Jvm.Cond.methodLink "NineDemands$Search" (64 : Nat) ({ cls := "NineDemands$Search", name := "counted", desc := "(I)J" } : Jvm.MethodName)) ∈ lw_all := lw_g (lw_at lw_m6 208 rfl) rfl
theorem q1499 : (Jvm.Cond.privateMethod ({ cls := "NineDemands$Search", name := "counted", desc := "(I)J" } : Jvm.MethodName)) ∈ lw_tbl := lw_at lw_m6 209 rfl
theorem q1500 : (Jvm.Cond.instanceMethod ({ cls := "NineDemands$Search", name := "counted", desc := "(I)J" } : Jvm.MethodName)) ∈ lw_all := lw_g (lw_at lw_m6 210 rfl) rfl
theorem q1501 : (Jvm.Cond.code ({ cls := "NineDemands$Search", name := "counted", desc := "(I)J" } : Jvm.MethodName) prog_17_method_10_code (5 : Nat) (Option.some Jvm.ClassFile.FieldType.long)) ∈ lw_all := lw_g (lw_at lw_m6 211 rfl) rfl
theorem q1507 : (Jvm.Cond.instanceMethod ({ cls := "NineDemands$Search", name := "keep", desc := "(II)V" } : Jvm.MethodName)) ∈ lw_all := lw_g (lw_at lw_m6 217 rfl) rfl
theorem q1508 : (Jvm.Cond.selects "NineDemands$Search" ({ cls := "NineDemands$Search", name := "keep", desc := "(II)V" } : Jvm.MethodName) ({ cls := "NineDemands$Search", name := "keep", desc := "(II)V" } : Jvm.MethodName)) ∈ lw_all := lw_g (lw_at lw_m6 218 rfl) rfl
theorem q1509 : (Jvm.Cond.code ({ cls := "NineDemands$Search", name := "keep", desc := "(II)V" } : Jvm.MethodName) prog_17_method_3_code (3 : Nat) (Option.none : Option Jvm.ClassFile.FieldType)) ∈ lw_all := lw_g (lw_at lw_m6 219 rfl) rfl
theorem q1515 : (Jvm.Cond.instanceMethod ({ cls := "NineDemands$Search", name := "nearest", desc := "([I)I" } : Jvm.MethodName)) ∈ lw_all := lw_g (lw_at lw_m6 225 rfl) rfl
theorem q1516 : (Jvm.Cond.selects "NineDemands$Search" ({ cls := "NineDemands$Search", name := "nearest", desc := "([I)I" } : Jvm.MethodName) ({ cls := "NineDemands$Search", name := "nearest", desc := "([I)I" } : Jvm.MethodName)) ∈ lw_all := lw_g (lw_at lw_m6 226 rfl) rfl
theorem q1517 : (Jvm.Cond.code ({ cls := "NineDemands$Search", name := "nearest", desc := "([I)I" } : Jvm.MethodName) prog_17_method_11_code (6 : Nat) (Option.some Jvm.ClassFile.FieldType.int)) ∈ lw_all := lw_g (lw_at lw_m6 227 rfl) rfl
theorem q1518 : (Jvm.Cond.methodLink "NineDemands$Search" (71 : Nat) ({ cls := "NineDemands$Search", name := "nears", desc := "(II[I)V" } : Jvm.MethodName)) ∈ lw_all := lw_g (lw_at lw_m6 228 rfl) rfl
theorem q1519 : (Jvm.Cond.privateMethod ({ cls := "NineDemands$Search", name := "nears", desc := "(II[I)V" } : Jvm.MethodName)) ∈ lw_tbl := lw_at lw_m6 229 rfl
theorem q1520 : (Jvm.Cond.instanceMethod ({ cls := "NineDemands$Search", name := "nears", desc := "(II[I)V" } : Jvm.MethodName)) ∈ lw_all := lw_g (lw_at lw_m6 230 rfl) rfl
theorem q1521 : (Jvm.Cond.code ({ cls := "NineDemands$Search", name := "nears", desc := "(II[I)V" } : Jvm.MethodName) prog_17_method_12_code (6 : Nat) (Option.none : Option Jvm.ClassFile.FieldType)) ∈ lw_all := lw_g (lw_at lw_m6 231 rfl) rfl
theorem q2529 : (Jvm.Cond.castable "NineDemands$Search" "java/lang/Object") ∈ lw_tbl := lw_at lw_m11 39 rfl
theorem in_X5 : ∀ w ∈ wsX50, w ∈ lw_all := lw_in wsX50 [328, 330, 332, 334, 336] (by decide +kernel) (by decide +kernel)
/-! NineDemands$Web -/
set_option maxRecDepth 100000
def RX6 : String := "NineDemands$Web"
def TX6 : u_T := fun k => match k with
  | 0 => ("NineDemands$Web", "alone", "[I", true)
  | _ => ("NineDemands$Web", "pair", "[I", true)
def tyX6 : Nat → FieldType := fun k => match k with
  | 0 => .array .int
  | _ => .array .int
abbrev wsX60 : List Cond := u_ws RX6 TX6 2
theorem nmX6 : ∀ a, a < 2 → ∀ b, b < 2 → a ≠ b → (TX6 a).2.1 ≠ (TX6 b).2.1 := by decide +kernel
theorem tyX6_ok : ∀ k, k < 2 → parseFieldDescriptor (TX6 k).2.2.1 = some (tyX6 k) := by decide +kernel
abbrev cX6_init : ByteArray := prog_30_method_1_code
def yX6_init : MethodName := ⟨RX6, "<init>", "()V"⟩
def dkwX6_init_0 : List UInt8 := [42, 183, 0, 3, 42, 16, 12, 188, 10, 181, 0, 9, 42, 17, 0, 144, 188, 10, 181, 0, 15, 177]
abbrev dktX6_init_0 : List UInt8 := dkwX6_init_0 ++ []
theorem dksX6_init_0 : cX6_init.data.toList.drop 0 = dktX6_init_0 := by decide +kernel
theorem dX6_init_0 : decode cX6_init 0 = .ok (.aload_n 0, 1) := dk_42 (dk_at dksX6_init_0 0 rfl rfl)
theorem dX6_init_1 : decode cX6_init 1 = .ok (.invokespecial 3, 3) := dk_183 0 3 (dk_at dksX6_init_0 1 rfl rfl)
theorem dX6_init_4 : decode cX6_init 4 = .ok (.aload_n 0, 1) := dk_42 (dk_at dksX6_init_0 4 rfl rfl)
theorem dX6_init_5 : decode cX6_init 5 = .ok (.bipush 12, 2) := dk_16 12 (dk_at dksX6_init_0 5 rfl rfl)
theorem dX6_init_7 : decode cX6_init 7 = .ok (.newarray .int, 2) := dk_188_10 (dk_at dksX6_init_0 7 rfl rfl)
theorem dX6_init_9 : decode cX6_init 9 = .ok (.putfield 9, 3) := dk_181 0 9 (dk_at dksX6_init_0 9 rfl rfl)
theorem dX6_init_12 : decode cX6_init 12 = .ok (.aload_n 0, 1) := dk_42 (dk_at dksX6_init_0 12 rfl rfl)
theorem dX6_init_13 : decode cX6_init 13 = .ok (.sipush 144, 3) := dk_17 0 144 (dk_at dksX6_init_0 13 rfl rfl)
theorem dX6_init_16 : decode cX6_init 16 = .ok (.newarray .int, 2) := dk_188_10 (dk_at dksX6_init_0 16 rfl rfl)
theorem dX6_init_18 : decode cX6_init 18 = .ok (.putfield 15, 3) := dk_181 0 15 (dk_at dksX6_init_0 18 rfl rfl)
theorem dX6_init_21 : decode cX6_init 21 = .ok (.return_, 1) := dk_177 (dk_at dksX6_init_0 21 rfl rfl)
abbrev cX6_clear : ByteArray := prog_30_method_2_code
def yX6_clear : MethodName := ⟨RX6, "clear", "()V"⟩
def dkwX6_clear_2 : List UInt8 := [177]
abbrev dktX6_clear_2 : List UInt8 := dkwX6_clear_2 ++ []
def dkwX6_clear_1 : List UInt8 := [27, 42, 180, 0, 15, 190, 162, 0, 18, 42, 180, 0, 15, 27, 17, 1, 255, 79, 132, 1, 1, 167, 255, 235]
abbrev dktX6_clear_1 : List UInt8 := dkwX6_clear_1 ++ dktX6_clear_2
def dkwX6_clear_0 : List UInt8 := [3, 60, 27, 16, 12, 162, 0, 17, 42, 180, 0, 9, 27, 16, 14, 79, 132, 1, 1, 167, 255, 239, 3, 60]
abbrev dktX6_clear_0 : List UInt8 := dkwX6_clear_0 ++ dktX6_clear_1
theorem dksX6_clear_0 : cX6_clear.data.toList.drop 0 = dktX6_clear_0 := by decide +kernel
theorem dksX6_clear_1 : cX6_clear.data.toList.drop 24 = dktX6_clear_1 := dk_seg dksX6_clear_0 24 rfl rfl
theorem dksX6_clear_2 : cX6_clear.data.toList.drop 48 = dktX6_clear_2 := dk_seg dksX6_clear_1 24 rfl rfl
theorem dX6_clear_0 : decode cX6_clear 0 = .ok (.iconst 0, 1) := dk_3 (dk_at dksX6_clear_0 0 rfl rfl)
theorem dX6_clear_1 : decode cX6_clear 1 = .ok (.istore_n 1, 1) := dk_60 (dk_at dksX6_clear_0 1 rfl rfl)
theorem dX6_clear_2 : decode cX6_clear 2 = .ok (.iload_n 1, 1) := dk_27 (dk_at dksX6_clear_0 2 rfl rfl)
theorem dX6_clear_3 : decode cX6_clear 3 = .ok (.bipush 12, 2) := dk_16 12 (dk_at dksX6_clear_0 3 rfl rfl)
theorem dX6_clear_5 : decode cX6_clear 5 = .ok (.if_icmp .ge 17, 3) := dk_162 0 17 (dk_at dksX6_clear_0 5 rfl rfl)
theorem dX6_clear_8 : decode cX6_clear 8 = .ok (.aload_n 0, 1) := dk_42 (dk_at dksX6_clear_0 8 rfl rfl)
theorem dX6_clear_9 : decode cX6_clear 9 = .ok (.getfield 9, 3) := dk_180 0 9 (dk_at dksX6_clear_0 9 rfl rfl)
theorem dX6_clear_12 : decode cX6_clear 12 = .ok (.iload_n 1, 1) := dk_27 (dk_at dksX6_clear_0 12 rfl rfl)
theorem dX6_clear_13 : decode cX6_clear 13 = .ok (.bipush 14, 2) := dk_16 14 (dk_at dksX6_clear_0 13 rfl rfl)
theorem dX6_clear_15 : decode cX6_clear 15 = .ok (.iastore, 1) := dk_79 (dk_at dksX6_clear_0 15 rfl rfl)
theorem dX6_clear_16 : decode cX6_clear 16 = .ok (.iinc 1 1, 3) := dk_132 1 1 (dk_at dksX6_clear_0 16 rfl rfl)
theorem dX6_clear_19 : decode cX6_clear 19 = .ok (.goto (-17), 3) := dk_167 255 239 (dk_at dksX6_clear_0 19 rfl rfl)
theorem dX6_clear_22 : decode cX6_clear 22 = .ok (.iconst 0, 1) := dk_3 (dk_at dksX6_clear_0 22 rfl rfl)
theorem dX6_clear_23 : decode cX6_clear 23 = .ok (.istore_n 1, 1) := dk_60 (dk_at dksX6_clear_0 23 rfl rfl)
theorem dX6_clear_24 : decode cX6_clear 24 = .ok (.iload_n 1, 1) := dk_27 (dk_at dksX6_clear_1 0 rfl rfl)
theorem dX6_clear_25 : decode cX6_clear 25 = .ok (.aload_n 0, 1) := dk_42 (dk_at dksX6_clear_1 1 rfl rfl)
theorem dX6_clear_26 : decode cX6_clear 26 = .ok (.getfield 15, 3) := dk_180 0 15 (dk_at dksX6_clear_1 2 rfl rfl)
theorem dX6_clear_29 : decode cX6_clear 29 = .ok (.arraylength, 1) := dk_190 (dk_at dksX6_clear_1 5 rfl rfl)
theorem dX6_clear_30 : decode cX6_clear 30 = .ok (.if_icmp .ge 18, 3) := dk_162 0 18 (dk_at dksX6_clear_1 6 rfl rfl)
theorem dX6_clear_33 : decode cX6_clear 33 = .ok (.aload_n 0, 1) := dk_42 (dk_at dksX6_clear_1 9 rfl rfl)
theorem dX6_clear_34 : decode cX6_clear 34 = .ok (.getfield 15, 3) := dk_180 0 15 (dk_at dksX6_clear_1 10 rfl rfl)
theorem dX6_clear_37 : decode cX6_clear 37 = .ok (.iload_n 1, 1) := dk_27 (dk_at dksX6_clear_1 13 rfl rfl)
theorem dX6_clear_38 : decode cX6_clear 38 = .ok (.sipush 511, 3) := dk_17 1 255 (dk_at dksX6_clear_1 14 rfl rfl)
theorem dX6_clear_41 : decode cX6_clear 41 = .ok (.iastore, 1) := dk_79 (dk_at dksX6_clear_1 17 rfl rfl)
theorem dX6_clear_42 : decode cX6_clear 42 = .ok (.iinc 1 1, 3) := dk_132 1 1 (dk_at dksX6_clear_1 18 rfl rfl)
theorem dX6_clear_45 : decode cX6_clear 45 = .ok (.goto (-21), 3) := dk_167 255 235 (dk_at dksX6_clear_1 21 rfl rfl)
theorem dX6_clear_48 : decode cX6_clear 48 = .ok (.return_, 1) := dk_177 (dk_at dksX6_clear_2 0 rfl rfl)
abbrev cX6_add : ByteArray := prog_30_method_4_code
def yX6_add : MethodName := ⟨RX6, "add", "(LNineDemands$Demand;)V"⟩
def dkwX6_add_4 : List UInt8 := [46, 44, 180, 0, 44, 29, 46, 184, 0, 51, 126, 79, 132, 3, 1, 167, 255, 152, 177]
abbrev dktX6_add_4 : List UInt8 := dkwX6_add_4 ++ []
def dkwX6_add_3 : List UInt8 := [96, 92, 46, 44, 180, 0, 44, 29, 46, 184, 0, 47, 126, 79, 167, 0, 22, 42, 180, 0, 9, 21, 4, 92]
abbrev dktX6_add_3 : List UInt8 := dkwX6_add_3 ++ dktX6_add_4
def dkwX6_add_2 : List UInt8 := [21, 5, 96, 92, 46, 44, 180, 0, 44, 29, 46, 126, 79, 42, 180, 0, 15, 16, 12, 21, 5, 104, 21, 4]
abbrev dktX6_add_2 : List UInt8 := dkwX6_add_2 ++ dktX6_add_3
def dkwX6_add_1 : List UInt8 := [29, 182, 0, 37, 153, 0, 61, 44, 180, 0, 41, 29, 46, 54, 5, 42, 180, 0, 15, 16, 12, 21, 4, 104]
abbrev dktX6_add_1 : List UInt8 := dkwX6_add_1 ++ dktX6_add_2
def dkwX6_add_0 : List UInt8 := [43, 180, 0, 22, 77, 3, 62, 29, 44, 180, 0, 28, 162, 0, 102, 44, 180, 0, 34, 29, 46, 54, 4, 44]
abbrev dktX6_add_0 : List UInt8 := dkwX6_add_0 ++ dktX6_add_1
theorem dksX6_add_0 : cX6_add.data.toList.drop 0 = dktX6_add_0 := by decide +kernel
theorem dksX6_add_1 : cX6_add.data.toList.drop 24 = dktX6_add_1 := dk_seg dksX6_add_0 24 rfl rfl
theorem dksX6_add_2 : cX6_add.data.toList.drop 48 = dktX6_add_2 := dk_seg dksX6_add_1 24 rfl rfl
theorem dksX6_add_3 : cX6_add.data.toList.drop 72 = dktX6_add_3 := dk_seg dksX6_add_2 24 rfl rfl
theorem dksX6_add_4 : cX6_add.data.toList.drop 96 = dktX6_add_4 := dk_seg dksX6_add_3 24 rfl rfl
theorem dX6_add_0 : decode cX6_add 0 = .ok (.aload_n 1, 1) := dk_43 (dk_at dksX6_add_0 0 rfl rfl)
theorem dX6_add_1 : decode cX6_add 1 = .ok (.getfield 22, 3) := dk_180 0 22 (dk_at dksX6_add_0 1 rfl rfl)
theorem dX6_add_4 : decode cX6_add 4 = .ok (.astore_n 2, 1) := dk_77 (dk_at dksX6_add_0 4 rfl rfl)
theorem dX6_add_5 : decode cX6_add 5 = .ok (.iconst 0, 1) := dk_3 (dk_at dksX6_add_0 5 rfl rfl)
theorem dX6_add_6 : decode cX6_add 6 = .ok (.istore_n 3, 1) := dk_62 (dk_at dksX6_add_0 6 rfl rfl)
theorem dX6_add_7 : decode cX6_add 7 = .ok (.iload_n 3, 1) := dk_29 (dk_at dksX6_add_0 7 rfl rfl)
theorem dX6_add_8 : decode cX6_add 8 = .ok (.aload_n 2, 1) := dk_44 (dk_at dksX6_add_0 8 rfl rfl)
theorem dX6_add_9 : decode cX6_add 9 = .ok (.getfield 28, 3) := dk_180 0 28 (dk_at dksX6_add_0 9 rfl rfl)
theorem dX6_add_12 : decode cX6_add 12 = .ok (.if_icmp .ge 102, 3) := dk_162 0 102 (dk_at dksX6_add_0 12 rfl rfl)
theorem dX6_add_15 : decode cX6_add 15 = .ok (.aload_n 2, 1) := dk_44 (dk_at dksX6_add_0 15 rfl rfl)
theorem dX6_add_16 : decode cX6_add 16 = .ok (.getfield 34, 3) := dk_180 0 34 (dk_at dksX6_add_0 16 rfl rfl)
theorem dX6_add_19 : decode cX6_add 19 = .ok (.iload_n 3, 1) := dk_29 (dk_at dksX6_add_0 19 rfl rfl)
theorem dX6_add_20 : decode cX6_add 20 = .ok (.iaload, 1) := dk_46 (dk_at dksX6_add_0 20 rfl rfl)
theorem dX6_add_21 : decode cX6_add 21 = .ok (.istore 4, 2) := dk_54 4 (dk_at dksX6_add_0 21 rfl rfl)
theorem dX6_add_23 : decode cX6_add 23 = .ok (.aload_n 2, 1) := dk_44 (dk_at dksX6_add_0 23 rfl rfl)
theorem dX6_add_24 : decode cX6_add 24 = .ok (.iload_n 3, 1) := dk_29 (dk_at dksX6_add_1 0 rfl rfl)
theorem dX6_add_25 : decode cX6_add 25 = .ok (.invokevirtual 37, 3) := dk_182 0 37 (dk_at dksX6_add_1 1 rfl rfl)
theorem dX6_add_28 : decode cX6_add 28 = .ok (.ifCond .eq 61, 3) := dk_153 0 61 (dk_at dksX6_add_1 4 rfl rfl)
theorem dX6_add_31 : decode cX6_add 31 = .ok (.aload_n 2, 1) := dk_44 (dk_at dksX6_add_1 7 rfl rfl)
theorem dX6_add_32 : decode cX6_add 32 = .ok (.getfield 41, 3) := dk_180 0 41 (dk_at dksX6_add_1 8 rfl rfl)
theorem dX6_add_35 : decode cX6_add 35 = .ok (.iload_n 3, 1) := dk_29 (dk_at dksX6_add_1 11 rfl rfl)
theorem dX6_add_36 : decode cX6_add 36 = .ok (.iaload, 1) := dk_46 (dk_at dksX6_add_1 12 rfl rfl)
theorem dX6_add_37 : decode cX6_add 37 = .ok (.istore 5, 2) := dk_54 5 (dk_at dksX6_add_1 13 rfl rfl)
theorem dX6_add_39 : decode cX6_add 39 = .ok (.aload_n 0, 1) := dk_42 (dk_at dksX6_add_1 15 rfl rfl)
theorem dX6_add_40 : decode cX6_add 40 = .ok (.getfield 15, 3) := dk_180 0 15 (dk_at dksX6_add_1 16 rfl rfl)
theorem dX6_add_43 : decode cX6_add 43 = .ok (.bipush 12, 2) := dk_16 12 (dk_at dksX6_add_1 19 rfl rfl)
theorem dX6_add_45 : decode cX6_add 45 = .ok (.iload 4, 2) := dk_21 4 (dk_at dksX6_add_1 21 rfl rfl)
theorem dX6_add_47 : decode cX6_add 47 = .ok (.imul, 1) := dk_104 (dk_at dksX6_add_1 23 rfl rfl)
theorem dX6_add_48 : decode cX6_add 48 = .ok (.iload 5, 2) := dk_21 5 (dk_at dksX6_add_2 0 rfl rfl)
theorem dX6_add_50 : decode cX6_add 50 = .ok (.iadd, 1) := dk_96 (dk_at dksX6_add_2 2 rfl rfl)
theorem dX6_add_51 : decode cX6_add 51 = .ok (.dup2, 1) := dk_92 (dk_at dksX6_add_2 3 rfl rfl)
theorem dX6_add_52 : decode cX6_add 52 = .ok (.iaload, 1) := dk_46 (dk_at dksX6_add_2 4 rfl rfl)
theorem dX6_add_53 : decode cX6_add 53 = .ok (.aload_n 2, 1) := dk_44 (dk_at dksX6_add_2 5 rfl rfl)
theorem dX6_add_54 : decode cX6_add 54 = .ok (.getfield 44, 3) := dk_180 0 44 (dk_at dksX6_add_2 6 rfl rfl)
theorem dX6_add_57 : decode cX6_add 57 = .ok (.iload_n 3, 1) := dk_29 (dk_at dksX6_add_2 9 rfl rfl)
theorem dX6_add_58 : decode cX6_add 58 = .ok (.iaload, 1) := dk_46 (dk_at dksX6_add_2 10 rfl rfl)
theorem dX6_add_59 : decode cX6_add 59 = .ok (.iand, 1) := dk_126 (dk_at dksX6_add_2 11 rfl rfl)
theorem dX6_add_60 : decode cX6_add 60 = .ok (.iastore, 1) := dk_79 (dk_at dksX6_add_2 12 rfl rfl)
theorem dX6_add_61 : decode cX6_add 61 = .ok (.aload_n 0, 1) := dk_42 (dk_at dksX6_add_2 13 rfl rfl)
theorem dX6_add_62 : decode cX6_add 62 = .ok (.getfield 15, 3) := dk_180 0 15 (dk_at dksX6_add_2 14 rfl rfl)
theorem dX6_add_65 : decode cX6_add 65 = .ok (.bipush 12, 2) := dk_16 12 (dk_at dksX6_add_2 17 rfl rfl)
theorem dX6_add_67 : decode cX6_add 67 = .ok (.iload 5, 2) := dk_21 5 (dk_at dksX6_add_2 19 rfl rfl)
theorem dX6_add_69 : decode cX6_add 69 = .ok (.imul, 1) := dk_104 (dk_at dksX6_add_2 21 rfl rfl)
theorem dX6_add_70 : decode cX6_add 70 = .ok (.iload 4, 2) := dk_21 4 (dk_at dksX6_add_2 22 rfl rfl)
theorem dX6_add_72 : decode cX6_add 72 = .ok (.iadd, 1) := dk_96 (dk_at dksX6_add_3 0 rfl rfl)
theorem dX6_add_73 : decode cX6_add 73 = .ok (.dup2, 1) := dk_92 (dk_at dksX6_add_3 1 rfl rfl)
theorem dX6_add_74 : decode cX6_add 74 = .ok (.iaload, 1) := dk_46 (dk_at dksX6_add_3 2 rfl rfl)
theorem dX6_add_75 : decode cX6_add 75 = .ok (.aload_n 2, 1) := dk_44 (dk_at dksX6_add_3 3 rfl rfl)
theorem dX6_add_76 : decode cX6_add 76 = .ok (.getfield 44, 3) := dk_180 0 44 (dk_at dksX6_add_3 4 rfl rfl)
theorem dX6_add_79 : decode cX6_add 79 = .ok (.iload_n 3, 1) := dk_29 (dk_at dksX6_add_3 7 rfl rfl)
theorem dX6_add_80 : decode cX6_add 80 = .ok (.iaload, 1) := dk_46 (dk_at dksX6_add_3 8 rfl rfl)
theorem dX6_add_81 : decode cX6_add 81 = .ok (.invokestatic 47, 3) := dk_184 0 47 (dk_at dksX6_add_3 9 rfl rfl)
theorem dX6_add_84 : decode cX6_add 84 = .ok (.iand, 1) := dk_126 (dk_at dksX6_add_3 12 rfl rfl)
theorem dX6_add_85 : decode cX6_add 85 = .ok (.iastore, 1) := dk_79 (dk_at dksX6_add_3 13 rfl rfl)
theorem dX6_add_86 : decode cX6_add 86 = .ok (.goto 22, 3) := dk_167 0 22 (dk_at dksX6_add_3 14 rfl rfl)
theorem dX6_add_89 : decode cX6_add 89 = .ok (.aload_n 0, 1) := dk_42 (dk_at dksX6_add_3 17 rfl rfl)
theorem dX6_add_90 : decode cX6_add 90 = .ok (.getfield 9, 3) := dk_180 0 9 (dk_at dksX6_add_3 18 rfl rfl)
theorem dX6_add_93 : decode cX6_add 93 = .ok (.iload 4, 2) := dk_21 4 (dk_at dksX6_add_3 21 rfl rfl)
theorem dX6_add_95 : decode cX6_add 95 = .ok (.dup2, 1) := dk_92 (dk_at dksX6_add_3 23 rfl rfl)
theorem dX6_add_96 : decode cX6_add 96 = .ok (.iaload, 1) := dk_46 (dk_at dksX6_add_4 0 rfl rfl)
theorem dX6_add_97 : decode cX6_add 97 = .ok (.aload_n 2, 1) := dk_44 (dk_at dksX6_add_4 1 rfl rfl)
theorem dX6_add_98 : decode cX6_add 98 = .ok (.getfield 44, 3) := dk_180 0 44 (dk_at dksX6_add_4 2 rfl rfl)
theorem dX6_add_101 : decode cX6_add 101 = .ok (.iload_n 3, 1) := dk_29 (dk_at dksX6_add_4 5 rfl rfl)
theorem dX6_add_102 : decode cX6_add 102 = .ok (.iaload, 1) := dk_46 (dk_at dksX6_add_4 6 rfl rfl)
theorem dX6_add_103 : decode cX6_add 103 = .ok (.invokestatic 51, 3) := dk_184 0 51 (dk_at dksX6_add_4 7 rfl rfl)
theorem dX6_add_106 : decode cX6_add 106 = .ok (.iand, 1) := dk_126 (dk_at dksX6_add_4 10 rfl rfl)
theorem dX6_add_107 : decode cX6_add 107 = .ok (.iastore, 1) := dk_79 (dk_at dksX6_add_4 11 rfl rfl)
theorem dX6_add_108 : decode cX6_add 108 = .ok (.iinc 3 1, 3) := dk_132 3 1 (dk_at dksX6_add_4 12 rfl rfl)
theorem dX6_add_111 : decode cX6_add 111 = .ok (.goto (-104), 3) := dk_167 255 152 (dk_at dksX6_add_4 15 rfl rfl)
theorem dX6_add_114 : decode cX6_add 114 = .ok (.return_, 1) := dk_177 (dk_at dksX6_add_4 18 rfl rfl)
abbrev cX6_other : ByteArray := prog_30_method_3_code
def yX6_other : MethodName := ⟨RX6, "other", "(I)I"⟩
def dkwX6_other_2 : List UInt8 := [167, 255, 213, 27, 172]
abbrev dktX6_other_2 : List UInt8 := dkwX6_other_2 ++ []
def dkwX6_other_1 : List UInt8 := [153, 0, 11, 29, 28, 184, 0, 18, 167, 0, 4, 3, 128, 60, 132, 3, 1, 167, 255, 226, 132, 2, 1]
abbrev dktX6_other_1 : List UInt8 := dkwX6_other_1 ++ dktX6_other_2
def dkwX6_other_0 : List UInt8 := [3, 60, 4, 61, 28, 6, 163, 0, 44, 4, 62, 29, 6, 163, 0, 31, 27, 26, 28, 29, 184, 0, 18, 126]
abbrev dktX6_other_0 : List UInt8 := dkwX6_other_0 ++ dktX6_other_1
theorem dksX6_other_0 : cX6_other.data.toList.drop 0 = dktX6_other_0 := by decide +kernel
theorem dksX6_other_1 : cX6_other.data.toList.drop 24 = dktX6_other_1 := dk_seg dksX6_other_0 24 rfl rfl
theorem dksX6_other_2 : cX6_other.data.toList.drop 47 = dktX6_other_2 := dk_seg dksX6_other_1 23 rfl rfl
theorem dX6_other_0 : decode cX6_other 0 = .ok (.iconst 0, 1) := dk_3 (dk_at dksX6_other_0 0 rfl rfl)
theorem dX6_other_1 : decode cX6_other 1 = .ok (.istore_n 1, 1) := dk_60 (dk_at dksX6_other_0 1 rfl rfl)
theorem dX6_other_2 : decode cX6_other 2 = .ok (.iconst 1, 1) := dk_4 (dk_at dksX6_other_0 2 rfl rfl)
theorem dX6_other_3 : decode cX6_other 3 = .ok (.istore_n 2, 1) := dk_61 (dk_at dksX6_other_0 3 rfl rfl)
theorem dX6_other_4 : decode cX6_other 4 = .ok (.iload_n 2, 1) := dk_28 (dk_at dksX6_other_0 4 rfl rfl)
theorem dX6_other_5 : decode cX6_other 5 = .ok (.iconst 3, 1) := dk_6 (dk_at dksX6_other_0 5 rfl rfl)
theorem dX6_other_6 : decode cX6_other 6 = .ok (.if_icmp .gt 44, 3) := dk_163 0 44 (dk_at dksX6_other_0 6 rfl rfl)
theorem dX6_other_9 : decode cX6_other 9 = .ok (.iconst 1, 1) := dk_4 (dk_at dksX6_other_0 9 rfl rfl)
theorem dX6_other_10 : decode cX6_other 10 = .ok (.istore_n 3, 1) := dk_62 (dk_at dksX6_other_0 10 rfl rfl)
theorem dX6_other_11 : decode cX6_other 11 = .ok (.iload_n 3, 1) := dk_29 (dk_at dksX6_other_0 11 rfl rfl)
theorem dX6_other_12 : decode cX6_other 12 = .ok (.iconst 3, 1) := dk_6 (dk_at dksX6_other_0 12 rfl rfl)
theorem dX6_other_13 : decode cX6_other 13 = .ok (.if_icmp .gt 31, 3) := dk_163 0 31 (dk_at dksX6_other_0 13 rfl rfl)
theorem dX6_other_16 : decode cX6_other 16 = .ok (.iload_n 1, 1) := dk_27 (dk_at dksX6_other_0 16 rfl rfl)
theorem dX6_other_17 : decode cX6_other 17 = .ok (.iload_n 0, 1) := dk_26 (dk_at dksX6_other_0 17 rfl rfl)
theorem dX6_other_18 : decode cX6_other 18 = .ok (.iload_n 2, 1) := dk_28 (dk_at dksX6_other_0 18 rfl rfl)
theorem dX6_other_19 : decode cX6_other 19 = .ok (.iload_n 3, 1) := dk_29 (dk_at dksX6_other_0 19 rfl rfl)
theorem dX6_other_20 : decode cX6_other 20 = .ok (.invokestatic 18, 3) := dk_184 0 18 (dk_at dksX6_other_0 20 rfl rfl)
theorem dX6_other_23 : decode cX6_other 23 = .ok (.iand, 1) := dk_126 (dk_at dksX6_other_0 23 rfl rfl)
theorem dX6_other_24 : decode cX6_other 24 = .ok (.ifCond .eq 11, 3) := dk_153 0 11 (dk_at dksX6_other_1 0 rfl rfl)
theorem dX6_other_27 : decode cX6_other 27 = .ok (.iload_n 3, 1) := dk_29 (dk_at dksX6_other_1 3 rfl rfl)
theorem dX6_other_28 : decode cX6_other 28 = .ok (.iload_n 2, 1) := dk_28 (dk_at dksX6_other_1 4 rfl rfl)
theorem dX6_other_29 : decode cX6_other 29 = .ok (.invokestatic 18, 3) := dk_184 0 18 (dk_at dksX6_other_1 5 rfl rfl)
theorem dX6_other_32 : decode cX6_other 32 = .ok (.goto 4, 3) := dk_167 0 4 (dk_at dksX6_other_1 8 rfl rfl)
theorem dX6_other_35 : decode cX6_other 35 = .ok (.iconst 0, 1) := dk_3 (dk_at dksX6_other_1 11 rfl rfl)
theorem dX6_other_36 : decode cX6_other 36 = .ok (.ior, 1) := dk_128 (dk_at dksX6_other_1 12 rfl rfl)
theorem dX6_other_37 : decode cX6_other 37 = .ok (.istore_n 1, 1) := dk_60 (dk_at dksX6_other_1 13 rfl rfl)
theorem dX6_other_38 : decode cX6_other 38 = .ok (.iinc 3 1, 3) := dk_132 3 1 (dk_at dksX6_other_1 14 rfl rfl)
theorem dX6_other_41 : decode cX6_other 41 = .ok (.goto (-30), 3) := dk_167 255 226 (dk_at dksX6_other_1 17 rfl rfl)
theorem dX6_other_44 : decode cX6_other 44 = .ok (.iinc 2 1, 3) := dk_132 2 1 (dk_at dksX6_other_1 20 rfl rfl)
theorem dX6_other_47 : decode cX6_other 47 = .ok (.goto (-43), 3) := dk_167 255 213 (dk_at dksX6_other_2 0 rfl rfl)
theorem dX6_other_50 : decode cX6_other 50 = .ok (.iload_n 1, 1) := dk_27 (dk_at dksX6_other_2 3 rfl rfl)
theorem dX6_other_51 : decode cX6_other 51 = .ok (.ireturn, 1) := dk_172 (dk_at dksX6_other_2 4 rfl rfl)
abbrev cX6_firsts : ByteArray := prog_30_method_5_code
def yX6_firsts : MethodName := ⟨RX6, "firsts", "(I)I"⟩
def dkwX6_firsts_1 : List UInt8 := [3, 128, 60, 132, 2, 1, 167, 255, 230, 27, 172]
abbrev dktX6_firsts_1 : List UInt8 := dkwX6_firsts_1 ++ []
def dkwX6_firsts_0 : List UInt8 := [3, 60, 4, 61, 28, 6, 163, 0, 27, 27, 26, 28, 184, 0, 54, 153, 0, 9, 4, 28, 120, 167, 0, 4]
abbrev dktX6_firsts_0 : List UInt8 := dkwX6_firsts_0 ++ dktX6_firsts_1
theorem dksX6_firsts_0 : cX6_firsts.data.toList.drop 0 = dktX6_firsts_0 := by decide +kernel
theorem dksX6_firsts_1 : cX6_firsts.data.toList.drop 24 = dktX6_firsts_1 := dk_seg dksX6_firsts_0 24 rfl rfl
theorem dX6_firsts_0 : decode cX6_firsts 0 = .ok (.iconst 0, 1) := dk_3 (dk_at dksX6_firsts_0 0 rfl rfl)
theorem dX6_firsts_1 : decode cX6_firsts 1 = .ok (.istore_n 1, 1) := dk_60 (dk_at dksX6_firsts_0 1 rfl rfl)
theorem dX6_firsts_2 : decode cX6_firsts 2 = .ok (.iconst 1, 1) := dk_4 (dk_at dksX6_firsts_0 2 rfl rfl)
theorem dX6_firsts_3 : decode cX6_firsts 3 = .ok (.istore_n 2, 1) := dk_61 (dk_at dksX6_firsts_0 3 rfl rfl)
theorem dX6_firsts_4 : decode cX6_firsts 4 = .ok (.iload_n 2, 1) := dk_28 (dk_at dksX6_firsts_0 4 rfl rfl)
theorem dX6_firsts_5 : decode cX6_firsts 5 = .ok (.iconst 3, 1) := dk_6 (dk_at dksX6_firsts_0 5 rfl rfl)
theorem dX6_firsts_6 : decode cX6_firsts 6 = .ok (.if_icmp .gt 27, 3) := dk_163 0 27 (dk_at dksX6_firsts_0 6 rfl rfl)
theorem dX6_firsts_9 : decode cX6_firsts 9 = .ok (.iload_n 1, 1) := dk_27 (dk_at dksX6_firsts_0 9 rfl rfl)
theorem dX6_firsts_10 : decode cX6_firsts 10 = .ok (.iload_n 0, 1) := dk_26 (dk_at dksX6_firsts_0 10 rfl rfl)
theorem dX6_firsts_11 : decode cX6_firsts 11 = .ok (.iload_n 2, 1) := dk_28 (dk_at dksX6_firsts_0 11 rfl rfl)
theorem dX6_firsts_12 : decode cX6_firsts 12 = .ok (.invokestatic 54, 3) := dk_184 0 54 (dk_at dksX6_firsts_0 12 rfl rfl)
theorem dX6_firsts_15 : decode cX6_firsts 15 = .ok (.ifCond .eq 9, 3) := dk_153 0 9 (dk_at dksX6_firsts_0 15 rfl rfl)
theorem dX6_firsts_18 : decode cX6_firsts 18 = .ok (.iconst 1, 1) := dk_4 (dk_at dksX6_firsts_0 18 rfl rfl)
theorem dX6_firsts_19 : decode cX6_firsts 19 = .ok (.iload_n 2, 1) := dk_28 (dk_at dksX6_firsts_0 19 rfl rfl)
theorem dX6_firsts_20 : decode cX6_firsts 20 = .ok (.ishl, 1) := dk_120 (dk_at dksX6_firsts_0 20 rfl rfl)
theorem dX6_firsts_21 : decode cX6_firsts 21 = .ok (.goto 4, 3) := dk_167 0 4 (dk_at dksX6_firsts_0 21 rfl rfl)
theorem dX6_firsts_24 : decode cX6_firsts 24 = .ok (.iconst 0, 1) := dk_3 (dk_at dksX6_firsts_1 0 rfl rfl)
theorem dX6_firsts_25 : decode cX6_firsts 25 = .ok (.ior, 1) := dk_128 (dk_at dksX6_firsts_1 1 rfl rfl)
theorem dX6_firsts_26 : decode cX6_firsts 26 = .ok (.istore_n 1, 1) := dk_60 (dk_at dksX6_firsts_1 2 rfl rfl)
theorem dX6_firsts_27 : decode cX6_firsts 27 = .ok (.iinc 2 1, 3) := dk_132 2 1 (dk_at dksX6_firsts_1 3 rfl rfl)
theorem dX6_firsts_30 : decode cX6_firsts 30 = .ok (.goto (-26), 3) := dk_167 255 230 (dk_at dksX6_firsts_1 6 rfl rfl)
theorem dX6_firsts_33 : decode cX6_firsts 33 = .ok (.iload_n 1, 1) := dk_27 (dk_at dksX6_firsts_1 9 rfl rfl)
theorem dX6_firsts_34 : decode cX6_firsts 34 = .ok (.ireturn, 1) := dk_172 (dk_at dksX6_firsts_1 10 rfl rfl)
abbrev cX6_partners : ByteArray := prog_30_method_6_code
def yX6_partners : MethodName := ⟨RX6, "partners", "(II)I"⟩
def dkwX6_partners_0 : List UInt8 := [26, 6, 27, 104, 6, 100, 122, 16, 7, 126, 4, 120, 172]
abbrev dktX6_partners_0 : List UInt8 := dkwX6_partners_0 ++ []
theorem dksX6_partners_0 : cX6_partners.data.toList.drop 0 = dktX6_partners_0 := by decide +kernel
theorem dX6_partners_0 : decode cX6_partners 0 = .ok (.iload_n 0, 1) := dk_26 (dk_at dksX6_partners_0 0 rfl rfl)
theorem dX6_partners_1 : decode cX6_partners 1 = .ok (.iconst 3, 1) := dk_6 (dk_at dksX6_partners_0 1 rfl rfl)
theorem dX6_partners_2 : decode cX6_partners 2 = .ok (.iload_n 1, 1) := dk_27 (dk_at dksX6_partners_0 2 rfl rfl)
theorem dX6_partners_3 : decode cX6_partners 3 = .ok (.imul, 1) := dk_104 (dk_at dksX6_partners_0 3 rfl rfl)
theorem dX6_partners_4 : decode cX6_partners 4 = .ok (.iconst 3, 1) := dk_6 (dk_at dksX6_partners_0 4 rfl rfl)
theorem dX6_partners_5 : decode cX6_partners 5 = .ok (.isub, 1) := dk_100 (dk_at dksX6_partners_0 5 rfl rfl)
theorem dX6_partners_6 : decode cX6_partners 6 = .ok (.ishr, 1) := dk_122 (dk_at dksX6_partners_0 6 rfl rfl)
theorem dX6_partners_7 : decode cX6_partners 7 = .ok (.bipush 7, 2) := dk_16 7 (dk_at dksX6_partners_0 7 rfl rfl)
theorem dX6_partners_9 : decode cX6_partners 9 = .ok (.iand, 1) := dk_126 (dk_at dksX6_partners_0 9 rfl rfl)
theorem dX6_partners_10 : decode cX6_partners 10 = .ok (.iconst 1, 1) := dk_4 (dk_at dksX6_partners_0 10 rfl rfl)
theorem dX6_partners_11 : decode cX6_partners 11 = .ok (.ishl, 1) := dk_120 (dk_at dksX6_partners_0 11 rfl rfl)
theorem dX6_partners_12 : decode cX6_partners 12 = .ok (.ireturn, 1) := dk_172 (dk_at dksX6_partners_0 12 rfl rfl)
abbrev cX6_tied : ByteArray := prog_30_method_7_code
def yX6_tied : MethodName := ⟨RX6, "tied", "(I)I"⟩
def dkwX6_tied_3 : List UInt8 := [61, 132, 5, 1, 167, 255, 207, 132, 4, 1, 167, 255, 191, 167, 255, 178, 28, 172]
abbrev dktX6_tied_3 : List UInt8 := dkwX6_tied_3 ++ []
def dkwX6_tied_2 : List UInt8 := [16, 12, 21, 4, 104, 21, 5, 96, 46, 17, 1, 255, 159, 0, 10, 4, 21, 5, 120, 167, 0, 4, 3, 128]
abbrev dktX6_tied_2 : List UInt8 := dkwX6_tied_2 ++ dktX6_tied_3
def dkwX6_tied_1 : List UInt8 := [54, 5, 21, 5, 16, 12, 162, 0, 48, 28, 21, 4, 184, 0, 57, 153, 0, 39, 28, 42, 180, 0, 15]
abbrev dktX6_tied_1 : List UInt8 := dkwX6_tied_1 ++ dktX6_tied_2
def dkwX6_tied_0 : List UInt8 := [4, 27, 120, 61, 3, 62, 29, 28, 159, 0, 79, 28, 62, 3, 54, 4, 21, 4, 16, 12, 162, 0, 64, 3]
abbrev dktX6_tied_0 : List UInt8 := dkwX6_tied_0 ++ dktX6_tied_1
theorem dksX6_tied_0 : cX6_tied.data.toList.drop 0 = dktX6_tied_0 := by decide +kernel
theorem dksX6_tied_1 : cX6_tied.data.toList.drop 24 = dktX6_tied_1 := dk_seg dksX6_tied_0 24 rfl rfl
theorem dksX6_tied_2 : cX6_tied.data.toList.drop 47 = dktX6_tied_2 := dk_seg dksX6_tied_1 23 rfl rfl
theorem dksX6_tied_3 : cX6_tied.data.toList.drop 71 = dktX6_tied_3 := dk_seg dksX6_tied_2 24 rfl rfl
theorem dX6_tied_0 : decode cX6_tied 0 = .ok (.iconst 1, 1) := dk_4 (dk_at dksX6_tied_0 0 rfl rfl)
theorem dX6_tied_1 : decode cX6_tied 1 = .ok (.iload_n 1, 1) := dk_27 (dk_at dksX6_tied_0 1 rfl rfl)
theorem dX6_tied_2 : decode cX6_tied 2 = .ok (.ishl, 1) := dk_120 (dk_at dksX6_tied_0 2 rfl rfl)
theorem dX6_tied_3 : decode cX6_tied 3 = .ok (.istore_n 2, 1) := dk_61 (dk_at dksX6_tied_0 3 rfl rfl)
theorem dX6_tied_4 : decode cX6_tied 4 = .ok (.iconst 0, 1) := dk_3 (dk_at dksX6_tied_0 4 rfl rfl)
theorem dX6_tied_5 : decode cX6_tied 5 = .ok (.istore_n 3, 1) := dk_62 (dk_at dksX6_tied_0 5 rfl rfl)
theorem dX6_tied_6 : decode cX6_tied 6 = .ok (.iload_n 3, 1) := dk_29 (dk_at dksX6_tied_0 6 rfl rfl)
theorem dX6_tied_7 : decode cX6_tied 7 = .ok (.iload_n 2, 1) := dk_28 (dk_at dksX6_tied_0 7 rfl rfl)
theorem dX6_tied_8 : decode cX6_tied 8 = .ok (.if_icmp .eq 79, 3) := dk_159 0 79 (dk_at dksX6_tied_0 8 rfl rfl)
theorem dX6_tied_11 : decode cX6_tied 11 = .ok (.iload_n 2, 1) := dk_28 (dk_at dksX6_tied_0 11 rfl rfl)
theorem dX6_tied_12 : decode cX6_tied 12 = .ok (.istore_n 3, 1) := dk_62 (dk_at dksX6_tied_0 12 rfl rfl)
theorem dX6_tied_13 : decode cX6_tied 13 = .ok (.iconst 0, 1) := dk_3 (dk_at dksX6_tied_0 13 rfl rfl)
theorem dX6_tied_14 : decode cX6_tied 14 = .ok (.istore 4, 2) := dk_54 4 (dk_at dksX6_tied_0 14 rfl rfl)
theorem dX6_tied_16 : decode cX6_tied 16 = .ok (.iload 4, 2) := dk_21 4 (dk_at dksX6_tied_0 16 rfl rfl)
theorem dX6_tied_18 : decode cX6_tied 18 = .ok (.bipush 12, 2) := dk_16 12 (dk_at dksX6_tied_0 18 rfl rfl)
theorem dX6_tied_20 : decode cX6_tied 20 = .ok (.if_icmp .ge 64, 3) := dk_162 0 64 (dk_at dksX6_tied_0 20 rfl rfl)
theorem dX6_tied_23 : decode cX6_tied 23 = .ok (.iconst 0, 1) := dk_3 (dk_at dksX6_tied_0 23 rfl rfl)
theorem dX6_tied_24 : decode cX6_tied 24 = .ok (.istore 5, 2) := dk_54 5 (dk_at dksX6_tied_1 0 rfl rfl)
theorem dX6_tied_26 : decode cX6_tied 26 = .ok (.iload 5, 2) := dk_21 5 (dk_at dksX6_tied_1 2 rfl rfl)
theorem dX6_tied_28 : decode cX6_tied 28 = .ok (.bipush 12, 2) := dk_16 12 (dk_at dksX6_tied_1 4 rfl rfl)
theorem dX6_tied_30 : decode cX6_tied 30 = .ok (.if_icmp .ge 48, 3) := dk_162 0 48 (dk_at dksX6_tied_1 6 rfl rfl)
theorem dX6_tied_33 : decode cX6_tied 33 = .ok (.iload_n 2, 1) := dk_28 (dk_at dksX6_tied_1 9 rfl rfl)
theorem dX6_tied_34 : decode cX6_tied 34 = .ok (.iload 4, 2) := dk_21 4 (dk_at dksX6_tied_1 10 rfl rfl)
theorem dX6_tied_36 : decode cX6_tied 36 = .ok (.invokestatic 57, 3) := dk_184 0 57 (dk_at dksX6_tied_1 12 rfl rfl)
theorem dX6_tied_39 : decode cX6_tied 39 = .ok (.ifCond .eq 39, 3) := dk_153 0 39 (dk_at dksX6_tied_1 15 rfl rfl)
theorem dX6_tied_42 : decode cX6_tied 42 = .ok (.iload_n 2, 1) := dk_28 (dk_at dksX6_tied_1 18 rfl rfl)
theorem dX6_tied_43 : decode cX6_tied 43 = .ok (.aload_n 0, 1) := dk_42 (dk_at dksX6_tied_1 19 rfl rfl)
theorem dX6_tied_44 : decode cX6_tied 44 = .ok (.getfield 15, 3) := dk_180 0 15 (dk_at dksX6_tied_1 20 rfl rfl)
theorem dX6_tied_47 : decode cX6_tied 47 = .ok (.bipush 12, 2) := dk_16 12 (dk_at dksX6_tied_2 0 rfl rfl)
theorem dX6_tied_49 : decode cX6_tied 49 = .ok (.iload 4, 2) := dk_21 4 (dk_at dksX6_tied_2 2 rfl rfl)
theorem dX6_tied_51 : decode cX6_tied 51 = .ok (.imul, 1) := dk_104 (dk_at dksX6_tied_2 4 rfl rfl)
theorem dX6_tied_52 : decode cX6_tied 52 = .ok (.iload 5, 2) := dk_21 5 (dk_at dksX6_tied_2 5 rfl rfl)
theorem dX6_tied_54 : decode cX6_tied 54 = .ok (.iadd, 1) := dk_96 (dk_at dksX6_tied_2 7 rfl rfl)
theorem dX6_tied_55 : decode cX6_tied 55 = .ok (.iaload, 1) := dk_46 (dk_at dksX6_tied_2 8 rfl rfl)
theorem dX6_tied_56 : decode cX6_tied 56 = .ok (.sipush 511, 3) := dk_17 1 255 (dk_at dksX6_tied_2 9 rfl rfl)
theorem dX6_tied_59 : decode cX6_tied 59 = .ok (.if_icmp .eq 10, 3) := dk_159 0 10 (dk_at dksX6_tied_2 12 rfl rfl)
theorem dX6_tied_62 : decode cX6_tied 62 = .ok (.iconst 1, 1) := dk_4 (dk_at dksX6_tied_2 15 rfl rfl)
theorem dX6_tied_63 : decode cX6_tied 63 = .ok (.iload 5, 2) := dk_21 5 (dk_at dksX6_tied_2 16 rfl rfl)
theorem dX6_tied_65 : decode cX6_tied 65 = .ok (.ishl, 1) := dk_120 (dk_at dksX6_tied_2 18 rfl rfl)
theorem dX6_tied_66 : decode cX6_tied 66 = .ok (.goto 4, 3) := dk_167 0 4 (dk_at dksX6_tied_2 19 rfl rfl)
theorem dX6_tied_69 : decode cX6_tied 69 = .ok (.iconst 0, 1) := dk_3 (dk_at dksX6_tied_2 22 rfl rfl)
theorem dX6_tied_70 : decode cX6_tied 70 = .ok (.ior, 1) := dk_128 (dk_at dksX6_tied_2 23 rfl rfl)
theorem dX6_tied_71 : decode cX6_tied 71 = .ok (.istore_n 2, 1) := dk_61 (dk_at dksX6_tied_3 0 rfl rfl)
theorem dX6_tied_72 : decode cX6_tied 72 = .ok (.iinc 5 1, 3) := dk_132 5 1 (dk_at dksX6_tied_3 1 rfl rfl)
theorem dX6_tied_75 : decode cX6_tied 75 = .ok (.goto (-49), 3) := dk_167 255 207 (dk_at dksX6_tied_3 4 rfl rfl)
theorem dX6_tied_78 : decode cX6_tied 78 = .ok (.iinc 4 1, 3) := dk_132 4 1 (dk_at dksX6_tied_3 7 rfl rfl)
theorem dX6_tied_81 : decode cX6_tied 81 = .ok (.goto (-65), 3) := dk_167 255 191 (dk_at dksX6_tied_3 10 rfl rfl)
theorem dX6_tied_84 : decode cX6_tied 84 = .ok (.goto (-78), 3) := dk_167 255 178 (dk_at dksX6_tied_3 13 rfl rfl)
theorem dX6_tied_87 : decode cX6_tied 87 = .ok (.iload_n 2, 1) := dk_28 (dk_at dksX6_tied_3 16 rfl rfl)
theorem dX6_tied_88 : decode cX6_tied 88 = .ok (.ireturn, 1) := dk_172 (dk_at dksX6_tied_3 17 rfl rfl)
theorem q103 : (Jvm.Cond.initialized "NineDemands$Web") ∈ lw_all := lw_g (lw_at lw_m1 13 rfl) rfl
theorem q307 : (Jvm.Cond.instantiable "NineDemands$Web" (2 : Nat)) ∈ lw_all := lw_g (lw_at lw_m1 217 rfl) rfl
theorem q309 : (Jvm.Cond.instanceMethod ({ cls := "NineDemands$Web", name := "<init>", desc := "()V" } : Jvm.MethodName)) ∈ lw_all := lw_g (lw_at lw_m1 219 rfl) rfl
theorem q310 : (Jvm.Cond.code ({ cls := "NineDemands$Web", name := "<init>", desc := "()V" } : Jvm.MethodName) prog_30_method_1_code (1 : Nat) (Option.none : Option Jvm.ClassFile.FieldType)) ∈ lw_all := lw_g (lw_at lw_m1 220 rfl) rfl
theorem q311 : (Jvm.Cond.methodLink "NineDemands$Web" (3 : Nat) ({ cls := "java/lang/Object", name := "<init>", desc := "()V" } : Jvm.MethodName)) ∈ lw_all := lw_g (lw_at lw_m1 221 rfl) rfl
theorem q312 : (Jvm.Cond.fieldLink "NineDemands$Web" (9 : Nat) "NineDemands$Web" "alone" "[I") ∈ lw_all := lw_g (lw_at lw_m1 222 rfl) rfl
theorem q314 : (Jvm.Cond.fieldLink "NineDemands$Web" (15 : Nat) "NineDemands$Web" "pair" "[I") ∈ lw_all := lw_g (lw_at lw_m1 224 rfl) rfl
theorem q316 : (Jvm.Cond.laysFinal "NineDemands$Web" "NineDemands$Web" "alone" "[I") ∈ lw_all := lw_g (lw_at lw_m1 226 rfl) rfl
theorem q317 : (Jvm.Cond.soleField "NineDemands$Web" "alone") ∈ lw_all := lw_g (lw_at lw_m1 227 rfl) rfl
theorem q318 : (Jvm.Cond.laysFinal "NineDemands$Web" "NineDemands$Web" "pair" "[I") ∈ lw_all := lw_g (lw_at lw_m1 228 rfl) rfl
theorem q319 : (Jvm.Cond.soleField "NineDemands$Web" "pair") ∈ lw_all := lw_g (lw_at lw_m1 229 rfl) rfl
theorem q320 : (Jvm.Cond.superclass "NineDemands$Web" "java/lang/Object") ∈ lw_all := lw_g (lw_at lw_m1 230 rfl) rfl
theorem q570 : (Jvm.Cond.fieldLink "NineDemands$Web" (22 : Nat) "NineDemands$Demand" "cases" "LNineDemands$Cases;") ∈ lw_all := lw_g (lw_at lw_m3 0 rfl) rfl
theorem q1121 : (Jvm.Cond.fieldLinkNest "NineDemands$Web" (34 : Nat) "NineDemands$Cases" "first" "[I" "NineDemands") ∈ lw_tbl := lw_at lw_m5 71 rfl
theorem q1129 : (Jvm.Cond.fieldLinkNest "NineDemands$Web" (41 : Nat) "NineDemands$Cases" "second" "[I" "NineDemands") ∈ lw_tbl := lw_at lw_m5 79 rfl
theorem q1135 : (Jvm.Cond.fieldLinkNest "NineDemands$Web" (44 : Nat) "NineDemands$Cases" "goes" "[I" "NineDemands") ∈ lw_tbl := lw_at lw_m5 85 rfl
theorem q1139 : (Jvm.Cond.fieldLinkNest "NineDemands$Web" (28 : Nat) "NineDemands$Cases" "many" "I" "NineDemands") ∈ lw_tbl := lw_at lw_m5 89 rfl
theorem q1307 : (Jvm.Cond.selects "NineDemands$Web" ({ cls := "java/lang/Object", name := "getClass", desc := "()Ljava/lang/Class;" } : Jvm.MethodName) ({ cls := "java/lang/Object", name := "getClass", desc := "()Ljava/lang/Class;" } : Jvm.MethodName)) ∈ lw_all := lw_g (lw_at lw_m6 17 rfl) rfl
theorem q1428 : (Jvm.Cond.instanceMethod ({ cls := "NineDemands$Web", name := "clear", desc := "()V" } : Jvm.MethodName)) ∈ lw_all := lw_g (lw_at lw_m6 138 rfl) rfl
theorem q1429 : (Jvm.Cond.selects "NineDemands$Web" ({ cls := "NineDemands$Web", name := "clear", desc := "()V" } : Jvm.MethodName) ({ cls := "NineDemands$Web", name := "clear", desc := "()V" } : Jvm.MethodName)) ∈ lw_all := lw_g (lw_at lw_m6 139 rfl) rfl
theorem q1430 : (Jvm.Cond.code ({ cls := "NineDemands$Web", name := "clear", desc := "()V" } : Jvm.MethodName) prog_30_method_2_code (2 : Nat) (Option.none : Option Jvm.ClassFile.FieldType)) ∈ lw_all := lw_g (lw_at lw_m6 140 rfl) rfl
theorem q1435 : (Jvm.Cond.instanceMethod ({ cls := "NineDemands$Web", name := "add", desc := "(LNineDemands$Demand;)V" } : Jvm.MethodName)) ∈ lw_all := lw_g (lw_at lw_m6 145 rfl) rfl
theorem q1436 : (Jvm.Cond.selects "NineDemands$Web" ({ cls := "NineDemands$Web", name := "add", desc := "(LNineDemands$Demand;)V" } : Jvm.MethodName) ({ cls := "NineDemands$Web", name := "add", desc := "(LNineDemands$Demand;)V" } : Jvm.MethodName)) ∈ lw_all := lw_g (lw_at lw_m6 146 rfl) rfl
theorem q1437 : (Jvm.Cond.code ({ cls := "NineDemands$Web", name := "add", desc := "(LNineDemands$Demand;)V" } : Jvm.MethodName) prog_30_method_4_code (6 : Nat) (Option.none : Option Jvm.ClassFile.FieldType)) ∈ lw_all := lw_g (lw_at lw_m6 147 rfl) rfl
theorem q1438 : (Jvm.Cond.methodLink "NineDemands$Web" (37 : Nat) ({ cls := "NineDemands$Cases", name := "isPair", desc := "(I)Z" } : Jvm.MethodName)) ∈ lw_all := lw_g (lw_at lw_m6 148 rfl) rfl
theorem q1439 : (Jvm.Cond.methodLink "NineDemands$Web" (47 : Nat) ({ cls := "NineDemands$Web", name := "other", desc := "(I)I" } : Jvm.MethodName)) ∈ lw_all := lw_g (lw_at lw_m6 149 rfl) rfl
theorem q1440 : (Jvm.Cond.static ({ cls := "NineDemands$Web", name := "other", desc := "(I)I" } : Jvm.MethodName)) ∈ lw_all := lw_g (lw_at lw_m6 150 rfl) rfl
theorem q1441 : (Jvm.Cond.code ({ cls := "NineDemands$Web", name := "other", desc := "(I)I" } : Jvm.MethodName) prog_30_method_3_code (4 : Nat) (Option.some Jvm.ClassFile.FieldType.int)) ∈ lw_all := lw_g (lw_at lw_m6 151 rfl) rfl
theorem q1442 : (Jvm.Cond.methodLinkNest "NineDemands$Web" (18 : Nat) ({ cls := "NineDemands", name := "bitOf", desc := "(II)I" } : Jvm.MethodName) "NineDemands") ∈ lw_tbl := lw_at lw_m6 152 rfl
theorem q1443 : (Jvm.Cond.methodLink "NineDemands$Web" (51 : Nat) ({ cls := "NineDemands$Web", name := "firsts", desc := "(I)I" } : Jvm.MethodName)) ∈ lw_all := lw_g (lw_at lw_m6 153 rfl) rfl
theorem q1444 : (Jvm.Cond.static ({ cls := "NineDemands$Web", name := "firsts", desc := "(I)I" } : Jvm.MethodName)) ∈ lw_all := lw_g (lw_at lw_m6 154 rfl) rfl
theorem q1445 : (Jvm.Cond.code ({ cls := "NineDemands$Web", name := "firsts", desc := "(I)I" } : Jvm.MethodName) prog_30_method_5_code (3 : Nat) (Option.some Jvm.ClassFile.FieldType.int)) ∈ lw_all := lw_g (lw_at lw_m6 155 rfl) rfl
theorem q1446 : (Jvm.Cond.methodLink "NineDemands$Web" (54 : Nat) ({ cls := "NineDemands$Web", name := "partners", desc := "(II)I" } : Jvm.MethodName)) ∈ lw_all := lw_g (lw_at lw_m6 156 rfl) rfl
theorem q1447 : (Jvm.Cond.static ({ cls := "NineDemands$Web", name := "partners", desc := "(II)I" } : Jvm.MethodName)) ∈ lw_all := lw_g (lw_at lw_m6 157 rfl) rfl
theorem q1448 : (Jvm.Cond.code ({ cls := "NineDemands$Web", name := "partners", desc := "(II)I" } : Jvm.MethodName) prog_30_method_6_code (2 : Nat) (Option.some Jvm.ClassFile.FieldType.int)) ∈ lw_all := lw_g (lw_at lw_m6 158 rfl) rfl
theorem q1493 : (Jvm.Cond.instanceMethod ({ cls := "NineDemands$Web", name := "tied", desc := "(I)I" } : Jvm.MethodName)) ∈ lw_all := lw_g (lw_at lw_m6 203 rfl) rfl
theorem q1494 : (Jvm.Cond.selects "NineDemands$Web" ({ cls := "NineDemands$Web", name := "tied", desc := "(I)I" } : Jvm.MethodName) ({ cls := "NineDemands$Web", name := "tied", desc := "(I)I" } : Jvm.MethodName)) ∈ lw_all := lw_g (lw_at lw_m6 204 rfl) rfl
theorem q1495 : (Jvm.Cond.code ({ cls := "NineDemands$Web", name := "tied", desc := "(I)I" } : Jvm.MethodName) prog_30_method_7_code (6 : Nat) (Option.some Jvm.ClassFile.FieldType.int)) ∈ lw_all := lw_g (lw_at lw_m6 205 rfl) rfl
theorem q1496 : (Jvm.Cond.methodLinkNest "NineDemands$Web" (57 : Nat) ({ cls := "NineDemands", name := "has", desc := "(II)Z" } : Jvm.MethodName) "NineDemands") ∈ lw_tbl := lw_at lw_m6 206 rfl
theorem q2530 : (Jvm.Cond.castable "NineDemands$Web" "java/lang/Object") ∈ lw_tbl := lw_at lw_m11 40 rfl
theorem in_X6 : ∀ w ∈ wsX60, w ∈ lw_all := lw_in wsX60 [316, 318] (by decide +kernel) (by decide +kernel)
/-! NineDemands$Showing -/
set_option maxRecDepth 100000
def RX7 : String := "NineDemands$Showing"
def TX7 : u_T := fun k => match k with
  | 0 => ("NineDemands$Showing", "steps", "[I", true)
  | 1 => ("NineDemands$Showing", "left", "[I", true)
  | 2 => ("NineDemands$Showing", "many", "I", false)
  | _ => ("NineDemands$Showing", "isProof", "Z", false)
def tyX7 : Nat → FieldType := fun k => match k with
  | 0 => .array .int
  | 1 => .array .int
  | 2 => .int
  | _ => .boolean
abbrev wsX70 : List Cond := u_ws RX7 TX7 4
theorem nmX7 : ∀ a, a < 4 → ∀ b, b < 4 → a ≠ b → (TX7 a).2.1 ≠ (TX7 b).2.1 := by decide +kernel
theorem tyX7_ok : ∀ k, k < 4 → parseFieldDescriptor (TX7 k).2.2.1 = some (tyX7 k) := by decide +kernel
abbrev cX7_init : ByteArray := prog_21_method_1_code
def yX7_init : MethodName := ⟨RX7, "<init>", "()V"⟩
def dkwX7_init_0 : List UInt8 := [42, 183, 0, 3, 42, 16, 36, 188, 10, 181, 0, 9, 42, 16, 12, 188, 10, 181, 0, 15, 177]
abbrev dktX7_init_0 : List UInt8 := dkwX7_init_0 ++ []
theorem dksX7_init_0 : cX7_init.data.toList.drop 0 = dktX7_init_0 := by decide +kernel
theorem dX7_init_0 : decode cX7_init 0 = .ok (.aload_n 0, 1) := dk_42 (dk_at dksX7_init_0 0 rfl rfl)
theorem dX7_init_1 : decode cX7_init 1 = .ok (.invokespecial 3, 3) := dk_183 0 3 (dk_at dksX7_init_0 1 rfl rfl)
theorem dX7_init_4 : decode cX7_init 4 = .ok (.aload_n 0, 1) := dk_42 (dk_at dksX7_init_0 4 rfl rfl)
theorem dX7_init_5 : decode cX7_init 5 = .ok (.bipush 36, 2) := dk_16 36 (dk_at dksX7_init_0 5 rfl rfl)
theorem dX7_init_7 : decode cX7_init 7 = .ok (.newarray .int, 2) := dk_188_10 (dk_at dksX7_init_0 7 rfl rfl)
theorem dX7_init_9 : decode cX7_init 9 = .ok (.putfield 9, 3) := dk_181 0 9 (dk_at dksX7_init_0 9 rfl rfl)
theorem dX7_init_12 : decode cX7_init 12 = .ok (.aload_n 0, 1) := dk_42 (dk_at dksX7_init_0 12 rfl rfl)
theorem dX7_init_13 : decode cX7_init 13 = .ok (.bipush 12, 2) := dk_16 12 (dk_at dksX7_init_0 13 rfl rfl)
theorem dX7_init_15 : decode cX7_init 15 = .ok (.newarray .int, 2) := dk_188_10 (dk_at dksX7_init_0 15 rfl rfl)
theorem dX7_init_17 : decode cX7_init 17 = .ok (.putfield 15, 3) := dk_181 0 15 (dk_at dksX7_init_0 17 rfl rfl)
theorem dX7_init_20 : decode cX7_init 20 = .ok (.return_, 1) := dk_177 (dk_at dksX7_init_0 20 rfl rfl)
abbrev cX7_shows : ByteArray := prog_21_method_9_code
def yX7_shows : MethodName := ⟨RX7, "shows", "(Ljava/util/ArrayList;I)V"⟩
def dkwX7_shows_3 : List UInt8 := [180, 0, 18, 21, 4, 164, 0, 7, 4, 167, 0, 4, 3, 62, 167, 255, 177, 177]
abbrev dktX7_shows_3 : List UInt8 := dkwX7_shows_3 ++ []
def dkwX7_shows_2 : List UInt8 := [153, 0, 16, 42, 43, 21, 5, 182, 0, 83, 192, 0, 27, 182, 0, 87, 132, 5, 1, 167, 255, 215, 42]
abbrev dktX7_shows_2 : List UInt8 := dkwX7_shows_2 ++ dktX7_shows_3
def dkwX7_shows_1 : List UInt8 := [54, 5, 21, 5, 43, 182, 0, 77, 162, 0, 38, 42, 180, 0, 22, 154, 0, 31, 28, 21, 5, 184, 0, 45]
abbrev dktX7_shows_1 : List UInt8 := dkwX7_shows_1 ++ dktX7_shows_2
def dkwX7_shows_0 : List UInt8 := [42, 182, 0, 74, 4, 62, 29, 153, 0, 81, 42, 180, 0, 22, 154, 0, 74, 42, 180, 0, 18, 54, 4, 3]
abbrev dktX7_shows_0 : List UInt8 := dkwX7_shows_0 ++ dktX7_shows_1
theorem dksX7_shows_0 : cX7_shows.data.toList.drop 0 = dktX7_shows_0 := by decide +kernel
theorem dksX7_shows_1 : cX7_shows.data.toList.drop 24 = dktX7_shows_1 := dk_seg dksX7_shows_0 24 rfl rfl
theorem dksX7_shows_2 : cX7_shows.data.toList.drop 48 = dktX7_shows_2 := dk_seg dksX7_shows_1 24 rfl rfl
theorem dksX7_shows_3 : cX7_shows.data.toList.drop 71 = dktX7_shows_3 := dk_seg dksX7_shows_2 23 rfl rfl
theorem dX7_shows_0 : decode cX7_shows 0 = .ok (.aload_n 0, 1) := dk_42 (dk_at dksX7_shows_0 0 rfl rfl)
theorem dX7_shows_1 : decode cX7_shows 1 = .ok (.invokevirtual 74, 3) := dk_182 0 74 (dk_at dksX7_shows_0 1 rfl rfl)
theorem dX7_shows_4 : decode cX7_shows 4 = .ok (.iconst 1, 1) := dk_4 (dk_at dksX7_shows_0 4 rfl rfl)
theorem dX7_shows_5 : decode cX7_shows 5 = .ok (.istore_n 3, 1) := dk_62 (dk_at dksX7_shows_0 5 rfl rfl)
theorem dX7_shows_6 : decode cX7_shows 6 = .ok (.iload_n 3, 1) := dk_29 (dk_at dksX7_shows_0 6 rfl rfl)
theorem dX7_shows_7 : decode cX7_shows 7 = .ok (.ifCond .eq 81, 3) := dk_153 0 81 (dk_at dksX7_shows_0 7 rfl rfl)
theorem dX7_shows_10 : decode cX7_shows 10 = .ok (.aload_n 0, 1) := dk_42 (dk_at dksX7_shows_0 10 rfl rfl)
theorem dX7_shows_11 : decode cX7_shows 11 = .ok (.getfield 22, 3) := dk_180 0 22 (dk_at dksX7_shows_0 11 rfl rfl)
theorem dX7_shows_14 : decode cX7_shows 14 = .ok (.ifCond .ne 74, 3) := dk_154 0 74 (dk_at dksX7_shows_0 14 rfl rfl)
theorem dX7_shows_17 : decode cX7_shows 17 = .ok (.aload_n 0, 1) := dk_42 (dk_at dksX7_shows_0 17 rfl rfl)
theorem dX7_shows_18 : decode cX7_shows 18 = .ok (.getfield 18, 3) := dk_180 0 18 (dk_at dksX7_shows_0 18 rfl rfl)
theorem dX7_shows_21 : decode cX7_shows 21 = .ok (.istore 4, 2) := dk_54 4 (dk_at dksX7_shows_0 21 rfl rfl)
theorem dX7_shows_23 : decode cX7_shows 23 = .ok (.iconst 0, 1) := dk_3 (dk_at dksX7_shows_0 23 rfl rfl)
theorem dX7_shows_24 : decode cX7_shows 24 = .ok (.istore 5, 2) := dk_54 5 (dk_at dksX7_shows_1 0 rfl rfl)
theorem dX7_shows_26 : decode cX7_shows 26 = .ok (.iload 5, 2) := dk_21 5 (dk_at dksX7_shows_1 2 rfl rfl)
theorem dX7_shows_28 : decode cX7_shows 28 = .ok (.aload_n 1, 1) := dk_43 (dk_at dksX7_shows_1 4 rfl rfl)
theorem dX7_shows_29 : decode cX7_shows 29 = .ok (.invokevirtual 77, 3) := dk_182 0 77 (dk_at dksX7_shows_1 5 rfl rfl)
theorem dX7_shows_32 : decode cX7_shows 32 = .ok (.if_icmp .ge 38, 3) := dk_162 0 38 (dk_at dksX7_shows_1 8 rfl rfl)
theorem dX7_shows_35 : decode cX7_shows 35 = .ok (.aload_n 0, 1) := dk_42 (dk_at dksX7_shows_1 11 rfl rfl)
theorem dX7_shows_36 : decode cX7_shows 36 = .ok (.getfield 22, 3) := dk_180 0 22 (dk_at dksX7_shows_1 12 rfl rfl)
theorem dX7_shows_39 : decode cX7_shows 39 = .ok (.ifCond .ne 31, 3) := dk_154 0 31 (dk_at dksX7_shows_1 15 rfl rfl)
theorem dX7_shows_42 : decode cX7_shows 42 = .ok (.iload_n 2, 1) := dk_28 (dk_at dksX7_shows_1 18 rfl rfl)
theorem dX7_shows_43 : decode cX7_shows 43 = .ok (.iload 5, 2) := dk_21 5 (dk_at dksX7_shows_1 19 rfl rfl)
theorem dX7_shows_45 : decode cX7_shows 45 = .ok (.invokestatic 45, 3) := dk_184 0 45 (dk_at dksX7_shows_1 21 rfl rfl)
theorem dX7_shows_48 : decode cX7_shows 48 = .ok (.ifCond .eq 16, 3) := dk_153 0 16 (dk_at dksX7_shows_2 0 rfl rfl)
theorem dX7_shows_51 : decode cX7_shows 51 = .ok (.aload_n 0, 1) := dk_42 (dk_at dksX7_shows_2 3 rfl rfl)
theorem dX7_shows_52 : decode cX7_shows 52 = .ok (.aload_n 1, 1) := dk_43 (dk_at dksX7_shows_2 4 rfl rfl)
theorem dX7_shows_53 : decode cX7_shows 53 = .ok (.iload 5, 2) := dk_21 5 (dk_at dksX7_shows_2 5 rfl rfl)
theorem dX7_shows_55 : decode cX7_shows 55 = .ok (.invokevirtual 83, 3) := dk_182 0 83 (dk_at dksX7_shows_2 7 rfl rfl)
theorem dX7_shows_58 : decode cX7_shows 58 = .ok (.checkcast 27, 3) := dk_192 0 27 (dk_at dksX7_shows_2 10 rfl rfl)
theorem dX7_shows_61 : decode cX7_shows 61 = .ok (.invokevirtual 87, 3) := dk_182 0 87 (dk_at dksX7_shows_2 13 rfl rfl)
theorem dX7_shows_64 : decode cX7_shows 64 = .ok (.iinc 5 1, 3) := dk_132 5 1 (dk_at dksX7_shows_2 16 rfl rfl)
theorem dX7_shows_67 : decode cX7_shows 67 = .ok (.goto (-41), 3) := dk_167 255 215 (dk_at dksX7_shows_2 19 rfl rfl)
theorem dX7_shows_70 : decode cX7_shows 70 = .ok (.aload_n 0, 1) := dk_42 (dk_at dksX7_shows_2 22 rfl rfl)
theorem dX7_shows_71 : decode cX7_shows 71 = .ok (.getfield 18, 3) := dk_180 0 18 (dk_at dksX7_shows_3 0 rfl rfl)
theorem dX7_shows_74 : decode cX7_shows 74 = .ok (.iload 4, 2) := dk_21 4 (dk_at dksX7_shows_3 3 rfl rfl)
theorem dX7_shows_76 : decode cX7_shows 76 = .ok (.if_icmp .le 7, 3) := dk_164 0 7 (dk_at dksX7_shows_3 5 rfl rfl)
theorem dX7_shows_79 : decode cX7_shows 79 = .ok (.iconst 1, 1) := dk_4 (dk_at dksX7_shows_3 8 rfl rfl)
theorem dX7_shows_80 : decode cX7_shows 80 = .ok (.goto 4, 3) := dk_167 0 4 (dk_at dksX7_shows_3 9 rfl rfl)
theorem dX7_shows_83 : decode cX7_shows 83 = .ok (.iconst 0, 1) := dk_3 (dk_at dksX7_shows_3 12 rfl rfl)
theorem dX7_shows_84 : decode cX7_shows 84 = .ok (.istore_n 3, 1) := dk_62 (dk_at dksX7_shows_3 13 rfl rfl)
theorem dX7_shows_85 : decode cX7_shows 85 = .ok (.goto (-79), 3) := dk_167 255 177 (dk_at dksX7_shows_3 14 rfl rfl)
theorem dX7_shows_88 : decode cX7_shows 88 = .ok (.return_, 1) := dk_177 (dk_at dksX7_shows_3 17 rfl rfl)
abbrev cX7_begin : ByteArray := prog_21_method_2_code
def yX7_begin : MethodName := ⟨RX7, "begin", "()V"⟩
def dkwX7_begin_1 : List UInt8 := [181, 0, 18, 42, 3, 181, 0, 22, 177]
abbrev dktX7_begin_1 : List UInt8 := dkwX7_begin_1 ++ []
def dkwX7_begin_0 : List UInt8 := [3, 60, 27, 16, 12, 162, 0, 17, 42, 180, 0, 15, 27, 16, 14, 79, 132, 1, 1, 167, 255, 239, 42, 3]
abbrev dktX7_begin_0 : List UInt8 := dkwX7_begin_0 ++ dktX7_begin_1
theorem dksX7_begin_0 : cX7_begin.data.toList.drop 0 = dktX7_begin_0 := by decide +kernel
theorem dksX7_begin_1 : cX7_begin.data.toList.drop 24 = dktX7_begin_1 := dk_seg dksX7_begin_0 24 rfl rfl
theorem dX7_begin_0 : decode cX7_begin 0 = .ok (.iconst 0, 1) := dk_3 (dk_at dksX7_begin_0 0 rfl rfl)
theorem dX7_begin_1 : decode cX7_begin 1 = .ok (.istore_n 1, 1) := dk_60 (dk_at dksX7_begin_0 1 rfl rfl)
theorem dX7_begin_2 : decode cX7_begin 2 = .ok (.iload_n 1, 1) := dk_27 (dk_at dksX7_begin_0 2 rfl rfl)
theorem dX7_begin_3 : decode cX7_begin 3 = .ok (.bipush 12, 2) := dk_16 12 (dk_at dksX7_begin_0 3 rfl rfl)
theorem dX7_begin_5 : decode cX7_begin 5 = .ok (.if_icmp .ge 17, 3) := dk_162 0 17 (dk_at dksX7_begin_0 5 rfl rfl)
theorem dX7_begin_8 : decode cX7_begin 8 = .ok (.aload_n 0, 1) := dk_42 (dk_at dksX7_begin_0 8 rfl rfl)
theorem dX7_begin_9 : decode cX7_begin 9 = .ok (.getfield 15, 3) := dk_180 0 15 (dk_at dksX7_begin_0 9 rfl rfl)
theorem dX7_begin_12 : decode cX7_begin 12 = .ok (.iload_n 1, 1) := dk_27 (dk_at dksX7_begin_0 12 rfl rfl)
theorem dX7_begin_13 : decode cX7_begin 13 = .ok (.bipush 14, 2) := dk_16 14 (dk_at dksX7_begin_0 13 rfl rfl)
theorem dX7_begin_15 : decode cX7_begin 15 = .ok (.iastore, 1) := dk_79 (dk_at dksX7_begin_0 15 rfl rfl)
theorem dX7_begin_16 : decode cX7_begin 16 = .ok (.iinc 1 1, 3) := dk_132 1 1 (dk_at dksX7_begin_0 16 rfl rfl)
theorem dX7_begin_19 : decode cX7_begin 19 = .ok (.goto (-17), 3) := dk_167 255 239 (dk_at dksX7_begin_0 19 rfl rfl)
theorem dX7_begin_22 : decode cX7_begin 22 = .ok (.aload_n 0, 1) := dk_42 (dk_at dksX7_begin_0 22 rfl rfl)
theorem dX7_begin_23 : decode cX7_begin 23 = .ok (.iconst 0, 1) := dk_3 (dk_at dksX7_begin_0 23 rfl rfl)
theorem dX7_begin_24 : decode cX7_begin 24 = .ok (.putfield 18, 3) := dk_181 0 18 (dk_at dksX7_begin_1 0 rfl rfl)
theorem dX7_begin_27 : decode cX7_begin 27 = .ok (.aload_n 0, 1) := dk_42 (dk_at dksX7_begin_1 3 rfl rfl)
theorem dX7_begin_28 : decode cX7_begin 28 = .ok (.iconst 0, 1) := dk_3 (dk_at dksX7_begin_1 4 rfl rfl)
theorem dX7_begin_29 : decode cX7_begin 29 = .ok (.putfield 22, 3) := dk_181 0 22 (dk_at dksX7_begin_1 5 rfl rfl)
theorem dX7_begin_32 : decode cX7_begin 32 = .ok (.return_, 1) := dk_177 (dk_at dksX7_begin_1 8 rfl rfl)
abbrev cX7_strikes : ByteArray := prog_21_method_8_code
def yX7_strikes : MethodName := ⟨RX7, "strikes", "(LNineDemands$Demand;)V"⟩
def dkwX7_strikes_2 : List UInt8 := [182, 0, 71, 132, 2, 1, 167, 255, 205, 177]
abbrev dktX7_strikes_2 : List UInt8 := dkwX7_strikes_2 ++ []
def dkwX7_strikes_1 : List UInt8 := [182, 0, 67, 43, 180, 0, 26, 28, 182, 0, 32, 153, 0, 16, 42, 180, 0, 22, 154, 0, 9, 42, 43, 28]
abbrev dktX7_strikes_1 : List UInt8 := dkwX7_strikes_1 ++ dktX7_strikes_2
def dkwX7_strikes_0 : List UInt8 := [3, 61, 28, 43, 180, 0, 26, 180, 0, 66, 162, 0, 46, 42, 180, 0, 22, 154, 0, 39, 42, 43, 28]
abbrev dktX7_strikes_0 : List UInt8 := dkwX7_strikes_0 ++ dktX7_strikes_1
theorem dksX7_strikes_0 : cX7_strikes.data.toList.drop 0 = dktX7_strikes_0 := by decide +kernel
theorem dksX7_strikes_1 : cX7_strikes.data.toList.drop 23 = dktX7_strikes_1 := dk_seg dksX7_strikes_0 23 rfl rfl
theorem dksX7_strikes_2 : cX7_strikes.data.toList.drop 47 = dktX7_strikes_2 := dk_seg dksX7_strikes_1 24 rfl rfl
theorem dX7_strikes_0 : decode cX7_strikes 0 = .ok (.iconst 0, 1) := dk_3 (dk_at dksX7_strikes_0 0 rfl rfl)
theorem dX7_strikes_1 : decode cX7_strikes 1 = .ok (.istore_n 2, 1) := dk_61 (dk_at dksX7_strikes_0 1 rfl rfl)
theorem dX7_strikes_2 : decode cX7_strikes 2 = .ok (.iload_n 2, 1) := dk_28 (dk_at dksX7_strikes_0 2 rfl rfl)
theorem dX7_strikes_3 : decode cX7_strikes 3 = .ok (.aload_n 1, 1) := dk_43 (dk_at dksX7_strikes_0 3 rfl rfl)
theorem dX7_strikes_4 : decode cX7_strikes 4 = .ok (.getfield 26, 3) := dk_180 0 26 (dk_at dksX7_strikes_0 4 rfl rfl)
theorem dX7_strikes_7 : decode cX7_strikes 7 = .ok (.getfield 66, 3) := dk_180 0 66 (dk_at dksX7_strikes_0 7 rfl rfl)
theorem dX7_strikes_10 : decode cX7_strikes 10 = .ok (.if_icmp .ge 46, 3) := dk_162 0 46 (dk_at dksX7_strikes_0 10 rfl rfl)
theorem dX7_strikes_13 : decode cX7_strikes 13 = .ok (.aload_n 0, 1) := dk_42 (dk_at dksX7_strikes_0 13 rfl rfl)
theorem dX7_strikes_14 : decode cX7_strikes 14 = .ok (.getfield 22, 3) := dk_180 0 22 (dk_at dksX7_strikes_0 14 rfl rfl)
theorem dX7_strikes_17 : decode cX7_strikes 17 = .ok (.ifCond .ne 39, 3) := dk_154 0 39 (dk_at dksX7_strikes_0 17 rfl rfl)
theorem dX7_strikes_20 : decode cX7_strikes 20 = .ok (.aload_n 0, 1) := dk_42 (dk_at dksX7_strikes_0 20 rfl rfl)
theorem dX7_strikes_21 : decode cX7_strikes 21 = .ok (.aload_n 1, 1) := dk_43 (dk_at dksX7_strikes_0 21 rfl rfl)
theorem dX7_strikes_22 : decode cX7_strikes 22 = .ok (.iload_n 2, 1) := dk_28 (dk_at dksX7_strikes_0 22 rfl rfl)
theorem dX7_strikes_23 : decode cX7_strikes 23 = .ok (.invokevirtual 67, 3) := dk_182 0 67 (dk_at dksX7_strikes_1 0 rfl rfl)
theorem dX7_strikes_26 : decode cX7_strikes 26 = .ok (.aload_n 1, 1) := dk_43 (dk_at dksX7_strikes_1 3 rfl rfl)
theorem dX7_strikes_27 : decode cX7_strikes 27 = .ok (.getfield 26, 3) := dk_180 0 26 (dk_at dksX7_strikes_1 4 rfl rfl)
theorem dX7_strikes_30 : decode cX7_strikes 30 = .ok (.iload_n 2, 1) := dk_28 (dk_at dksX7_strikes_1 7 rfl rfl)
theorem dX7_strikes_31 : decode cX7_strikes 31 = .ok (.invokevirtual 32, 3) := dk_182 0 32 (dk_at dksX7_strikes_1 8 rfl rfl)
theorem dX7_strikes_34 : decode cX7_strikes 34 = .ok (.ifCond .eq 16, 3) := dk_153 0 16 (dk_at dksX7_strikes_1 11 rfl rfl)
theorem dX7_strikes_37 : decode cX7_strikes 37 = .ok (.aload_n 0, 1) := dk_42 (dk_at dksX7_strikes_1 14 rfl rfl)
theorem dX7_strikes_38 : decode cX7_strikes 38 = .ok (.getfield 22, 3) := dk_180 0 22 (dk_at dksX7_strikes_1 15 rfl rfl)
theorem dX7_strikes_41 : decode cX7_strikes 41 = .ok (.ifCond .ne 9, 3) := dk_154 0 9 (dk_at dksX7_strikes_1 18 rfl rfl)
theorem dX7_strikes_44 : decode cX7_strikes 44 = .ok (.aload_n 0, 1) := dk_42 (dk_at dksX7_strikes_1 21 rfl rfl)
theorem dX7_strikes_45 : decode cX7_strikes 45 = .ok (.aload_n 1, 1) := dk_43 (dk_at dksX7_strikes_1 22 rfl rfl)
theorem dX7_strikes_46 : decode cX7_strikes 46 = .ok (.iload_n 2, 1) := dk_28 (dk_at dksX7_strikes_1 23 rfl rfl)
theorem dX7_strikes_47 : decode cX7_strikes 47 = .ok (.invokevirtual 71, 3) := dk_182 0 71 (dk_at dksX7_strikes_2 0 rfl rfl)
theorem dX7_strikes_50 : decode cX7_strikes 50 = .ok (.iinc 2 1, 3) := dk_132 2 1 (dk_at dksX7_strikes_2 3 rfl rfl)
theorem dX7_strikes_53 : decode cX7_strikes 53 = .ok (.goto (-51), 3) := dk_167 255 205 (dk_at dksX7_strikes_2 6 rfl rfl)
theorem dX7_strikes_56 : decode cX7_strikes 56 = .ok (.return_, 1) := dk_177 (dk_at dksX7_strikes_2 9 rfl rfl)
abbrev cX7_strikesFirst : ByteArray := prog_21_method_6_code
def yX7_strikesFirst : MethodName := ⟨RX7, "strikesFirst", "(LNineDemands$Demand;I)V"⟩
def dkwX7_strikesFirst_2 : List UInt8 := [182, 0, 55, 154, 0, 11, 42, 43, 29, 21, 4, 182, 0, 59, 132, 4, 1, 167, 255, 207, 177]
abbrev dktX7_strikesFirst_2 : List UInt8 := dkwX7_strikesFirst_2 ++ []
def dkwX7_strikesFirst_1 : List UInt8 := [154, 0, 42, 42, 180, 0, 15, 29, 46, 21, 4, 184, 0, 45, 153, 0, 22, 42, 43, 28, 21, 4]
abbrev dktX7_strikesFirst_1 : List UInt8 := dkwX7_strikesFirst_1 ++ dktX7_strikesFirst_2
def dkwX7_strikesFirst_0 : List UInt8 := [43, 180, 0, 26, 180, 0, 49, 28, 46, 62, 4, 54, 4, 21, 4, 6, 163, 0, 49, 42, 180, 0, 22]
abbrev dktX7_strikesFirst_0 : List UInt8 := dkwX7_strikesFirst_0 ++ dktX7_strikesFirst_1
theorem dksX7_strikesFirst_0 : cX7_strikesFirst.data.toList.drop 0 = dktX7_strikesFirst_0 := by decide +kernel
theorem dksX7_strikesFirst_1 : cX7_strikesFirst.data.toList.drop 23 = dktX7_strikesFirst_1 := dk_seg dksX7_strikesFirst_0 23 rfl rfl
theorem dksX7_strikesFirst_2 : cX7_strikesFirst.data.toList.drop 45 = dktX7_strikesFirst_2 := dk_seg dksX7_strikesFirst_1 22 rfl rfl
theorem dX7_strikesFirst_0 : decode cX7_strikesFirst 0 = .ok (.aload_n 1, 1) := dk_43 (dk_at dksX7_strikesFirst_0 0 rfl rfl)
theorem dX7_strikesFirst_1 : decode cX7_strikesFirst 1 = .ok (.getfield 26, 3) := dk_180 0 26 (dk_at dksX7_strikesFirst_0 1 rfl rfl)
theorem dX7_strikesFirst_4 : decode cX7_strikesFirst 4 = .ok (.getfield 49, 3) := dk_180 0 49 (dk_at dksX7_strikesFirst_0 4 rfl rfl)
theorem dX7_strikesFirst_7 : decode cX7_strikesFirst 7 = .ok (.iload_n 2, 1) := dk_28 (dk_at dksX7_strikesFirst_0 7 rfl rfl)
theorem dX7_strikesFirst_8 : decode cX7_strikesFirst 8 = .ok (.iaload, 1) := dk_46 (dk_at dksX7_strikesFirst_0 8 rfl rfl)
theorem dX7_strikesFirst_9 : decode cX7_strikesFirst 9 = .ok (.istore_n 3, 1) := dk_62 (dk_at dksX7_strikesFirst_0 9 rfl rfl)
theorem dX7_strikesFirst_10 : decode cX7_strikesFirst 10 = .ok (.iconst 1, 1) := dk_4 (dk_at dksX7_strikesFirst_0 10 rfl rfl)
theorem dX7_strikesFirst_11 : decode cX7_strikesFirst 11 = .ok (.istore 4, 2) := dk_54 4 (dk_at dksX7_strikesFirst_0 11 rfl rfl)
theorem dX7_strikesFirst_13 : decode cX7_strikesFirst 13 = .ok (.iload 4, 2) := dk_21 4 (dk_at dksX7_strikesFirst_0 13 rfl rfl)
theorem dX7_strikesFirst_15 : decode cX7_strikesFirst 15 = .ok (.iconst 3, 1) := dk_6 (dk_at dksX7_strikesFirst_0 15 rfl rfl)
theorem dX7_strikesFirst_16 : decode cX7_strikesFirst 16 = .ok (.if_icmp .gt 49, 3) := dk_163 0 49 (dk_at dksX7_strikesFirst_0 16 rfl rfl)
theorem dX7_strikesFirst_19 : decode cX7_strikesFirst 19 = .ok (.aload_n 0, 1) := dk_42 (dk_at dksX7_strikesFirst_0 19 rfl rfl)
theorem dX7_strikesFirst_20 : decode cX7_strikesFirst 20 = .ok (.getfield 22, 3) := dk_180 0 22 (dk_at dksX7_strikesFirst_0 20 rfl rfl)
theorem dX7_strikesFirst_23 : decode cX7_strikesFirst 23 = .ok (.ifCond .ne 42, 3) := dk_154 0 42 (dk_at dksX7_strikesFirst_1 0 rfl rfl)
theorem dX7_strikesFirst_26 : decode cX7_strikesFirst 26 = .ok (.aload_n 0, 1) := dk_42 (dk_at dksX7_strikesFirst_1 3 rfl rfl)
theorem dX7_strikesFirst_27 : decode cX7_strikesFirst 27 = .ok (.getfield 15, 3) := dk_180 0 15 (dk_at dksX7_strikesFirst_1 4 rfl rfl)
theorem dX7_strikesFirst_30 : decode cX7_strikesFirst 30 = .ok (.iload_n 3, 1) := dk_29 (dk_at dksX7_strikesFirst_1 7 rfl rfl)
theorem dX7_strikesFirst_31 : decode cX7_strikesFirst 31 = .ok (.iaload, 1) := dk_46 (dk_at dksX7_strikesFirst_1 8 rfl rfl)
theorem dX7_strikesFirst_32 : decode cX7_strikesFirst 32 = .ok (.iload 4, 2) := dk_21 4 (dk_at dksX7_strikesFirst_1 9 rfl rfl)
theorem dX7_strikesFirst_34 : decode cX7_strikesFirst 34 = .ok (.invokestatic 45, 3) := dk_184 0 45 (dk_at dksX7_strikesFirst_1 11 rfl rfl)
theorem dX7_strikesFirst_37 : decode cX7_strikesFirst 37 = .ok (.ifCond .eq 22, 3) := dk_153 0 22 (dk_at dksX7_strikesFirst_1 14 rfl rfl)
theorem dX7_strikesFirst_40 : decode cX7_strikesFirst 40 = .ok (.aload_n 0, 1) := dk_42 (dk_at dksX7_strikesFirst_1 17 rfl rfl)
theorem dX7_strikesFirst_41 : decode cX7_strikesFirst 41 = .ok (.aload_n 1, 1) := dk_43 (dk_at dksX7_strikesFirst_1 18 rfl rfl)
theorem dX7_strikesFirst_42 : decode cX7_strikesFirst 42 = .ok (.iload_n 2, 1) := dk_28 (dk_at dksX7_strikesFirst_1 19 rfl rfl)
theorem dX7_strikesFirst_43 : decode cX7_strikesFirst 43 = .ok (.iload 4, 2) := dk_21 4 (dk_at dksX7_strikesFirst_1 20 rfl rfl)
theorem dX7_strikesFirst_45 : decode cX7_strikesFirst 45 = .ok (.invokevirtual 55, 3) := dk_182 0 55 (dk_at dksX7_strikesFirst_2 0 rfl rfl)
theorem dX7_strikesFirst_48 : decode cX7_strikesFirst 48 = .ok (.ifCond .ne 11, 3) := dk_154 0 11 (dk_at dksX7_strikesFirst_2 3 rfl rfl)
theorem dX7_strikesFirst_51 : decode cX7_strikesFirst 51 = .ok (.aload_n 0, 1) := dk_42 (dk_at dksX7_strikesFirst_2 6 rfl rfl)
theorem dX7_strikesFirst_52 : decode cX7_strikesFirst 52 = .ok (.aload_n 1, 1) := dk_43 (dk_at dksX7_strikesFirst_2 7 rfl rfl)
theorem dX7_strikesFirst_53 : decode cX7_strikesFirst 53 = .ok (.iload_n 3, 1) := dk_29 (dk_at dksX7_strikesFirst_2 8 rfl rfl)
theorem dX7_strikesFirst_54 : decode cX7_strikesFirst 54 = .ok (.iload 4, 2) := dk_21 4 (dk_at dksX7_strikesFirst_2 9 rfl rfl)
theorem dX7_strikesFirst_56 : decode cX7_strikesFirst 56 = .ok (.invokevirtual 59, 3) := dk_182 0 59 (dk_at dksX7_strikesFirst_2 11 rfl rfl)
theorem dX7_strikesFirst_59 : decode cX7_strikesFirst 59 = .ok (.iinc 4 1, 3) := dk_132 4 1 (dk_at dksX7_strikesFirst_2 14 rfl rfl)
theorem dX7_strikesFirst_62 : decode cX7_strikesFirst 62 = .ok (.goto (-49), 3) := dk_167 255 207 (dk_at dksX7_strikesFirst_2 17 rfl rfl)
theorem dX7_strikesFirst_65 : decode cX7_strikesFirst 65 = .ok (.return_, 1) := dk_177 (dk_at dksX7_strikesFirst_2 20 rfl rfl)
abbrev cX7_goesFirst : ByteArray := prog_21_method_3_code
def yX7_goesFirst : MethodName := ⟨RX7, "goesFirst", "(LNineDemands$Demand;II)Z"⟩
def dkwX7_goesFirst_3 : List UInt8 := [167, 0, 4, 3, 54, 4, 132, 5, 1, 167, 255, 202, 21, 4, 172]
abbrev dktX7_goesFirst_3 : List UInt8 := dkwX7_goesFirst_3 ++ []
def dkwX7_goesFirst_2 : List UInt8 := [28, 46, 46, 21, 5, 184, 0, 45, 153, 0, 18, 43, 28, 29, 21, 5, 182, 0, 38, 153, 0, 7, 4]
abbrev dktX7_goesFirst_2 : List UInt8 := dkwX7_goesFirst_2 ++ dktX7_goesFirst_3
def dkwX7_goesFirst_1 : List UInt8 := [54, 5, 21, 5, 6, 163, 0, 54, 21, 4, 154, 0, 36, 42, 180, 0, 15, 43, 180, 0, 26, 180, 0, 42]
abbrev dktX7_goesFirst_1 : List UInt8 := dkwX7_goesFirst_1 ++ dktX7_goesFirst_2
def dkwX7_goesFirst_0 : List UInt8 := [43, 180, 0, 26, 28, 182, 0, 32, 154, 0, 11, 43, 28, 29, 4, 182, 0, 38, 172, 3, 54, 4, 4]
abbrev dktX7_goesFirst_0 : List UInt8 := dkwX7_goesFirst_0 ++ dktX7_goesFirst_1
theorem dksX7_goesFirst_0 : cX7_goesFirst.data.toList.drop 0 = dktX7_goesFirst_0 := by decide +kernel
theorem dksX7_goesFirst_1 : cX7_goesFirst.data.toList.drop 23 = dktX7_goesFirst_1 := dk_seg dksX7_goesFirst_0 23 rfl rfl
theorem dksX7_goesFirst_2 : cX7_goesFirst.data.toList.drop 47 = dktX7_goesFirst_2 := dk_seg dksX7_goesFirst_1 24 rfl rfl
theorem dksX7_goesFirst_3 : cX7_goesFirst.data.toList.drop 70 = dktX7_goesFirst_3 := dk_seg dksX7_goesFirst_2 23 rfl rfl
theorem dX7_goesFirst_0 : decode cX7_goesFirst 0 = .ok (.aload_n 1, 1) := dk_43 (dk_at dksX7_goesFirst_0 0 rfl rfl)
theorem dX7_goesFirst_1 : decode cX7_goesFirst 1 = .ok (.getfield 26, 3) := dk_180 0 26 (dk_at dksX7_goesFirst_0 1 rfl rfl)
theorem dX7_goesFirst_4 : decode cX7_goesFirst 4 = .ok (.iload_n 2, 1) := dk_28 (dk_at dksX7_goesFirst_0 4 rfl rfl)
theorem dX7_goesFirst_5 : decode cX7_goesFirst 5 = .ok (.invokevirtual 32, 3) := dk_182 0 32 (dk_at dksX7_goesFirst_0 5 rfl rfl)
theorem dX7_goesFirst_8 : decode cX7_goesFirst 8 = .ok (.ifCond .ne 11, 3) := dk_154 0 11 (dk_at dksX7_goesFirst_0 8 rfl rfl)
theorem dX7_goesFirst_11 : decode cX7_goesFirst 11 = .ok (.aload_n 1, 1) := dk_43 (dk_at dksX7_goesFirst_0 11 rfl rfl)
theorem dX7_goesFirst_12 : decode cX7_goesFirst 12 = .ok (.iload_n 2, 1) := dk_28 (dk_at dksX7_goesFirst_0 12 rfl rfl)
theorem dX7_goesFirst_13 : decode cX7_goesFirst 13 = .ok (.iload_n 3, 1) := dk_29 (dk_at dksX7_goesFirst_0 13 rfl rfl)
theorem dX7_goesFirst_14 : decode cX7_goesFirst 14 = .ok (.iconst 1, 1) := dk_4 (dk_at dksX7_goesFirst_0 14 rfl rfl)
theorem dX7_goesFirst_15 : decode cX7_goesFirst 15 = .ok (.invokevirtual 38, 3) := dk_182 0 38 (dk_at dksX7_goesFirst_0 15 rfl rfl)
theorem dX7_goesFirst_18 : decode cX7_goesFirst 18 = .ok (.ireturn, 1) := dk_172 (dk_at dksX7_goesFirst_0 18 rfl rfl)
theorem dX7_goesFirst_19 : decode cX7_goesFirst 19 = .ok (.iconst 0, 1) := dk_3 (dk_at dksX7_goesFirst_0 19 rfl rfl)
theorem dX7_goesFirst_20 : decode cX7_goesFirst 20 = .ok (.istore 4, 2) := dk_54 4 (dk_at dksX7_goesFirst_0 20 rfl rfl)
theorem dX7_goesFirst_22 : decode cX7_goesFirst 22 = .ok (.iconst 1, 1) := dk_4 (dk_at dksX7_goesFirst_0 22 rfl rfl)
theorem dX7_goesFirst_23 : decode cX7_goesFirst 23 = .ok (.istore 5, 2) := dk_54 5 (dk_at dksX7_goesFirst_1 0 rfl rfl)
theorem dX7_goesFirst_25 : decode cX7_goesFirst 25 = .ok (.iload 5, 2) := dk_21 5 (dk_at dksX7_goesFirst_1 2 rfl rfl)
theorem dX7_goesFirst_27 : decode cX7_goesFirst 27 = .ok (.iconst 3, 1) := dk_6 (dk_at dksX7_goesFirst_1 4 rfl rfl)
theorem dX7_goesFirst_28 : decode cX7_goesFirst 28 = .ok (.if_icmp .gt 54, 3) := dk_163 0 54 (dk_at dksX7_goesFirst_1 5 rfl rfl)
theorem dX7_goesFirst_31 : decode cX7_goesFirst 31 = .ok (.iload 4, 2) := dk_21 4 (dk_at dksX7_goesFirst_1 8 rfl rfl)
theorem dX7_goesFirst_33 : decode cX7_goesFirst 33 = .ok (.ifCond .ne 36, 3) := dk_154 0 36 (dk_at dksX7_goesFirst_1 10 rfl rfl)
theorem dX7_goesFirst_36 : decode cX7_goesFirst 36 = .ok (.aload_n 0, 1) := dk_42 (dk_at dksX7_goesFirst_1 13 rfl rfl)
theorem dX7_goesFirst_37 : decode cX7_goesFirst 37 = .ok (.getfield 15, 3) := dk_180 0 15 (dk_at dksX7_goesFirst_1 14 rfl rfl)
theorem dX7_goesFirst_40 : decode cX7_goesFirst 40 = .ok (.aload_n 1, 1) := dk_43 (dk_at dksX7_goesFirst_1 17 rfl rfl)
theorem dX7_goesFirst_41 : decode cX7_goesFirst 41 = .ok (.getfield 26, 3) := dk_180 0 26 (dk_at dksX7_goesFirst_1 18 rfl rfl)
theorem dX7_goesFirst_44 : decode cX7_goesFirst 44 = .ok (.getfield 42, 3) := dk_180 0 42 (dk_at dksX7_goesFirst_1 21 rfl rfl)
theorem dX7_goesFirst_47 : decode cX7_goesFirst 47 = .ok (.iload_n 2, 1) := dk_28 (dk_at dksX7_goesFirst_2 0 rfl rfl)
theorem dX7_goesFirst_48 : decode cX7_goesFirst 48 = .ok (.iaload, 1) := dk_46 (dk_at dksX7_goesFirst_2 1 rfl rfl)
theorem dX7_goesFirst_49 : decode cX7_goesFirst 49 = .ok (.iaload, 1) := dk_46 (dk_at dksX7_goesFirst_2 2 rfl rfl)
theorem dX7_goesFirst_50 : decode cX7_goesFirst 50 = .ok (.iload 5, 2) := dk_21 5 (dk_at dksX7_goesFirst_2 3 rfl rfl)
theorem dX7_goesFirst_52 : decode cX7_goesFirst 52 = .ok (.invokestatic 45, 3) := dk_184 0 45 (dk_at dksX7_goesFirst_2 5 rfl rfl)
theorem dX7_goesFirst_55 : decode cX7_goesFirst 55 = .ok (.ifCond .eq 18, 3) := dk_153 0 18 (dk_at dksX7_goesFirst_2 8 rfl rfl)
theorem dX7_goesFirst_58 : decode cX7_goesFirst 58 = .ok (.aload_n 1, 1) := dk_43 (dk_at dksX7_goesFirst_2 11 rfl rfl)
theorem dX7_goesFirst_59 : decode cX7_goesFirst 59 = .ok (.iload_n 2, 1) := dk_28 (dk_at dksX7_goesFirst_2 12 rfl rfl)
theorem dX7_goesFirst_60 : decode cX7_goesFirst 60 = .ok (.iload_n 3, 1) := dk_29 (dk_at dksX7_goesFirst_2 13 rfl rfl)
theorem dX7_goesFirst_61 : decode cX7_goesFirst 61 = .ok (.iload 5, 2) := dk_21 5 (dk_at dksX7_goesFirst_2 14 rfl rfl)
theorem dX7_goesFirst_63 : decode cX7_goesFirst 63 = .ok (.invokevirtual 38, 3) := dk_182 0 38 (dk_at dksX7_goesFirst_2 16 rfl rfl)
theorem dX7_goesFirst_66 : decode cX7_goesFirst 66 = .ok (.ifCond .eq 7, 3) := dk_153 0 7 (dk_at dksX7_goesFirst_2 19 rfl rfl)
theorem dX7_goesFirst_69 : decode cX7_goesFirst 69 = .ok (.iconst 1, 1) := dk_4 (dk_at dksX7_goesFirst_2 22 rfl rfl)
theorem dX7_goesFirst_70 : decode cX7_goesFirst 70 = .ok (.goto 4, 3) := dk_167 0 4 (dk_at dksX7_goesFirst_3 0 rfl rfl)
theorem dX7_goesFirst_73 : decode cX7_goesFirst 73 = .ok (.iconst 0, 1) := dk_3 (dk_at dksX7_goesFirst_3 3 rfl rfl)
theorem dX7_goesFirst_74 : decode cX7_goesFirst 74 = .ok (.istore 4, 2) := dk_54 4 (dk_at dksX7_goesFirst_3 4 rfl rfl)
theorem dX7_goesFirst_76 : decode cX7_goesFirst 76 = .ok (.iinc 5 1, 3) := dk_132 5 1 (dk_at dksX7_goesFirst_3 6 rfl rfl)
theorem dX7_goesFirst_79 : decode cX7_goesFirst 79 = .ok (.goto (-54), 3) := dk_167 255 202 (dk_at dksX7_goesFirst_3 9 rfl rfl)
theorem dX7_goesFirst_82 : decode cX7_goesFirst 82 = .ok (.iload 4, 2) := dk_21 4 (dk_at dksX7_goesFirst_3 12 rfl rfl)
theorem dX7_goesFirst_84 : decode cX7_goesFirst 84 = .ok (.ireturn, 1) := dk_172 (dk_at dksX7_goesFirst_3 14 rfl rfl)
abbrev cX7_strike : ByteArray := prog_21_method_5_code
def yX7_strike : MethodName := ⟨RX7, "strike", "(LNineDemands$Demand;II)V"⟩
def dkwX7_strike_2 : List UInt8 := [180, 0, 22, 154, 0, 12, 42, 180, 0, 15, 28, 46, 154, 0, 7, 4, 167, 0, 4, 3, 181, 0, 22, 177]
abbrev dktX7_strike_2 : List UInt8 := dkwX7_strike_2 ++ []
def dkwX7_strike_1 : List UInt8 := [43, 180, 0, 52, 104, 7, 28, 104, 96, 29, 96, 79, 42, 89, 180, 0, 18, 4, 96, 181, 0, 18, 42, 42]
abbrev dktX7_strike_1 : List UInt8 := dkwX7_strike_1 ++ dktX7_strike_2
def dkwX7_strike_0 : List UInt8 := [42, 180, 0, 15, 28, 92, 46, 4, 29, 120, 2, 130, 126, 79, 42, 180, 0, 9, 42, 180, 0, 18, 16, 48]
abbrev dktX7_strike_0 : List UInt8 := dkwX7_strike_0 ++ dktX7_strike_1
theorem dksX7_strike_0 : cX7_strike.data.toList.drop 0 = dktX7_strike_0 := by decide +kernel
theorem dksX7_strike_1 : cX7_strike.data.toList.drop 24 = dktX7_strike_1 := dk_seg dksX7_strike_0 24 rfl rfl
theorem dksX7_strike_2 : cX7_strike.data.toList.drop 48 = dktX7_strike_2 := dk_seg dksX7_strike_1 24 rfl rfl
theorem dX7_strike_0 : decode cX7_strike 0 = .ok (.aload_n 0, 1) := dk_42 (dk_at dksX7_strike_0 0 rfl rfl)
theorem dX7_strike_1 : decode cX7_strike 1 = .ok (.getfield 15, 3) := dk_180 0 15 (dk_at dksX7_strike_0 1 rfl rfl)
theorem dX7_strike_4 : decode cX7_strike 4 = .ok (.iload_n 2, 1) := dk_28 (dk_at dksX7_strike_0 4 rfl rfl)
theorem dX7_strike_5 : decode cX7_strike 5 = .ok (.dup2, 1) := dk_92 (dk_at dksX7_strike_0 5 rfl rfl)
theorem dX7_strike_6 : decode cX7_strike 6 = .ok (.iaload, 1) := dk_46 (dk_at dksX7_strike_0 6 rfl rfl)
theorem dX7_strike_7 : decode cX7_strike 7 = .ok (.iconst 1, 1) := dk_4 (dk_at dksX7_strike_0 7 rfl rfl)
theorem dX7_strike_8 : decode cX7_strike 8 = .ok (.iload_n 3, 1) := dk_29 (dk_at dksX7_strike_0 8 rfl rfl)
theorem dX7_strike_9 : decode cX7_strike 9 = .ok (.ishl, 1) := dk_120 (dk_at dksX7_strike_0 9 rfl rfl)
theorem dX7_strike_10 : decode cX7_strike 10 = .ok (.iconst (-1), 1) := dk_2 (dk_at dksX7_strike_0 10 rfl rfl)
theorem dX7_strike_11 : decode cX7_strike 11 = .ok (.ixor, 1) := dk_130 (dk_at dksX7_strike_0 11 rfl rfl)
theorem dX7_strike_12 : decode cX7_strike 12 = .ok (.iand, 1) := dk_126 (dk_at dksX7_strike_0 12 rfl rfl)
theorem dX7_strike_13 : decode cX7_strike 13 = .ok (.iastore, 1) := dk_79 (dk_at dksX7_strike_0 13 rfl rfl)
theorem dX7_strike_14 : decode cX7_strike 14 = .ok (.aload_n 0, 1) := dk_42 (dk_at dksX7_strike_0 14 rfl rfl)
theorem dX7_strike_15 : decode cX7_strike 15 = .ok (.getfield 9, 3) := dk_180 0 9 (dk_at dksX7_strike_0 15 rfl rfl)
theorem dX7_strike_18 : decode cX7_strike 18 = .ok (.aload_n 0, 1) := dk_42 (dk_at dksX7_strike_0 18 rfl rfl)
theorem dX7_strike_19 : decode cX7_strike 19 = .ok (.getfield 18, 3) := dk_180 0 18 (dk_at dksX7_strike_0 19 rfl rfl)
theorem dX7_strike_22 : decode cX7_strike 22 = .ok (.bipush 48, 2) := dk_16 48 (dk_at dksX7_strike_0 22 rfl rfl)
theorem dX7_strike_24 : decode cX7_strike 24 = .ok (.aload_n 1, 1) := dk_43 (dk_at dksX7_strike_1 0 rfl rfl)
theorem dX7_strike_25 : decode cX7_strike 25 = .ok (.getfield 52, 3) := dk_180 0 52 (dk_at dksX7_strike_1 1 rfl rfl)
theorem dX7_strike_28 : decode cX7_strike 28 = .ok (.imul, 1) := dk_104 (dk_at dksX7_strike_1 4 rfl rfl)
theorem dX7_strike_29 : decode cX7_strike 29 = .ok (.iconst 4, 1) := dk_7 (dk_at dksX7_strike_1 5 rfl rfl)
theorem dX7_strike_30 : decode cX7_strike 30 = .ok (.iload_n 2, 1) := dk_28 (dk_at dksX7_strike_1 6 rfl rfl)
theorem dX7_strike_31 : decode cX7_strike 31 = .ok (.imul, 1) := dk_104 (dk_at dksX7_strike_1 7 rfl rfl)
theorem dX7_strike_32 : decode cX7_strike 32 = .ok (.iadd, 1) := dk_96 (dk_at dksX7_strike_1 8 rfl rfl)
theorem dX7_strike_33 : decode cX7_strike 33 = .ok (.iload_n 3, 1) := dk_29 (dk_at dksX7_strike_1 9 rfl rfl)
theorem dX7_strike_34 : decode cX7_strike 34 = .ok (.iadd, 1) := dk_96 (dk_at dksX7_strike_1 10 rfl rfl)
theorem dX7_strike_35 : decode cX7_strike 35 = .ok (.iastore, 1) := dk_79 (dk_at dksX7_strike_1 11 rfl rfl)
theorem dX7_strike_36 : decode cX7_strike 36 = .ok (.aload_n 0, 1) := dk_42 (dk_at dksX7_strike_1 12 rfl rfl)
theorem dX7_strike_37 : decode cX7_strike 37 = .ok (.dup, 1) := dk_89 (dk_at dksX7_strike_1 13 rfl rfl)
theorem dX7_strike_38 : decode cX7_strike 38 = .ok (.getfield 18, 3) := dk_180 0 18 (dk_at dksX7_strike_1 14 rfl rfl)
theorem dX7_strike_41 : decode cX7_strike 41 = .ok (.iconst 1, 1) := dk_4 (dk_at dksX7_strike_1 17 rfl rfl)
theorem dX7_strike_42 : decode cX7_strike 42 = .ok (.iadd, 1) := dk_96 (dk_at dksX7_strike_1 18 rfl rfl)
theorem dX7_strike_43 : decode cX7_strike 43 = .ok (.putfield 18, 3) := dk_181 0 18 (dk_at dksX7_strike_1 19 rfl rfl)
theorem dX7_strike_46 : decode cX7_strike 46 = .ok (.aload_n 0, 1) := dk_42 (dk_at dksX7_strike_1 22 rfl rfl)
theorem dX7_strike_47 : decode cX7_strike 47 = .ok (.aload_n 0, 1) := dk_42 (dk_at dksX7_strike_1 23 rfl rfl)
theorem dX7_strike_48 : decode cX7_strike 48 = .ok (.getfield 22, 3) := dk_180 0 22 (dk_at dksX7_strike_2 0 rfl rfl)
theorem dX7_strike_51 : decode cX7_strike 51 = .ok (.ifCond .ne 12, 3) := dk_154 0 12 (dk_at dksX7_strike_2 3 rfl rfl)
theorem dX7_strike_54 : decode cX7_strike 54 = .ok (.aload_n 0, 1) := dk_42 (dk_at dksX7_strike_2 6 rfl rfl)
theorem dX7_strike_55 : decode cX7_strike 55 = .ok (.getfield 15, 3) := dk_180 0 15 (dk_at dksX7_strike_2 7 rfl rfl)
theorem dX7_strike_58 : decode cX7_strike 58 = .ok (.iload_n 2, 1) := dk_28 (dk_at dksX7_strike_2 10 rfl rfl)
theorem dX7_strike_59 : decode cX7_strike 59 = .ok (.iaload, 1) := dk_46 (dk_at dksX7_strike_2 11 rfl rfl)
theorem dX7_strike_60 : decode cX7_strike 60 = .ok (.ifCond .ne 7, 3) := dk_154 0 7 (dk_at dksX7_strike_2 12 rfl rfl)
theorem dX7_strike_63 : decode cX7_strike 63 = .ok (.iconst 1, 1) := dk_4 (dk_at dksX7_strike_2 15 rfl rfl)
theorem dX7_strike_64 : decode cX7_strike 64 = .ok (.goto 4, 3) := dk_167 0 4 (dk_at dksX7_strike_2 16 rfl rfl)
theorem dX7_strike_67 : decode cX7_strike 67 = .ok (.iconst 0, 1) := dk_3 (dk_at dksX7_strike_2 19 rfl rfl)
theorem dX7_strike_68 : decode cX7_strike 68 = .ok (.putfield 22, 3) := dk_181 0 22 (dk_at dksX7_strike_2 20 rfl rfl)
theorem dX7_strike_71 : decode cX7_strike 71 = .ok (.return_, 1) := dk_177 (dk_at dksX7_strike_2 23 rfl rfl)
abbrev cX7_strikesSecond : ByteArray := prog_21_method_7_code
def yX7_strikesSecond : MethodName := ⟨RX7, "strikesSecond", "(LNineDemands$Demand;I)V"⟩
def dkwX7_strikesSecond_2 : List UInt8 := [182, 0, 63, 154, 0, 11, 42, 43, 29, 21, 4, 182, 0, 59, 132, 4, 1, 167, 255, 207, 177]
abbrev dktX7_strikesSecond_2 : List UInt8 := dkwX7_strikesSecond_2 ++ []
def dkwX7_strikesSecond_1 : List UInt8 := [154, 0, 42, 42, 180, 0, 15, 29, 46, 21, 4, 184, 0, 45, 153, 0, 22, 42, 43, 28, 21, 4]
abbrev dktX7_strikesSecond_1 : List UInt8 := dkwX7_strikesSecond_1 ++ dktX7_strikesSecond_2
def dkwX7_strikesSecond_0 : List UInt8 := [43, 180, 0, 26, 180, 0, 42, 28, 46, 62, 4, 54, 4, 21, 4, 6, 163, 0, 49, 42, 180, 0, 22]
abbrev dktX7_strikesSecond_0 : List UInt8 := dkwX7_strikesSecond_0 ++ dktX7_strikesSecond_1
theorem dksX7_strikesSecond_0 : cX7_strikesSecond.data.toList.drop 0 = dktX7_strikesSecond_0 := by decide +kernel
theorem dksX7_strikesSecond_1 : cX7_strikesSecond.data.toList.drop 23 = dktX7_strikesSecond_1 := dk_seg dksX7_strikesSecond_0 23 rfl rfl
theorem dksX7_strikesSecond_2 : cX7_strikesSecond.data.toList.drop 45 = dktX7_strikesSecond_2 := dk_seg dksX7_strikesSecond_1 22 rfl rfl
theorem dX7_strikesSecond_0 : decode cX7_strikesSecond 0 = .ok (.aload_n 1, 1) := dk_43 (dk_at dksX7_strikesSecond_0 0 rfl rfl)
theorem dX7_strikesSecond_1 : decode cX7_strikesSecond 1 = .ok (.getfield 26, 3) := dk_180 0 26 (dk_at dksX7_strikesSecond_0 1 rfl rfl)
theorem dX7_strikesSecond_4 : decode cX7_strikesSecond 4 = .ok (.getfield 42, 3) := dk_180 0 42 (dk_at dksX7_strikesSecond_0 4 rfl rfl)
theorem dX7_strikesSecond_7 : decode cX7_strikesSecond 7 = .ok (.iload_n 2, 1) := dk_28 (dk_at dksX7_strikesSecond_0 7 rfl rfl)
theorem dX7_strikesSecond_8 : decode cX7_strikesSecond 8 = .ok (.iaload, 1) := dk_46 (dk_at dksX7_strikesSecond_0 8 rfl rfl)
theorem dX7_strikesSecond_9 : decode cX7_strikesSecond 9 = .ok (.istore_n 3, 1) := dk_62 (dk_at dksX7_strikesSecond_0 9 rfl rfl)
theorem dX7_strikesSecond_10 : decode cX7_strikesSecond 10 = .ok (.iconst 1, 1) := dk_4 (dk_at dksX7_strikesSecond_0 10 rfl rfl)
theorem dX7_strikesSecond_11 : decode cX7_strikesSecond 11 = .ok (.istore 4, 2) := dk_54 4 (dk_at dksX7_strikesSecond_0 11 rfl rfl)
theorem dX7_strikesSecond_13 : decode cX7_strikesSecond 13 = .ok (.iload 4, 2) := dk_21 4 (dk_at dksX7_strikesSecond_0 13 rfl rfl)
theorem dX7_strikesSecond_15 : decode cX7_strikesSecond 15 = .ok (.iconst 3, 1) := dk_6 (dk_at dksX7_strikesSecond_0 15 rfl rfl)
theorem dX7_strikesSecond_16 : decode cX7_strikesSecond 16 = .ok (.if_icmp .gt 49, 3) := dk_163 0 49 (dk_at dksX7_strikesSecond_0 16 rfl rfl)
theorem dX7_strikesSecond_19 : decode cX7_strikesSecond 19 = .ok (.aload_n 0, 1) := dk_42 (dk_at dksX7_strikesSecond_0 19 rfl rfl)
theorem dX7_strikesSecond_20 : decode cX7_strikesSecond 20 = .ok (.getfield 22, 3) := dk_180 0 22 (dk_at dksX7_strikesSecond_0 20 rfl rfl)
theorem dX7_strikesSecond_23 : decode cX7_strikesSecond 23 = .ok (.ifCond .ne 42, 3) := dk_154 0 42 (dk_at dksX7_strikesSecond_1 0 rfl rfl)
theorem dX7_strikesSecond_26 : decode cX7_strikesSecond 26 = .ok (.aload_n 0, 1) := dk_42 (dk_at dksX7_strikesSecond_1 3 rfl rfl)
theorem dX7_strikesSecond_27 : decode cX7_strikesSecond 27 = .ok (.getfield 15, 3) := dk_180 0 15 (dk_at dksX7_strikesSecond_1 4 rfl rfl)
theorem dX7_strikesSecond_30 : decode cX7_strikesSecond 30 = .ok (.iload_n 3, 1) := dk_29 (dk_at dksX7_strikesSecond_1 7 rfl rfl)
theorem dX7_strikesSecond_31 : decode cX7_strikesSecond 31 = .ok (.iaload, 1) := dk_46 (dk_at dksX7_strikesSecond_1 8 rfl rfl)
theorem dX7_strikesSecond_32 : decode cX7_strikesSecond 32 = .ok (.iload 4, 2) := dk_21 4 (dk_at dksX7_strikesSecond_1 9 rfl rfl)
theorem dX7_strikesSecond_34 : decode cX7_strikesSecond 34 = .ok (.invokestatic 45, 3) := dk_184 0 45 (dk_at dksX7_strikesSecond_1 11 rfl rfl)
theorem dX7_strikesSecond_37 : decode cX7_strikesSecond 37 = .ok (.ifCond .eq 22, 3) := dk_153 0 22 (dk_at dksX7_strikesSecond_1 14 rfl rfl)
theorem dX7_strikesSecond_40 : decode cX7_strikesSecond 40 = .ok (.aload_n 0, 1) := dk_42 (dk_at dksX7_strikesSecond_1 17 rfl rfl)
theorem dX7_strikesSecond_41 : decode cX7_strikesSecond 41 = .ok (.aload_n 1, 1) := dk_43 (dk_at dksX7_strikesSecond_1 18 rfl rfl)
theorem dX7_strikesSecond_42 : decode cX7_strikesSecond 42 = .ok (.iload_n 2, 1) := dk_28 (dk_at dksX7_strikesSecond_1 19 rfl rfl)
theorem dX7_strikesSecond_43 : decode cX7_strikesSecond 43 = .ok (.iload 4, 2) := dk_21 4 (dk_at dksX7_strikesSecond_1 20 rfl rfl)
theorem dX7_strikesSecond_45 : decode cX7_strikesSecond 45 = .ok (.invokevirtual 63, 3) := dk_182 0 63 (dk_at dksX7_strikesSecond_2 0 rfl rfl)
theorem dX7_strikesSecond_48 : decode cX7_strikesSecond 48 = .ok (.ifCond .ne 11, 3) := dk_154 0 11 (dk_at dksX7_strikesSecond_2 3 rfl rfl)
theorem dX7_strikesSecond_51 : decode cX7_strikesSecond 51 = .ok (.aload_n 0, 1) := dk_42 (dk_at dksX7_strikesSecond_2 6 rfl rfl)
theorem dX7_strikesSecond_52 : decode cX7_strikesSecond 52 = .ok (.aload_n 1, 1) := dk_43 (dk_at dksX7_strikesSecond_2 7 rfl rfl)
theorem dX7_strikesSecond_53 : decode cX7_strikesSecond 53 = .ok (.iload_n 3, 1) := dk_29 (dk_at dksX7_strikesSecond_2 8 rfl rfl)
theorem dX7_strikesSecond_54 : decode cX7_strikesSecond 54 = .ok (.iload 4, 2) := dk_21 4 (dk_at dksX7_strikesSecond_2 9 rfl rfl)
theorem dX7_strikesSecond_56 : decode cX7_strikesSecond 56 = .ok (.invokevirtual 59, 3) := dk_182 0 59 (dk_at dksX7_strikesSecond_2 11 rfl rfl)
theorem dX7_strikesSecond_59 : decode cX7_strikesSecond 59 = .ok (.iinc 4 1, 3) := dk_132 4 1 (dk_at dksX7_strikesSecond_2 14 rfl rfl)
theorem dX7_strikesSecond_62 : decode cX7_strikesSecond 62 = .ok (.goto (-49), 3) := dk_167 255 207 (dk_at dksX7_strikesSecond_2 17 rfl rfl)
theorem dX7_strikesSecond_65 : decode cX7_strikesSecond 65 = .ok (.return_, 1) := dk_177 (dk_at dksX7_strikesSecond_2 20 rfl rfl)
abbrev cX7_goesSecond : ByteArray := prog_21_method_4_code
def yX7_goesSecond : MethodName := ⟨RX7, "goesSecond", "(LNineDemands$Demand;II)Z"⟩
def dkwX7_goesSecond_2 : List UInt8 := [182, 0, 38, 153, 0, 7, 4, 167, 0, 4, 3, 54, 4, 132, 5, 1, 167, 255, 202, 21, 4, 172]
abbrev dktX7_goesSecond_2 : List UInt8 := dkwX7_goesSecond_2 ++ []
def dkwX7_goesSecond_1 : List UInt8 := [180, 0, 26, 180, 0, 49, 28, 46, 46, 21, 5, 184, 0, 45, 153, 0, 18, 43, 28, 21, 5, 29]
abbrev dktX7_goesSecond_1 : List UInt8 := dkwX7_goesSecond_1 ++ dktX7_goesSecond_2
def dkwX7_goesSecond_0 : List UInt8 := [3, 54, 4, 4, 54, 5, 21, 5, 6, 163, 0, 54, 21, 4, 154, 0, 36, 42, 180, 0, 15, 43]
abbrev dktX7_goesSecond_0 : List UInt8 := dkwX7_goesSecond_0 ++ dktX7_goesSecond_1
theorem dksX7_goesSecond_0 : cX7_goesSecond.data.toList.drop 0 = dktX7_goesSecond_0 := by decide +kernel
theorem dksX7_goesSecond_1 : cX7_goesSecond.data.toList.drop 22 = dktX7_goesSecond_1 := dk_seg dksX7_goesSecond_0 22 rfl rfl
theorem dksX7_goesSecond_2 : cX7_goesSecond.data.toList.drop 44 = dktX7_goesSecond_2 := dk_seg dksX7_goesSecond_1 22 rfl rfl
theorem dX7_goesSecond_0 : decode cX7_goesSecond 0 = .ok (.iconst 0, 1) := dk_3 (dk_at dksX7_goesSecond_0 0 rfl rfl)
theorem dX7_goesSecond_1 : decode cX7_goesSecond 1 = .ok (.istore 4, 2) := dk_54 4 (dk_at dksX7_goesSecond_0 1 rfl rfl)
theorem dX7_goesSecond_3 : decode cX7_goesSecond 3 = .ok (.iconst 1, 1) := dk_4 (dk_at dksX7_goesSecond_0 3 rfl rfl)
theorem dX7_goesSecond_4 : decode cX7_goesSecond 4 = .ok (.istore 5, 2) := dk_54 5 (dk_at dksX7_goesSecond_0 4 rfl rfl)
theorem dX7_goesSecond_6 : decode cX7_goesSecond 6 = .ok (.iload 5, 2) := dk_21 5 (dk_at dksX7_goesSecond_0 6 rfl rfl)
theorem dX7_goesSecond_8 : decode cX7_goesSecond 8 = .ok (.iconst 3, 1) := dk_6 (dk_at dksX7_goesSecond_0 8 rfl rfl)
theorem dX7_goesSecond_9 : decode cX7_goesSecond 9 = .ok (.if_icmp .gt 54, 3) := dk_163 0 54 (dk_at dksX7_goesSecond_0 9 rfl rfl)
theorem dX7_goesSecond_12 : decode cX7_goesSecond 12 = .ok (.iload 4, 2) := dk_21 4 (dk_at dksX7_goesSecond_0 12 rfl rfl)
theorem dX7_goesSecond_14 : decode cX7_goesSecond 14 = .ok (.ifCond .ne 36, 3) := dk_154 0 36 (dk_at dksX7_goesSecond_0 14 rfl rfl)
theorem dX7_goesSecond_17 : decode cX7_goesSecond 17 = .ok (.aload_n 0, 1) := dk_42 (dk_at dksX7_goesSecond_0 17 rfl rfl)
theorem dX7_goesSecond_18 : decode cX7_goesSecond 18 = .ok (.getfield 15, 3) := dk_180 0 15 (dk_at dksX7_goesSecond_0 18 rfl rfl)
theorem dX7_goesSecond_21 : decode cX7_goesSecond 21 = .ok (.aload_n 1, 1) := dk_43 (dk_at dksX7_goesSecond_0 21 rfl rfl)
theorem dX7_goesSecond_22 : decode cX7_goesSecond 22 = .ok (.getfield 26, 3) := dk_180 0 26 (dk_at dksX7_goesSecond_1 0 rfl rfl)
theorem dX7_goesSecond_25 : decode cX7_goesSecond 25 = .ok (.getfield 49, 3) := dk_180 0 49 (dk_at dksX7_goesSecond_1 3 rfl rfl)
theorem dX7_goesSecond_28 : decode cX7_goesSecond 28 = .ok (.iload_n 2, 1) := dk_28 (dk_at dksX7_goesSecond_1 6 rfl rfl)
theorem dX7_goesSecond_29 : decode cX7_goesSecond 29 = .ok (.iaload, 1) := dk_46 (dk_at dksX7_goesSecond_1 7 rfl rfl)
theorem dX7_goesSecond_30 : decode cX7_goesSecond 30 = .ok (.iaload, 1) := dk_46 (dk_at dksX7_goesSecond_1 8 rfl rfl)
theorem dX7_goesSecond_31 : decode cX7_goesSecond 31 = .ok (.iload 5, 2) := dk_21 5 (dk_at dksX7_goesSecond_1 9 rfl rfl)
theorem dX7_goesSecond_33 : decode cX7_goesSecond 33 = .ok (.invokestatic 45, 3) := dk_184 0 45 (dk_at dksX7_goesSecond_1 11 rfl rfl)
theorem dX7_goesSecond_36 : decode cX7_goesSecond 36 = .ok (.ifCond .eq 18, 3) := dk_153 0 18 (dk_at dksX7_goesSecond_1 14 rfl rfl)
theorem dX7_goesSecond_39 : decode cX7_goesSecond 39 = .ok (.aload_n 1, 1) := dk_43 (dk_at dksX7_goesSecond_1 17 rfl rfl)
theorem dX7_goesSecond_40 : decode cX7_goesSecond 40 = .ok (.iload_n 2, 1) := dk_28 (dk_at dksX7_goesSecond_1 18 rfl rfl)
theorem dX7_goesSecond_41 : decode cX7_goesSecond 41 = .ok (.iload 5, 2) := dk_21 5 (dk_at dksX7_goesSecond_1 19 rfl rfl)
theorem dX7_goesSecond_43 : decode cX7_goesSecond 43 = .ok (.iload_n 3, 1) := dk_29 (dk_at dksX7_goesSecond_1 21 rfl rfl)
theorem dX7_goesSecond_44 : decode cX7_goesSecond 44 = .ok (.invokevirtual 38, 3) := dk_182 0 38 (dk_at dksX7_goesSecond_2 0 rfl rfl)
theorem dX7_goesSecond_47 : decode cX7_goesSecond 47 = .ok (.ifCond .eq 7, 3) := dk_153 0 7 (dk_at dksX7_goesSecond_2 3 rfl rfl)
theorem dX7_goesSecond_50 : decode cX7_goesSecond 50 = .ok (.iconst 1, 1) := dk_4 (dk_at dksX7_goesSecond_2 6 rfl rfl)
theorem dX7_goesSecond_51 : decode cX7_goesSecond 51 = .ok (.goto 4, 3) := dk_167 0 4 (dk_at dksX7_goesSecond_2 7 rfl rfl)
theorem dX7_goesSecond_54 : decode cX7_goesSecond 54 = .ok (.iconst 0, 1) := dk_3 (dk_at dksX7_goesSecond_2 10 rfl rfl)
theorem dX7_goesSecond_55 : decode cX7_goesSecond 55 = .ok (.istore 4, 2) := dk_54 4 (dk_at dksX7_goesSecond_2 11 rfl rfl)
theorem dX7_goesSecond_57 : decode cX7_goesSecond 57 = .ok (.iinc 5 1, 3) := dk_132 5 1 (dk_at dksX7_goesSecond_2 13 rfl rfl)
theorem dX7_goesSecond_60 : decode cX7_goesSecond 60 = .ok (.goto (-54), 3) := dk_167 255 202 (dk_at dksX7_goesSecond_2 16 rfl rfl)
theorem dX7_goesSecond_63 : decode cX7_goesSecond 63 = .ok (.iload 4, 2) := dk_21 4 (dk_at dksX7_goesSecond_2 19 rfl rfl)
theorem dX7_goesSecond_65 : decode cX7_goesSecond 65 = .ok (.ireturn, 1) := dk_172 (dk_at dksX7_goesSecond_2 21 rfl rfl)
abbrev cX7_follows : ByteArray := prog_21_method_10_code
def yX7_follows : MethodName := ⟨RX7, "follows", "(LNineDemands$Demand;II)Z"⟩
def dkwX7_follows_5 : List UInt8 := [167, 0, 4, 3, 172]
abbrev dktX7_follows_5 : List UInt8 := dkwX7_follows_5 ++ []
def dkwX7_follows_4 : List UInt8 := [167, 255, 167, 21, 4, 153, 0, 20, 42, 180, 0, 15, 28, 46, 29, 184, 0, 45, 153, 0, 7, 4]
abbrev dktX7_follows_4 : List UInt8 := dkwX7_follows_4 ++ dktX7_follows_5
def dkwX7_follows_3 : List UInt8 := [160, 0, 18, 42, 43, 21, 5, 29, 182, 0, 63, 154, 0, 7, 4, 167, 0, 4, 3, 54, 4, 132, 5, 1]
abbrev dktX7_follows_3 : List UInt8 := dkwX7_follows_3 ++ dktX7_follows_4
def dkwX7_follows_2 : List UInt8 := [43, 180, 0, 26, 21, 5, 182, 0, 32, 153, 0, 32, 43, 180, 0, 26, 180, 0, 42, 21, 5, 46, 28]
abbrev dktX7_follows_2 : List UInt8 := dkwX7_follows_2 ++ dktX7_follows_3
def dkwX7_follows_1 : List UInt8 := [180, 0, 26, 180, 0, 49, 21, 5, 46, 28, 160, 0, 14, 42, 43, 21, 5, 29, 182, 0, 55, 153, 0, 40]
abbrev dktX7_follows_1 : List UInt8 := dkwX7_follows_1 ++ dktX7_follows_2
def dkwX7_follows_0 : List UInt8 := [3, 54, 4, 3, 54, 5, 21, 5, 43, 180, 0, 26, 180, 0, 66, 162, 0, 83, 21, 4, 154, 0, 78, 43]
abbrev dktX7_follows_0 : List UInt8 := dkwX7_follows_0 ++ dktX7_follows_1
theorem dksX7_follows_0 : cX7_follows.data.toList.drop 0 = dktX7_follows_0 := by decide +kernel
theorem dksX7_follows_1 : cX7_follows.data.toList.drop 24 = dktX7_follows_1 := dk_seg dksX7_follows_0 24 rfl rfl
theorem dksX7_follows_2 : cX7_follows.data.toList.drop 48 = dktX7_follows_2 := dk_seg dksX7_follows_1 24 rfl rfl
theorem dksX7_follows_3 : cX7_follows.data.toList.drop 71 = dktX7_follows_3 := dk_seg dksX7_follows_2 23 rfl rfl
theorem dksX7_follows_4 : cX7_follows.data.toList.drop 95 = dktX7_follows_4 := dk_seg dksX7_follows_3 24 rfl rfl
theorem dksX7_follows_5 : cX7_follows.data.toList.drop 117 = dktX7_follows_5 := dk_seg dksX7_follows_4 22 rfl rfl
theorem dX7_follows_0 : decode cX7_follows 0 = .ok (.iconst 0, 1) := dk_3 (dk_at dksX7_follows_0 0 rfl rfl)
theorem dX7_follows_1 : decode cX7_follows 1 = .ok (.istore 4, 2) := dk_54 4 (dk_at dksX7_follows_0 1 rfl rfl)
theorem dX7_follows_3 : decode cX7_follows 3 = .ok (.iconst 0, 1) := dk_3 (dk_at dksX7_follows_0 3 rfl rfl)
theorem dX7_follows_4 : decode cX7_follows 4 = .ok (.istore 5, 2) := dk_54 5 (dk_at dksX7_follows_0 4 rfl rfl)
theorem dX7_follows_6 : decode cX7_follows 6 = .ok (.iload 5, 2) := dk_21 5 (dk_at dksX7_follows_0 6 rfl rfl)
theorem dX7_follows_8 : decode cX7_follows 8 = .ok (.aload_n 1, 1) := dk_43 (dk_at dksX7_follows_0 8 rfl rfl)
theorem dX7_follows_9 : decode cX7_follows 9 = .ok (.getfield 26, 3) := dk_180 0 26 (dk_at dksX7_follows_0 9 rfl rfl)
theorem dX7_follows_12 : decode cX7_follows 12 = .ok (.getfield 66, 3) := dk_180 0 66 (dk_at dksX7_follows_0 12 rfl rfl)
theorem dX7_follows_15 : decode cX7_follows 15 = .ok (.if_icmp .ge 83, 3) := dk_162 0 83 (dk_at dksX7_follows_0 15 rfl rfl)
theorem dX7_follows_18 : decode cX7_follows 18 = .ok (.iload 4, 2) := dk_21 4 (dk_at dksX7_follows_0 18 rfl rfl)
theorem dX7_follows_20 : decode cX7_follows 20 = .ok (.ifCond .ne 78, 3) := dk_154 0 78 (dk_at dksX7_follows_0 20 rfl rfl)
theorem dX7_follows_23 : decode cX7_follows 23 = .ok (.aload_n 1, 1) := dk_43 (dk_at dksX7_follows_0 23 rfl rfl)
theorem dX7_follows_24 : decode cX7_follows 24 = .ok (.getfield 26, 3) := dk_180 0 26 (dk_at dksX7_follows_1 0 rfl rfl)
theorem dX7_follows_27 : decode cX7_follows 27 = .ok (.getfield 49, 3) := dk_180 0 49 (dk_at dksX7_follows_1 3 rfl rfl)
theorem dX7_follows_30 : decode cX7_follows 30 = .ok (.iload 5, 2) := dk_21 5 (dk_at dksX7_follows_1 6 rfl rfl)
theorem dX7_follows_32 : decode cX7_follows 32 = .ok (.iaload, 1) := dk_46 (dk_at dksX7_follows_1 8 rfl rfl)
theorem dX7_follows_33 : decode cX7_follows 33 = .ok (.iload_n 2, 1) := dk_28 (dk_at dksX7_follows_1 9 rfl rfl)
theorem dX7_follows_34 : decode cX7_follows 34 = .ok (.if_icmp .ne 14, 3) := dk_160 0 14 (dk_at dksX7_follows_1 10 rfl rfl)
theorem dX7_follows_37 : decode cX7_follows 37 = .ok (.aload_n 0, 1) := dk_42 (dk_at dksX7_follows_1 13 rfl rfl)
theorem dX7_follows_38 : decode cX7_follows 38 = .ok (.aload_n 1, 1) := dk_43 (dk_at dksX7_follows_1 14 rfl rfl)
theorem dX7_follows_39 : decode cX7_follows 39 = .ok (.iload 5, 2) := dk_21 5 (dk_at dksX7_follows_1 15 rfl rfl)
theorem dX7_follows_41 : decode cX7_follows 41 = .ok (.iload_n 3, 1) := dk_29 (dk_at dksX7_follows_1 17 rfl rfl)
theorem dX7_follows_42 : decode cX7_follows 42 = .ok (.invokevirtual 55, 3) := dk_182 0 55 (dk_at dksX7_follows_1 18 rfl rfl)
theorem dX7_follows_45 : decode cX7_follows 45 = .ok (.ifCond .eq 40, 3) := dk_153 0 40 (dk_at dksX7_follows_1 21 rfl rfl)
theorem dX7_follows_48 : decode cX7_follows 48 = .ok (.aload_n 1, 1) := dk_43 (dk_at dksX7_follows_2 0 rfl rfl)
theorem dX7_follows_49 : decode cX7_follows 49 = .ok (.getfield 26, 3) := dk_180 0 26 (dk_at dksX7_follows_2 1 rfl rfl)
theorem dX7_follows_52 : decode cX7_follows 52 = .ok (.iload 5, 2) := dk_21 5 (dk_at dksX7_follows_2 4 rfl rfl)
theorem dX7_follows_54 : decode cX7_follows 54 = .ok (.invokevirtual 32, 3) := dk_182 0 32 (dk_at dksX7_follows_2 6 rfl rfl)
theorem dX7_follows_57 : decode cX7_follows 57 = .ok (.ifCond .eq 32, 3) := dk_153 0 32 (dk_at dksX7_follows_2 9 rfl rfl)
theorem dX7_follows_60 : decode cX7_follows 60 = .ok (.aload_n 1, 1) := dk_43 (dk_at dksX7_follows_2 12 rfl rfl)
theorem dX7_follows_61 : decode cX7_follows 61 = .ok (.getfield 26, 3) := dk_180 0 26 (dk_at dksX7_follows_2 13 rfl rfl)
theorem dX7_follows_64 : decode cX7_follows 64 = .ok (.getfield 42, 3) := dk_180 0 42 (dk_at dksX7_follows_2 16 rfl rfl)
theorem dX7_follows_67 : decode cX7_follows 67 = .ok (.iload 5, 2) := dk_21 5 (dk_at dksX7_follows_2 19 rfl rfl)
theorem dX7_follows_69 : decode cX7_follows 69 = .ok (.iaload, 1) := dk_46 (dk_at dksX7_follows_2 21 rfl rfl)
theorem dX7_follows_70 : decode cX7_follows 70 = .ok (.iload_n 2, 1) := dk_28 (dk_at dksX7_follows_2 22 rfl rfl)
theorem dX7_follows_71 : decode cX7_follows 71 = .ok (.if_icmp .ne 18, 3) := dk_160 0 18 (dk_at dksX7_follows_3 0 rfl rfl)
theorem dX7_follows_74 : decode cX7_follows 74 = .ok (.aload_n 0, 1) := dk_42 (dk_at dksX7_follows_3 3 rfl rfl)
theorem dX7_follows_75 : decode cX7_follows 75 = .ok (.aload_n 1, 1) := dk_43 (dk_at dksX7_follows_3 4 rfl rfl)
theorem dX7_follows_76 : decode cX7_follows 76 = .ok (.iload 5, 2) := dk_21 5 (dk_at dksX7_follows_3 5 rfl rfl)
theorem dX7_follows_78 : decode cX7_follows 78 = .ok (.iload_n 3, 1) := dk_29 (dk_at dksX7_follows_3 7 rfl rfl)
theorem dX7_follows_79 : decode cX7_follows 79 = .ok (.invokevirtual 63, 3) := dk_182 0 63 (dk_at dksX7_follows_3 8 rfl rfl)
theorem dX7_follows_82 : decode cX7_follows 82 = .ok (.ifCond .ne 7, 3) := dk_154 0 7 (dk_at dksX7_follows_3 11 rfl rfl)
theorem dX7_follows_85 : decode cX7_follows 85 = .ok (.iconst 1, 1) := dk_4 (dk_at dksX7_follows_3 14 rfl rfl)
theorem dX7_follows_86 : decode cX7_follows 86 = .ok (.goto 4, 3) := dk_167 0 4 (dk_at dksX7_follows_3 15 rfl rfl)
theorem dX7_follows_89 : decode cX7_follows 89 = .ok (.iconst 0, 1) := dk_3 (dk_at dksX7_follows_3 18 rfl rfl)
theorem dX7_follows_90 : decode cX7_follows 90 = .ok (.istore 4, 2) := dk_54 4 (dk_at dksX7_follows_3 19 rfl rfl)
theorem dX7_follows_92 : decode cX7_follows 92 = .ok (.iinc 5 1, 3) := dk_132 5 1 (dk_at dksX7_follows_3 21 rfl rfl)
theorem dX7_follows_95 : decode cX7_follows 95 = .ok (.goto (-89), 3) := dk_167 255 167 (dk_at dksX7_follows_4 0 rfl rfl)
theorem dX7_follows_98 : decode cX7_follows 98 = .ok (.iload 4, 2) := dk_21 4 (dk_at dksX7_follows_4 3 rfl rfl)
theorem dX7_follows_100 : decode cX7_follows 100 = .ok (.ifCond .eq 20, 3) := dk_153 0 20 (dk_at dksX7_follows_4 5 rfl rfl)
theorem dX7_follows_103 : decode cX7_follows 103 = .ok (.aload_n 0, 1) := dk_42 (dk_at dksX7_follows_4 8 rfl rfl)
theorem dX7_follows_104 : decode cX7_follows 104 = .ok (.getfield 15, 3) := dk_180 0 15 (dk_at dksX7_follows_4 9 rfl rfl)
theorem dX7_follows_107 : decode cX7_follows 107 = .ok (.iload_n 2, 1) := dk_28 (dk_at dksX7_follows_4 12 rfl rfl)
theorem dX7_follows_108 : decode cX7_follows 108 = .ok (.iaload, 1) := dk_46 (dk_at dksX7_follows_4 13 rfl rfl)
theorem dX7_follows_109 : decode cX7_follows 109 = .ok (.iload_n 3, 1) := dk_29 (dk_at dksX7_follows_4 14 rfl rfl)
theorem dX7_follows_110 : decode cX7_follows 110 = .ok (.invokestatic 45, 3) := dk_184 0 45 (dk_at dksX7_follows_4 15 rfl rfl)
theorem dX7_follows_113 : decode cX7_follows 113 = .ok (.ifCond .eq 7, 3) := dk_153 0 7 (dk_at dksX7_follows_4 18 rfl rfl)
theorem dX7_follows_116 : decode cX7_follows 116 = .ok (.iconst 1, 1) := dk_4 (dk_at dksX7_follows_4 21 rfl rfl)
theorem dX7_follows_117 : decode cX7_follows 117 = .ok (.goto 4, 3) := dk_167 0 4 (dk_at dksX7_follows_5 0 rfl rfl)
theorem dX7_follows_120 : decode cX7_follows 120 = .ok (.iconst 0, 1) := dk_3 (dk_at dksX7_follows_5 3 rfl rfl)
theorem dX7_follows_121 : decode cX7_follows 121 = .ok (.ireturn, 1) := dk_172 (dk_at dksX7_follows_5 4 rfl rfl)
theorem q104 : (Jvm.Cond.initialized "NineDemands$Showing") ∈ lw_all := lw_g (lw_at lw_m1 14 rfl) rfl
theorem q340 : (Jvm.Cond.instantiable "NineDemands$Showing" (4 : Nat)) ∈ lw_all := lw_g (lw_at lw_m2 10 rfl) rfl
theorem q342 : (Jvm.Cond.instanceMethod ({ cls := "NineDemands$Showing", name := "<init>", desc := "()V" } : Jvm.MethodName)) ∈ lw_all := lw_g (lw_at lw_m2 12 rfl) rfl
theorem q343 : (Jvm.Cond.code ({ cls := "NineDemands$Showing", name := "<init>", desc := "()V" } : Jvm.MethodName) prog_21_method_1_code (1 : Nat) (Option.none : Option Jvm.ClassFile.FieldType)) ∈ lw_all := lw_g (lw_at lw_m2 13 rfl) rfl
theorem q344 : (Jvm.Cond.methodLink "NineDemands$Showing" (3 : Nat) ({ cls := "java/lang/Object", name := "<init>", desc := "()V" } : Jvm.MethodName)) ∈ lw_all := lw_g (lw_at lw_m2 14 rfl) rfl
theorem q345 : (Jvm.Cond.fieldLink "NineDemands$Showing" (9 : Nat) "NineDemands$Showing" "steps" "[I") ∈ lw_all := lw_g (lw_at lw_m2 15 rfl) rfl
theorem q347 : (Jvm.Cond.fieldLink "NineDemands$Showing" (15 : Nat) "NineDemands$Showing" "left" "[I") ∈ lw_all := lw_g (lw_at lw_m2 17 rfl) rfl
theorem q348 : (Jvm.Cond.fieldLink "NineDemands$Showing" (18 : Nat) "NineDemands$Showing" "many" "I") ∈ lw_all := lw_g (lw_at lw_m2 18 rfl) rfl
theorem q350 : (Jvm.Cond.fieldLink "NineDemands$Showing" (22 : Nat) "NineDemands$Showing" "isProof" "Z") ∈ lw_all := lw_g (lw_at lw_m2 20 rfl) rfl
theorem q352 : (Jvm.Cond.laysFinal "NineDemands$Showing" "NineDemands$Showing" "steps" "[I") ∈ lw_all := lw_g (lw_at lw_m2 22 rfl) rfl
theorem q353 : (Jvm.Cond.soleField "NineDemands$Showing" "steps") ∈ lw_all := lw_g (lw_at lw_m2 23 rfl) rfl
theorem q354 : (Jvm.Cond.laysFinal "NineDemands$Showing" "NineDemands$Showing" "left" "[I") ∈ lw_all := lw_g (lw_at lw_m2 24 rfl) rfl
theorem q355 : (Jvm.Cond.soleField "NineDemands$Showing" "left") ∈ lw_all := lw_g (lw_at lw_m2 25 rfl) rfl
theorem q356 : (Jvm.Cond.lays "NineDemands$Showing" "NineDemands$Showing" "many" "I") ∈ lw_all := lw_g (lw_at lw_m2 26 rfl) rfl
theorem q357 : (Jvm.Cond.soleField "NineDemands$Showing" "many") ∈ lw_all := lw_g (lw_at lw_m2 27 rfl) rfl
theorem q358 : (Jvm.Cond.lays "NineDemands$Showing" "NineDemands$Showing" "isProof" "Z") ∈ lw_all := lw_g (lw_at lw_m2 28 rfl) rfl
theorem q359 : (Jvm.Cond.soleField "NineDemands$Showing" "isProof") ∈ lw_all := lw_g (lw_at lw_m2 29 rfl) rfl
theorem q360 : (Jvm.Cond.superclass "NineDemands$Showing" "java/lang/Object") ∈ lw_all := lw_g (lw_at lw_m2 30 rfl) rfl
theorem q550 : (Jvm.Cond.fieldLink "NineDemands$Showing" (52 : Nat) "NineDemands$Demand" "number" "I") ∈ lw_all := lw_g (lw_at lw_m2 220 rfl) rfl
theorem q568 : (Jvm.Cond.fieldLink "NineDemands$Showing" (26 : Nat) "NineDemands$Demand" "cases" "LNineDemands$Cases;") ∈ lw_all := lw_g (lw_at lw_m2 238 rfl) rfl
theorem q1122 : (Jvm.Cond.fieldLinkNest "NineDemands$Showing" (49 : Nat) "NineDemands$Cases" "first" "[I" "NineDemands") ∈ lw_tbl := lw_at lw_m5 72 rfl
theorem q1128 : (Jvm.Cond.fieldLinkNest "NineDemands$Showing" (42 : Nat) "NineDemands$Cases" "second" "[I" "NineDemands") ∈ lw_tbl := lw_at lw_m5 78 rfl
theorem q1140 : (Jvm.Cond.fieldLinkNest "NineDemands$Showing" (66 : Nat) "NineDemands$Cases" "many" "I" "NineDemands") ∈ lw_tbl := lw_at lw_m5 90 rfl
theorem q1300 : (Jvm.Cond.selects "NineDemands$Showing" ({ cls := "java/lang/Object", name := "getClass", desc := "()Ljava/lang/Class;" } : Jvm.MethodName) ({ cls := "java/lang/Object", name := "getClass", desc := "()Ljava/lang/Class;" } : Jvm.MethodName)) ∈ lw_all := lw_g (lw_at lw_m6 10 rfl) rfl
theorem q1544 : (Jvm.Cond.instanceMethod ({ cls := "NineDemands$Showing", name := "shows", desc := "(Ljava/util/ArrayList;I)V" } : Jvm.MethodName)) ∈ lw_all := lw_g (lw_at lw_m7 14 rfl) rfl
theorem q1545 : (Jvm.Cond.selects "NineDemands$Showing" ({ cls := "NineDemands$Showing", name := "shows", desc := "(Ljava/util/ArrayList;I)V" } : Jvm.MethodName) ({ cls := "NineDemands$Showing", name := "shows", desc := "(Ljava/util/ArrayList;I)V" } : Jvm.MethodName)) ∈ lw_all := lw_g (lw_at lw_m7 15 rfl) rfl
theorem q1546 : (Jvm.Cond.code ({ cls := "NineDemands$Showing", name := "shows", desc := "(Ljava/util/ArrayList;I)V" } : Jvm.MethodName) prog_21_method_9_code (6 : Nat) (Option.none : Option Jvm.ClassFile.FieldType)) ∈ lw_all := lw_g (lw_at lw_m7 16 rfl) rfl
theorem q1547 : (Jvm.Cond.methodLink "NineDemands$Showing" (74 : Nat) ({ cls := "NineDemands$Showing", name := "begin", desc := "()V" } : Jvm.MethodName)) ∈ lw_all := lw_g (lw_at lw_m7 17 rfl) rfl
theorem q1548 : (Jvm.Cond.instanceMethod ({ cls := "NineDemands$Showing", name := "begin", desc := "()V" } : Jvm.MethodName)) ∈ lw_all := lw_g (lw_at lw_m7 18 rfl) rfl
theorem q1549 : (Jvm.Cond.selects "NineDemands$Showing" ({ cls := "NineDemands$Showing", name := "begin", desc := "()V" } : Jvm.MethodName) ({ cls := "NineDemands$Showing", name := "begin", desc := "()V" } : Jvm.MethodName)) ∈ lw_all := lw_g (lw_at lw_m7 19 rfl) rfl
theorem q1550 : (Jvm.Cond.code ({ cls := "NineDemands$Showing", name := "begin", desc := "()V" } : Jvm.MethodName) prog_21_method_2_code (2 : Nat) (Option.none : Option Jvm.ClassFile.FieldType)) ∈ lw_all := lw_g (lw_at lw_m7 20 rfl) rfl
theorem q1551 : (Jvm.Cond.methodLink "NineDemands$Showing" (77 : Nat) ({ cls := "java/util/ArrayList", name := "size", desc := "()I" } : Jvm.MethodName)) ∈ lw_all := lw_g (lw_at lw_m7 21 rfl) rfl
theorem q1552 : (Jvm.Cond.methodLinkNest "NineDemands$Showing" (45 : Nat) ({ cls := "NineDemands", name := "has", desc := "(II)Z" } : Jvm.MethodName) "NineDemands") ∈ lw_tbl := lw_at lw_m7 22 rfl
theorem q1553 : (Jvm.Cond.methodLink "NineDemands$Showing" (83 : Nat) ({ cls := "java/util/ArrayList", name := "get", desc := "(I)Ljava/lang/Object;" } : Jvm.MethodName)) ∈ lw_all := lw_g (lw_at lw_m7 23 rfl) rfl
theorem q1554 : (Jvm.Cond.classLink "NineDemands$Showing" (27 : Nat) "NineDemands$Demand") ∈ lw_all := lw_g (lw_at lw_m7 24 rfl) rfl
theorem q1555 : (Jvm.Cond.methodLink "NineDemands$Showing" (87 : Nat) ({ cls := "NineDemands$Showing", name := "strikes", desc := "(LNineDemands$Demand;)V" } : Jvm.MethodName)) ∈ lw_all := lw_g (lw_at lw_m7 25 rfl) rfl
theorem q1556 : (Jvm.Cond.privateMethod ({ cls := "NineDemands$Showing", name := "strikes", desc := "(LNineDemands$Demand;)V" } : Jvm.MethodName)) ∈ lw_tbl := lw_at lw_m7 26 rfl
theorem q1557 : (Jvm.Cond.instanceMethod ({ cls := "NineDemands$Showing", name := "strikes", desc := "(LNineDemands$Demand;)V" } : Jvm.MethodName)) ∈ lw_all := lw_g (lw_at lw_m7 27 rfl) rfl
theorem q1558 : (Jvm.Cond.code ({ cls := "NineDemands$Showing", name := "strikes", desc := "(LNineDemands$Demand;)V" } : Jvm.MethodName) prog_21_method_8_code (3 : Nat) (Option.none : Option Jvm.ClassFile.FieldType)) ∈ lw_all := lw_g (lw_at lw_m7 28 rfl) rfl
theorem q1559 : (Jvm.Cond.methodLink "NineDemands$Showing" (67 : Nat) ({ cls := "NineDemands$Showing", name := "strikesFirst", desc := "(LNineDemands$Demand;I)V" } : Jvm.MethodName)) ∈ lw_all := lw_g (lw_at lw_m7 29 rfl) rfl
theorem q1560 : (Jvm.Cond.privateMethod ({ cls := "NineDemands$Showing", name := "strikesFirst", desc := "(LNineDemands$Demand;I)V" } : Jvm.MethodName)) ∈ lw_tbl := lw_at lw_m7 30 rfl
theorem q1561 : (Jvm.Cond.instanceMethod ({ cls := "NineDemands$Showing", name := "strikesFirst", desc := "(LNineDemands$Demand;I)V" } : Jvm.MethodName)) ∈ lw_all := lw_g (lw_at lw_m7 31 rfl) rfl
theorem q1562 : (Jvm.Cond.code ({ cls := "NineDemands$Showing", name := "strikesFirst", desc := "(LNineDemands$Demand;I)V" } : Jvm.MethodName) prog_21_method_6_code (5 : Nat) (Option.none : Option Jvm.ClassFile.FieldType)) ∈ lw_all := lw_g (lw_at lw_m7 32 rfl) rfl
theorem q1563 : (Jvm.Cond.methodLink "NineDemands$Showing" (55 : Nat) ({ cls := "NineDemands$Showing", name := "goesFirst", desc := "(LNineDemands$Demand;II)Z" } : Jvm.MethodName)) ∈ lw_all := lw_g (lw_at lw_m7 33 rfl) rfl
theorem q1564 : (Jvm.Cond.privateMethod ({ cls := "NineDemands$Showing", name := "goesFirst", desc := "(LNineDemands$Demand;II)Z" } : Jvm.MethodName)) ∈ lw_tbl := lw_at lw_m7 34 rfl
theorem q1565 : (Jvm.Cond.instanceMethod ({ cls := "NineDemands$Showing", name := "goesFirst", desc := "(LNineDemands$Demand;II)Z" } : Jvm.MethodName)) ∈ lw_all := lw_g (lw_at lw_m7 35 rfl) rfl
theorem q1566 : (Jvm.Cond.code ({ cls := "NineDemands$Showing", name := "goesFirst", desc := "(LNineDemands$Demand;II)Z" } : Jvm.MethodName) prog_21_method_3_code (6 : Nat) (Option.some Jvm.ClassFile.FieldType.boolean)) ∈ lw_all := lw_g (lw_at lw_m7 36 rfl) rfl
theorem q1567 : (Jvm.Cond.methodLink "NineDemands$Showing" (32 : Nat) ({ cls := "NineDemands$Cases", name := "isPair", desc := "(I)Z" } : Jvm.MethodName)) ∈ lw_all := lw_g (lw_at lw_m7 37 rfl) rfl
theorem q1568 : (Jvm.Cond.methodLink "NineDemands$Showing" (38 : Nat) ({ cls := "NineDemands$Demand", name := "goes", desc := "(III)Z" } : Jvm.MethodName)) ∈ lw_all := lw_g (lw_at lw_m7 38 rfl) rfl
theorem q1569 : (Jvm.Cond.methodLink "NineDemands$Showing" (59 : Nat) ({ cls := "NineDemands$Showing", name := "strike", desc := "(LNineDemands$Demand;II)V" } : Jvm.MethodName)) ∈ lw_all := lw_g (lw_at lw_m7 39 rfl) rfl
theorem q1570 : (Jvm.Cond.instanceMethod ({ cls := "NineDemands$Showing", name := "strike", desc := "(LNineDemands$Demand;II)V" } : Jvm.MethodName)) ∈ lw_all := lw_g (lw_at lw_m7 40 rfl) rfl
theorem q1571 : (Jvm.Cond.selects "NineDemands$Showing" ({ cls := "NineDemands$Showing", name := "strike", desc := "(LNineDemands$Demand;II)V" } : Jvm.MethodName) ({ cls := "NineDemands$Showing", name := "strike", desc := "(LNineDemands$Demand;II)V" } : Jvm.MethodName)) ∈ lw_all := lw_g (lw_at lw_m7 41 rfl) rfl
theorem q1572 : (Jvm.Cond.code ({ cls := "NineDemands$Showing", name := "strike", desc := "(LNineDemands$Demand;II)V" } : Jvm.MethodName) prog_21_method_5_code (4 : Nat) (Option.none : Option Jvm.ClassFile.FieldType)) ∈ lw_all := lw_g (lw_at lw_m7 42 rfl) rfl
theorem q1573 : (Jvm.Cond.methodLink "NineDemands$Showing" (71 : Nat) ({ cls := "NineDemands$Showing", name := "strikesSecond", desc := "(LNineDemands$Demand;I)V" } : Jvm.MethodName)) ∈ lw_all := lw_g (lw_at lw_m7 43 rfl) rfl
theorem q1574 : (Jvm.Cond.privateMethod ({ cls := "NineDemands$Showing", name := "strikesSecond", desc := "(LNineDemands$Demand;I)V" } : Jvm.MethodName)) ∈ lw_tbl := lw_at lw_m7 44 rfl
theorem q1575 : (Jvm.Cond.instanceMethod ({ cls := "NineDemands$Showing", name := "strikesSecond", desc := "(LNineDemands$Demand;I)V" } : Jvm.MethodName)) ∈ lw_all := lw_g (lw_at lw_m7 45 rfl) rfl
theorem q1576 : (Jvm.Cond.code ({ cls := "NineDemands$Showing", name := "strikesSecond", desc := "(LNineDemands$Demand;I)V" } : Jvm.MethodName) prog_21_method_7_code (5 : Nat) (Option.none : Option Jvm.ClassFile.FieldType)) ∈ lw_all := lw_g (lw_at lw_m7 46 rfl) rfl
theorem q1577 : (Jvm.Cond.methodLink "NineDemands$Showing" (63 : Nat) ({ cls := "NineDemands$Showing", name := "goesSecond", desc := "(LNineDemands$Demand;II)Z" } : Jvm.MethodName)) ∈ lw_all := lw_g (lw_at lw_m7 47 rfl) rfl
theorem q1578 : (Jvm.Cond.privateMethod ({ cls := "NineDemands$Showing", name := "goesSecond", desc := "(LNineDemands$Demand;II)Z" } : Jvm.MethodName)) ∈ lw_tbl := lw_at lw_m7 48 rfl
theorem q1579 : (Jvm.Cond.instanceMethod ({ cls := "NineDemands$Showing", name := "goesSecond", desc := "(LNineDemands$Demand;II)Z" } : Jvm.MethodName)) ∈ lw_all := lw_g (lw_at lw_m7 49 rfl) rfl
theorem q1580 : (Jvm.Cond.code ({ cls := "NineDemands$Showing", name := "goesSecond", desc := "(LNineDemands$Demand;II)Z" } : Jvm.MethodName) prog_21_method_4_code (6 : Nat) (Option.some Jvm.ClassFile.FieldType.boolean)) ∈ lw_all := lw_g (lw_at lw_m7 50 rfl) rfl
theorem q1591 : (Jvm.Cond.instanceMethod ({ cls := "NineDemands$Showing", name := "follows", desc := "(LNineDemands$Demand;II)Z" } : Jvm.MethodName)) ∈ lw_all := lw_g (lw_at lw_m7 61 rfl) rfl
theorem q1592 : (Jvm.Cond.selects "NineDemands$Showing" ({ cls := "NineDemands$Showing", name := "follows", desc := "(LNineDemands$Demand;II)Z" } : Jvm.MethodName) ({ cls := "NineDemands$Showing", name := "follows", desc := "(LNineDemands$Demand;II)Z" } : Jvm.MethodName)) ∈ lw_all := lw_g (lw_at lw_m7 62 rfl) rfl
theorem q1593 : (Jvm.Cond.code ({ cls := "NineDemands$Showing", name := "follows", desc := "(LNineDemands$Demand;II)Z" } : Jvm.MethodName) prog_21_method_10_code (6 : Nat) (Option.some Jvm.ClassFile.FieldType.boolean)) ∈ lw_all := lw_g (lw_at lw_m7 63 rfl) rfl
theorem q2531 : (Jvm.Cond.castable "NineDemands$Showing" "java/lang/Object") ∈ lw_tbl := lw_at lw_m11 41 rfl
theorem in_X7 : ∀ w ∈ wsX70, w ∈ lw_all := lw_in wsX70 [352, 354, 356, 358] (by decide +kernel) (by decide +kernel)
/-! NineDemands$Shelf -/
set_option maxRecDepth 100000
def RX8 : String := "NineDemands$Shelf"
def TX8 : u_T := fun k => match k with
  | _ => ("NineDemands$Shelf", "held", "Ljava/lang/Object;", false)
def tyX8 : Nat → FieldType := fun k => match k with
  | _ => .object "java/lang/Object"
abbrev wsX80 : List Cond := u_ws RX8 TX8 1
theorem nmX8 : ∀ a, a < 1 → ∀ b, b < 1 → a ≠ b → (TX8 a).2.1 ≠ (TX8 b).2.1 := by decide +kernel
theorem tyX8_ok : ∀ k, k < 1 → parseFieldDescriptor (TX8 k).2.2.1 = some (tyX8 k) := by decide +kernel
abbrev cX8_init : ByteArray := prog_19_method_1_code
def yX8_init : MethodName := ⟨RX8, "<init>", "()V"⟩
theorem dX8_init_0 : decode cX8_init 0 = .ok (.aload_n 0, 1) := by decide +kernel
theorem dX8_init_1 : decode cX8_init 1 = .ok (.invokespecial 1, 3) := by decide +kernel
theorem dX8_init_4 : decode cX8_init 4 = .ok (.return_, 1) := by decide +kernel
theorem q105 : (Jvm.Cond.initialized "NineDemands$Shelf") ∈ lw_all := lw_g (lw_at lw_m1 15 rfl) rfl
theorem q363 : (Jvm.Cond.instantiable "NineDemands$Shelf" (1 : Nat)) ∈ lw_all := lw_g (lw_at lw_m2 33 rfl) rfl
theorem q365 : (Jvm.Cond.instanceMethod ({ cls := "NineDemands$Shelf", name := "<init>", desc := "()V" } : Jvm.MethodName)) ∈ lw_all := lw_g (lw_at lw_m2 35 rfl) rfl
theorem q366 : (Jvm.Cond.code ({ cls := "NineDemands$Shelf", name := "<init>", desc := "()V" } : Jvm.MethodName) prog_19_method_1_code (1 : Nat) (Option.none : Option Jvm.ClassFile.FieldType)) ∈ lw_all := lw_g (lw_at lw_m2 36 rfl) rfl
theorem q367 : (Jvm.Cond.methodLink "NineDemands$Shelf" (1 : Nat) ({ cls := "java/lang/Object", name := "<init>", desc := "()V" } : Jvm.MethodName)) ∈ lw_all := lw_g (lw_at lw_m2 37 rfl) rfl
theorem q369 : (Jvm.Cond.lays "NineDemands$Shelf" "NineDemands$Shelf" "held" "Ljava/lang/Object;") ∈ lw_all := lw_g (lw_at lw_m2 39 rfl) rfl
theorem q370 : (Jvm.Cond.soleField "NineDemands$Shelf" "held") ∈ lw_all := lw_g (lw_at lw_m2 40 rfl) rfl
theorem q371 : (Jvm.Cond.superclass "NineDemands$Shelf" "java/lang/Object") ∈ lw_all := lw_g (lw_at lw_m2 41 rfl) rfl
theorem q1298 : (Jvm.Cond.selects "NineDemands$Shelf" ({ cls := "java/lang/Object", name := "getClass", desc := "()Ljava/lang/Class;" } : Jvm.MethodName) ({ cls := "java/lang/Object", name := "getClass", desc := "()Ljava/lang/Class;" } : Jvm.MethodName)) ∈ lw_all := lw_g (lw_at lw_m6 8 rfl) rfl
theorem q2522 : (Jvm.Cond.castable "NineDemands$Shelf" "java/lang/Object") ∈ lw_tbl := lw_at lw_m11 32 rfl
theorem in_X8 : ∀ w ∈ wsX80, w ∈ lw_all := lw_in wsX80 [369] (by decide +kernel) (by decide +kernel)
