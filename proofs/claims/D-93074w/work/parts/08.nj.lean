/-! java/lang/Throwable -/
set_option maxRecDepth 100000
def RJ0 : String := "java/lang/Throwable"
def TJ0 : u_T := fun k => match k with
  | 0 => ("java/lang/Throwable", "cause", "Ljava/lang/Throwable;", false)
  | 1 => ("java/lang/Throwable", "stackTrace", "[Ljava/lang/StackTraceElement;", false)
  | 2 => ("java/lang/Throwable", "suppressedExceptions", "Ljava/util/List;", false)
  | 3 => ("java/lang/Throwable", "detailMessage", "Ljava/lang/String;", false)
  | _ => ("java/lang/Throwable", "backtrace", "Ljava/lang/Object;", false)
def tyJ0 : Nat → FieldType := fun k => match k with
  | 0 => .object "java/lang/Throwable"
  | 1 => .array (.object "java/lang/StackTraceElement")
  | 2 => .object "java/util/List"
  | 3 => .object "java/lang/String"
  | _ => .object "java/lang/Object"
abbrev wsJ00 : List Cond := u_ws RJ0 TJ0 5
theorem nmJ0 : ∀ a, a < 5 → ∀ b, b < 5 → a ≠ b → (TJ0 a).2.1 ≠ (TJ0 b).2.1 := by decide +kernel
theorem tyJ0_ok : ∀ k, k < 5 → parseFieldDescriptor (TJ0 k).2.2.1 = some (tyJ0 k) := by decide +kernel
abbrev cJ0_init : ByteArray := prog_51_method_1_code
def yJ0_init : MethodName := ⟨RJ0, "<init>", "()V"⟩
def dkwJ0_init_1 : List UInt8 := [182, 0, 27, 87, 177]
abbrev dktJ0_init_1 : List UInt8 := dkwJ0_init_1 ++ []
def dkwJ0_init_0 : List UInt8 := [42, 183, 0, 1, 42, 42, 181, 0, 7, 42, 178, 0, 13, 181, 0, 17, 42, 178, 0, 20, 181, 0, 24, 42]
abbrev dktJ0_init_0 : List UInt8 := dkwJ0_init_0 ++ dktJ0_init_1
theorem dksJ0_init_0 : cJ0_init.data.toList.drop 0 = dktJ0_init_0 := by decide +kernel
theorem dksJ0_init_1 : cJ0_init.data.toList.drop 24 = dktJ0_init_1 := dk_seg dksJ0_init_0 24 rfl rfl
theorem dJ0_init_0 : decode cJ0_init 0 = .ok (.aload_n 0, 1) := dk_42 (dk_at dksJ0_init_0 0 rfl rfl)
theorem dJ0_init_1 : decode cJ0_init 1 = .ok (.invokespecial 1, 3) := dk_183 0 1 (dk_at dksJ0_init_0 1 rfl rfl)
theorem dJ0_init_4 : decode cJ0_init 4 = .ok (.aload_n 0, 1) := dk_42 (dk_at dksJ0_init_0 4 rfl rfl)
theorem dJ0_init_5 : decode cJ0_init 5 = .ok (.aload_n 0, 1) := dk_42 (dk_at dksJ0_init_0 5 rfl rfl)
theorem dJ0_init_6 : decode cJ0_init 6 = .ok (.putfield 7, 3) := dk_181 0 7 (dk_at dksJ0_init_0 6 rfl rfl)
theorem dJ0_init_9 : decode cJ0_init 9 = .ok (.aload_n 0, 1) := dk_42 (dk_at dksJ0_init_0 9 rfl rfl)
theorem dJ0_init_10 : decode cJ0_init 10 = .ok (.getstatic 13, 3) := dk_178 0 13 (dk_at dksJ0_init_0 10 rfl rfl)
theorem dJ0_init_13 : decode cJ0_init 13 = .ok (.putfield 17, 3) := dk_181 0 17 (dk_at dksJ0_init_0 13 rfl rfl)
theorem dJ0_init_16 : decode cJ0_init 16 = .ok (.aload_n 0, 1) := dk_42 (dk_at dksJ0_init_0 16 rfl rfl)
theorem dJ0_init_17 : decode cJ0_init 17 = .ok (.getstatic 20, 3) := dk_178 0 20 (dk_at dksJ0_init_0 17 rfl rfl)
theorem dJ0_init_20 : decode cJ0_init 20 = .ok (.putfield 24, 3) := dk_181 0 24 (dk_at dksJ0_init_0 20 rfl rfl)
theorem dJ0_init_23 : decode cJ0_init 23 = .ok (.aload_n 0, 1) := dk_42 (dk_at dksJ0_init_0 23 rfl rfl)
theorem dJ0_init_24 : decode cJ0_init 24 = .ok (.invokevirtual 27, 3) := dk_182 0 27 (dk_at dksJ0_init_1 0 rfl rfl)
theorem dJ0_init_27 : decode cJ0_init 27 = .ok (.pop, 1) := dk_87 (dk_at dksJ0_init_1 3 rfl rfl)
theorem dJ0_init_28 : decode cJ0_init 28 = .ok (.return_, 1) := dk_177 (dk_at dksJ0_init_1 4 rfl rfl)
abbrev cJ0_init_2 : ByteArray := prog_51_method_5_code
def yJ0_init_2 : MethodName := ⟨RJ0, "<init>", "(Ljava/lang/String;Ljava/lang/Throwable;ZZ)V"⟩
def dkwJ0_init_2_2 : List UInt8 := [44, 181, 0, 7, 29, 154, 0, 8, 42, 1, 181, 0, 24, 177]
abbrev dktJ0_init_2_2 : List UInt8 := dkwJ0_init_2_2 ++ []
def dkwJ0_init_2_1 : List UInt8 := [21, 4, 153, 0, 11, 42, 182, 0, 27, 87, 167, 0, 8, 42, 1, 181, 0, 17, 42, 43, 181, 0, 31, 42]
abbrev dktJ0_init_2_1 : List UInt8 := dkwJ0_init_2_1 ++ dktJ0_init_2_2
def dkwJ0_init_2_0 : List UInt8 := [42, 183, 0, 1, 42, 42, 181, 0, 7, 42, 178, 0, 13, 181, 0, 17, 42, 178, 0, 20, 181, 0, 24]
abbrev dktJ0_init_2_0 : List UInt8 := dkwJ0_init_2_0 ++ dktJ0_init_2_1
theorem dksJ0_init_2_0 : cJ0_init_2.data.toList.drop 0 = dktJ0_init_2_0 := by decide +kernel
theorem dksJ0_init_2_1 : cJ0_init_2.data.toList.drop 23 = dktJ0_init_2_1 := dk_seg dksJ0_init_2_0 23 rfl rfl
theorem dksJ0_init_2_2 : cJ0_init_2.data.toList.drop 47 = dktJ0_init_2_2 := dk_seg dksJ0_init_2_1 24 rfl rfl
theorem dJ0_init_2_0 : decode cJ0_init_2 0 = .ok (.aload_n 0, 1) := dk_42 (dk_at dksJ0_init_2_0 0 rfl rfl)
theorem dJ0_init_2_1 : decode cJ0_init_2 1 = .ok (.invokespecial 1, 3) := dk_183 0 1 (dk_at dksJ0_init_2_0 1 rfl rfl)
theorem dJ0_init_2_4 : decode cJ0_init_2 4 = .ok (.aload_n 0, 1) := dk_42 (dk_at dksJ0_init_2_0 4 rfl rfl)
theorem dJ0_init_2_5 : decode cJ0_init_2 5 = .ok (.aload_n 0, 1) := dk_42 (dk_at dksJ0_init_2_0 5 rfl rfl)
theorem dJ0_init_2_6 : decode cJ0_init_2 6 = .ok (.putfield 7, 3) := dk_181 0 7 (dk_at dksJ0_init_2_0 6 rfl rfl)
theorem dJ0_init_2_9 : decode cJ0_init_2 9 = .ok (.aload_n 0, 1) := dk_42 (dk_at dksJ0_init_2_0 9 rfl rfl)
theorem dJ0_init_2_10 : decode cJ0_init_2 10 = .ok (.getstatic 13, 3) := dk_178 0 13 (dk_at dksJ0_init_2_0 10 rfl rfl)
theorem dJ0_init_2_13 : decode cJ0_init_2 13 = .ok (.putfield 17, 3) := dk_181 0 17 (dk_at dksJ0_init_2_0 13 rfl rfl)
theorem dJ0_init_2_16 : decode cJ0_init_2 16 = .ok (.aload_n 0, 1) := dk_42 (dk_at dksJ0_init_2_0 16 rfl rfl)
theorem dJ0_init_2_17 : decode cJ0_init_2 17 = .ok (.getstatic 20, 3) := dk_178 0 20 (dk_at dksJ0_init_2_0 17 rfl rfl)
theorem dJ0_init_2_20 : decode cJ0_init_2 20 = .ok (.putfield 24, 3) := dk_181 0 24 (dk_at dksJ0_init_2_0 20 rfl rfl)
theorem dJ0_init_2_23 : decode cJ0_init_2 23 = .ok (.iload 4, 2) := dk_21 4 (dk_at dksJ0_init_2_1 0 rfl rfl)
theorem dJ0_init_2_25 : decode cJ0_init_2 25 = .ok (.ifCond .eq 11, 3) := dk_153 0 11 (dk_at dksJ0_init_2_1 2 rfl rfl)
theorem dJ0_init_2_28 : decode cJ0_init_2 28 = .ok (.aload_n 0, 1) := dk_42 (dk_at dksJ0_init_2_1 5 rfl rfl)
theorem dJ0_init_2_29 : decode cJ0_init_2 29 = .ok (.invokevirtual 27, 3) := dk_182 0 27 (dk_at dksJ0_init_2_1 6 rfl rfl)
theorem dJ0_init_2_32 : decode cJ0_init_2 32 = .ok (.pop, 1) := dk_87 (dk_at dksJ0_init_2_1 9 rfl rfl)
theorem dJ0_init_2_33 : decode cJ0_init_2 33 = .ok (.goto 8, 3) := dk_167 0 8 (dk_at dksJ0_init_2_1 10 rfl rfl)
theorem dJ0_init_2_36 : decode cJ0_init_2 36 = .ok (.aload_n 0, 1) := dk_42 (dk_at dksJ0_init_2_1 13 rfl rfl)
theorem dJ0_init_2_37 : decode cJ0_init_2 37 = .ok (.aconst_null, 1) := dk_1 (dk_at dksJ0_init_2_1 14 rfl rfl)
theorem dJ0_init_2_38 : decode cJ0_init_2 38 = .ok (.putfield 17, 3) := dk_181 0 17 (dk_at dksJ0_init_2_1 15 rfl rfl)
theorem dJ0_init_2_41 : decode cJ0_init_2 41 = .ok (.aload_n 0, 1) := dk_42 (dk_at dksJ0_init_2_1 18 rfl rfl)
theorem dJ0_init_2_42 : decode cJ0_init_2 42 = .ok (.aload_n 1, 1) := dk_43 (dk_at dksJ0_init_2_1 19 rfl rfl)
theorem dJ0_init_2_43 : decode cJ0_init_2 43 = .ok (.putfield 31, 3) := dk_181 0 31 (dk_at dksJ0_init_2_1 20 rfl rfl)
theorem dJ0_init_2_46 : decode cJ0_init_2 46 = .ok (.aload_n 0, 1) := dk_42 (dk_at dksJ0_init_2_1 23 rfl rfl)
theorem dJ0_init_2_47 : decode cJ0_init_2 47 = .ok (.aload_n 2, 1) := dk_44 (dk_at dksJ0_init_2_2 0 rfl rfl)
theorem dJ0_init_2_48 : decode cJ0_init_2 48 = .ok (.putfield 7, 3) := dk_181 0 7 (dk_at dksJ0_init_2_2 1 rfl rfl)
theorem dJ0_init_2_51 : decode cJ0_init_2 51 = .ok (.iload_n 3, 1) := dk_29 (dk_at dksJ0_init_2_2 4 rfl rfl)
theorem dJ0_init_2_52 : decode cJ0_init_2 52 = .ok (.ifCond .ne 8, 3) := dk_154 0 8 (dk_at dksJ0_init_2_2 5 rfl rfl)
theorem dJ0_init_2_55 : decode cJ0_init_2 55 = .ok (.aload_n 0, 1) := dk_42 (dk_at dksJ0_init_2_2 8 rfl rfl)
theorem dJ0_init_2_56 : decode cJ0_init_2 56 = .ok (.aconst_null, 1) := dk_1 (dk_at dksJ0_init_2_2 9 rfl rfl)
theorem dJ0_init_2_57 : decode cJ0_init_2 57 = .ok (.putfield 24, 3) := dk_181 0 24 (dk_at dksJ0_init_2_2 10 rfl rfl)
theorem dJ0_init_2_60 : decode cJ0_init_2 60 = .ok (.return_, 1) := dk_177 (dk_at dksJ0_init_2_2 13 rfl rfl)
theorem q92 : (Jvm.Cond.initialized "java/lang/Throwable") ∈ lw_all := lw_g (lw_at lw_m1 2 rfl) rfl
theorem q153 : (Jvm.Cond.declares ({ cls := "java/lang/Throwable", name := "<init>", desc := "()V" } : Jvm.MethodName)) ∈ lw_tbl := lw_at lw_m1 63 rfl
theorem q154 : (Jvm.Cond.declares ({ cls := "java/lang/Throwable", name := "<init>", desc := "(Ljava/lang/String;)V" } : Jvm.MethodName)) ∈ lw_tbl := lw_at lw_m1 64 rfl
theorem q158 : (Jvm.Cond.lays "java/lang/Throwable" "java/lang/Throwable" "cause" "Ljava/lang/Throwable;") ∈ lw_all := lw_g (lw_at lw_m1 68 rfl) rfl
theorem q160 : (Jvm.Cond.lays "java/lang/Throwable" "java/lang/Throwable" "stackTrace" "[Ljava/lang/StackTraceElement;") ∈ lw_all := lw_g (lw_at lw_m1 70 rfl) rfl
theorem q162 : (Jvm.Cond.lays "java/lang/Throwable" "java/lang/Throwable" "suppressedExceptions" "Ljava/util/List;") ∈ lw_all := lw_g (lw_at lw_m1 72 rfl) rfl
theorem q164 : (Jvm.Cond.lays "java/lang/Throwable" "java/lang/Throwable" "detailMessage" "Ljava/lang/String;") ∈ lw_all := lw_g (lw_at lw_m1 74 rfl) rfl
theorem q166 : (Jvm.Cond.lays "java/lang/Throwable" "java/lang/Throwable" "backtrace" "Ljava/lang/Object;") ∈ lw_all := lw_g (lw_at lw_m1 76 rfl) rfl
theorem q167 : (Jvm.Cond.fieldLink "java/lang/Throwable" (198 : Nat) "java/lang/Throwable" "backtrace" "Ljava/lang/Object;") ∈ lw_all := lw_g (lw_at lw_m1 77 rfl) rfl
theorem q168 : (Jvm.Cond.superclass "java/lang/Throwable" "java/lang/Object") ∈ lw_all := lw_g (lw_at lw_m1 78 rfl) rfl
theorem q169 : (Jvm.Cond.instanceMethod ({ cls := "java/lang/Throwable", name := "<init>", desc := "()V" } : Jvm.MethodName)) ∈ lw_all := lw_g (lw_at lw_m1 79 rfl) rfl
theorem q170 : (Jvm.Cond.code ({ cls := "java/lang/Throwable", name := "<init>", desc := "()V" } : Jvm.MethodName) prog_51_method_1_code (1 : Nat) (Option.none : Option Jvm.ClassFile.FieldType)) ∈ lw_all := lw_g (lw_at lw_m1 80 rfl) rfl
theorem q171 : (Jvm.Cond.methodLink "java/lang/Throwable" (1 : Nat) ({ cls := "java/lang/Object", name := "<init>", desc := "()V" } : Jvm.MethodName)) ∈ lw_all := lw_g (lw_at lw_m1 81 rfl) rfl
theorem q172 : (Jvm.Cond.fieldLink "java/lang/Throwable" (13 : Nat) "java/lang/Throwable" "UNASSIGNED_STACK" "[Ljava/lang/StackTraceElement;") ∈ lw_all := lw_g (lw_at lw_m1 82 rfl) rfl
theorem q173 : (Jvm.Cond.laysStatic "java/lang/Throwable" "UNASSIGNED_STACK" "[Ljava/lang/StackTraceElement;") ∈ lw_tbl := lw_at lw_m1 83 rfl
theorem q174 : (Jvm.Cond.fieldLink "java/lang/Throwable" (20 : Nat) "java/lang/Throwable" "SUPPRESSED_SENTINEL" "Ljava/util/List;") ∈ lw_all := lw_g (lw_at lw_m1 84 rfl) rfl
theorem q175 : (Jvm.Cond.laysStatic "java/lang/Throwable" "SUPPRESSED_SENTINEL" "Ljava/util/List;") ∈ lw_tbl := lw_at lw_m1 85 rfl
theorem q176 : (Jvm.Cond.methodLink "java/lang/Throwable" (27 : Nat) ({ cls := "java/lang/Throwable", name := "fillInStackTrace", desc := "()Ljava/lang/Throwable;" } : Jvm.MethodName)) ∈ lw_all := lw_g (lw_at lw_m1 86 rfl) rfl
theorem q177 : (Jvm.Cond.instanceMethod ({ cls := "java/lang/Throwable", name := "fillInStackTrace", desc := "()Ljava/lang/Throwable;" } : Jvm.MethodName)) ∈ lw_all := lw_g (lw_at lw_m1 87 rfl) rfl
theorem q178 : (Jvm.Cond.sameMethod "java/lang/Throwable" "java/lang/Throwable" "fillInStackTrace" "()Ljava/lang/Throwable;") ∈ lw_all := lw_g (lw_at lw_m1 88 rfl) rfl
theorem q180 : (Jvm.Cond.codeSync ({ cls := "java/lang/Throwable", name := "fillInStackTrace", desc := "()Ljava/lang/Throwable;" } : Jvm.MethodName) prog_51_method_18_code (1 : Nat) (Option.some (Jvm.ClassFile.FieldType.object "java/lang/Throwable"))) ∈ lw_all := lw_g (lw_at lw_m1 90 rfl) rfl
theorem q181 : (Jvm.Cond.methodLink "java/lang/Throwable" (202 : Nat) ({ cls := "java/lang/Throwable", name := "fillInStackTrace", desc := "(I)Ljava/lang/Throwable;" } : Jvm.MethodName)) ∈ lw_all := lw_g (lw_at lw_m1 91 rfl) rfl
theorem q182 : (Jvm.Cond.privateMethod ({ cls := "java/lang/Throwable", name := "fillInStackTrace", desc := "(I)Ljava/lang/Throwable;" } : Jvm.MethodName)) ∈ lw_tbl := lw_at lw_m1 92 rfl
theorem q183 : (Jvm.Cond.instanceMethod ({ cls := "java/lang/Throwable", name := "fillInStackTrace", desc := "(I)Ljava/lang/Throwable;" } : Jvm.MethodName)) ∈ lw_all := lw_g (lw_at lw_m1 93 rfl) rfl
theorem q184 : (Jvm.Cond.instantiable "java/lang/Throwable" (6 : Nat)) ∈ lw_all := lw_g (lw_at lw_m1 94 rfl) rfl
theorem q185 : (Jvm.Cond.native ({ cls := "java/lang/Throwable", name := "fillInStackTrace", desc := "(I)Ljava/lang/Throwable;" } : Jvm.MethodName)) ∈ lw_all := lw_g (lw_at lw_m1 95 rfl) rfl
theorem q196 : (Jvm.Cond.instanceMethod ({ cls := "java/lang/Throwable", name := "<init>", desc := "(Ljava/lang/String;Ljava/lang/Throwable;ZZ)V" } : Jvm.MethodName)) ∈ lw_all := lw_g (lw_at lw_m1 106 rfl) rfl
theorem q197 : (Jvm.Cond.code ({ cls := "java/lang/Throwable", name := "<init>", desc := "(Ljava/lang/String;Ljava/lang/Throwable;ZZ)V" } : Jvm.MethodName) prog_51_method_5_code (5 : Nat) (Option.none : Option Jvm.ClassFile.FieldType)) ∈ lw_all := lw_g (lw_at lw_m1 107 rfl) rfl
theorem q200 : (Jvm.Cond.fieldLink "java/lang/Throwable" (198 : Nat) "java/lang/Throwable" "backtrace" "Ljava/lang/Object;") ∈ lw_all := lw_g (lw_at lw_m1 110 rfl) rfl
theorem q201 : (Jvm.Cond.fieldLink "java/lang/Throwable" (31 : Nat) "java/lang/Throwable" "detailMessage" "Ljava/lang/String;") ∈ lw_all := lw_g (lw_at lw_m1 111 rfl) rfl
theorem q202 : (Jvm.Cond.fieldLink "java/lang/Throwable" (7 : Nat) "java/lang/Throwable" "cause" "Ljava/lang/Throwable;") ∈ lw_all := lw_g (lw_at lw_m1 112 rfl) rfl
theorem q203 : (Jvm.Cond.fieldLink "java/lang/Throwable" (17 : Nat) "java/lang/Throwable" "stackTrace" "[Ljava/lang/StackTraceElement;") ∈ lw_all := lw_g (lw_at lw_m1 113 rfl) rfl
theorem q204 : (Jvm.Cond.fieldLink "java/lang/Throwable" (24 : Nat) "java/lang/Throwable" "suppressedExceptions" "Ljava/util/List;") ∈ lw_all := lw_g (lw_at lw_m1 114 rfl) rfl
theorem q207 : (Jvm.Cond.soleField "java/lang/Throwable" "backtrace") ∈ lw_all := lw_g (lw_at lw_m1 117 rfl) rfl
theorem q208 : (Jvm.Cond.soleField "java/lang/Throwable" "detailMessage") ∈ lw_all := lw_g (lw_at lw_m1 118 rfl) rfl
theorem q209 : (Jvm.Cond.soleField "java/lang/Throwable" "cause") ∈ lw_all := lw_g (lw_at lw_m1 119 rfl) rfl
theorem q210 : (Jvm.Cond.soleField "java/lang/Throwable" "stackTrace") ∈ lw_all := lw_g (lw_at lw_m1 120 rfl) rfl
theorem q212 : (Jvm.Cond.soleField "java/lang/Throwable" "depth") ∈ lw_all := lw_g (lw_at lw_m1 122 rfl) rfl
theorem q213 : (Jvm.Cond.soleField "java/lang/Throwable" "suppressedExceptions") ∈ lw_all := lw_g (lw_at lw_m1 123 rfl) rfl
theorem q2481 : (Jvm.Cond.sameMethod "java/lang/Throwable" "java/lang/Throwable" "fillInStackTrace" "(I)Ljava/lang/Throwable;") ∈ lw_all := lw_g (lw_at lw_m10 231 rfl) rfl
theorem q2551 : (Jvm.Cond.castable "java/lang/Throwable" "java/lang/Object") ∈ lw_tbl := lw_at lw_m11 61 rfl
theorem in_J0 : ∀ w ∈ wsJ00, w ∈ lw_all := lw_in wsJ00 [158, 160, 162, 164, 166] (by decide +kernel) (by decide +kernel)
/-! java/lang/Exception -/
set_option maxRecDepth 100000
def RJ1 : String := "java/lang/Exception"
abbrev cJ1_init : ByteArray := prog_41_method_5_code
def yJ1_init : MethodName := ⟨RJ1, "<init>", "(Ljava/lang/String;Ljava/lang/Throwable;ZZ)V"⟩
def dkwJ1_init_0 : List UInt8 := [42, 43, 44, 29, 21, 4, 183, 0, 16, 177]
abbrev dktJ1_init_0 : List UInt8 := dkwJ1_init_0 ++ []
theorem dksJ1_init_0 : cJ1_init.data.toList.drop 0 = dktJ1_init_0 := by decide +kernel
theorem dJ1_init_0 : decode cJ1_init 0 = .ok (.aload_n 0, 1) := dk_42 (dk_at dksJ1_init_0 0 rfl rfl)
theorem dJ1_init_1 : decode cJ1_init 1 = .ok (.aload_n 1, 1) := dk_43 (dk_at dksJ1_init_0 1 rfl rfl)
theorem dJ1_init_2 : decode cJ1_init 2 = .ok (.aload_n 2, 1) := dk_44 (dk_at dksJ1_init_0 2 rfl rfl)
theorem dJ1_init_3 : decode cJ1_init 3 = .ok (.iload_n 3, 1) := dk_29 (dk_at dksJ1_init_0 3 rfl rfl)
theorem dJ1_init_4 : decode cJ1_init 4 = .ok (.iload 4, 2) := dk_21 4 (dk_at dksJ1_init_0 4 rfl rfl)
theorem dJ1_init_6 : decode cJ1_init 6 = .ok (.invokespecial 16, 3) := dk_183 0 16 (dk_at dksJ1_init_0 6 rfl rfl)
theorem dJ1_init_9 : decode cJ1_init 9 = .ok (.return_, 1) := dk_177 (dk_at dksJ1_init_0 9 rfl rfl)
theorem q93 : (Jvm.Cond.initialized "java/lang/Exception") ∈ lw_all := lw_g (lw_at lw_m1 3 rfl) rfl
theorem q151 : (Jvm.Cond.declares ({ cls := "java/lang/Exception", name := "<init>", desc := "()V" } : Jvm.MethodName)) ∈ lw_tbl := lw_at lw_m1 61 rfl
theorem q152 : (Jvm.Cond.declares ({ cls := "java/lang/Exception", name := "<init>", desc := "(Ljava/lang/String;)V" } : Jvm.MethodName)) ∈ lw_tbl := lw_at lw_m1 62 rfl
theorem q193 : (Jvm.Cond.instanceMethod ({ cls := "java/lang/Exception", name := "<init>", desc := "(Ljava/lang/String;Ljava/lang/Throwable;ZZ)V" } : Jvm.MethodName)) ∈ lw_all := lw_g (lw_at lw_m1 103 rfl) rfl
theorem q194 : (Jvm.Cond.code ({ cls := "java/lang/Exception", name := "<init>", desc := "(Ljava/lang/String;Ljava/lang/Throwable;ZZ)V" } : Jvm.MethodName) prog_41_method_5_code (5 : Nat) (Option.none : Option Jvm.ClassFile.FieldType)) ∈ lw_all := lw_g (lw_at lw_m1 104 rfl) rfl
theorem q195 : (Jvm.Cond.methodLink "java/lang/Exception" (16 : Nat) ({ cls := "java/lang/Throwable", name := "<init>", desc := "(Ljava/lang/String;Ljava/lang/Throwable;ZZ)V" } : Jvm.MethodName)) ∈ lw_all := lw_g (lw_at lw_m1 105 rfl) rfl
/-! java/lang/RuntimeException -/
set_option maxRecDepth 100000
def RJ2 : String := "java/lang/RuntimeException"
abbrev cJ2_init : ByteArray := prog_45_method_5_code
def yJ2_init : MethodName := ⟨RJ2, "<init>", "(Ljava/lang/String;Ljava/lang/Throwable;ZZ)V"⟩
def dkwJ2_init_0 : List UInt8 := [42, 43, 44, 29, 21, 4, 183, 0, 16, 177]
abbrev dktJ2_init_0 : List UInt8 := dkwJ2_init_0 ++ []
theorem dksJ2_init_0 : cJ2_init.data.toList.drop 0 = dktJ2_init_0 := by decide +kernel
theorem dJ2_init_0 : decode cJ2_init 0 = .ok (.aload_n 0, 1) := dk_42 (dk_at dksJ2_init_0 0 rfl rfl)
theorem dJ2_init_1 : decode cJ2_init 1 = .ok (.aload_n 1, 1) := dk_43 (dk_at dksJ2_init_0 1 rfl rfl)
theorem dJ2_init_2 : decode cJ2_init 2 = .ok (.aload_n 2, 1) := dk_44 (dk_at dksJ2_init_0 2 rfl rfl)
theorem dJ2_init_3 : decode cJ2_init 3 = .ok (.iload_n 3, 1) := dk_29 (dk_at dksJ2_init_0 3 rfl rfl)
theorem dJ2_init_4 : decode cJ2_init 4 = .ok (.iload 4, 2) := dk_21 4 (dk_at dksJ2_init_0 4 rfl rfl)
theorem dJ2_init_6 : decode cJ2_init 6 = .ok (.invokespecial 16, 3) := dk_183 0 16 (dk_at dksJ2_init_0 6 rfl rfl)
theorem dJ2_init_9 : decode cJ2_init 9 = .ok (.return_, 1) := dk_177 (dk_at dksJ2_init_0 9 rfl rfl)
theorem q94 : (Jvm.Cond.initialized "java/lang/RuntimeException") ∈ lw_all := lw_g (lw_at lw_m1 4 rfl) rfl
theorem q149 : (Jvm.Cond.declares ({ cls := "java/lang/RuntimeException", name := "<init>", desc := "()V" } : Jvm.MethodName)) ∈ lw_tbl := lw_at lw_m1 59 rfl
theorem q150 : (Jvm.Cond.declares ({ cls := "java/lang/RuntimeException", name := "<init>", desc := "(Ljava/lang/String;)V" } : Jvm.MethodName)) ∈ lw_tbl := lw_at lw_m1 60 rfl
theorem q190 : (Jvm.Cond.instanceMethod ({ cls := "java/lang/RuntimeException", name := "<init>", desc := "(Ljava/lang/String;Ljava/lang/Throwable;ZZ)V" } : Jvm.MethodName)) ∈ lw_all := lw_g (lw_at lw_m1 100 rfl) rfl
theorem q191 : (Jvm.Cond.code ({ cls := "java/lang/RuntimeException", name := "<init>", desc := "(Ljava/lang/String;Ljava/lang/Throwable;ZZ)V" } : Jvm.MethodName) prog_45_method_5_code (5 : Nat) (Option.none : Option Jvm.ClassFile.FieldType)) ∈ lw_all := lw_g (lw_at lw_m1 101 rfl) rfl
theorem q192 : (Jvm.Cond.methodLink "java/lang/RuntimeException" (16 : Nat) ({ cls := "java/lang/Exception", name := "<init>", desc := "(Ljava/lang/String;Ljava/lang/Throwable;ZZ)V" } : Jvm.MethodName)) ∈ lw_all := lw_g (lw_at lw_m1 102 rfl) rfl
/-! java/util/AbstractCollection -/
set_option maxRecDepth 100000
def RJ3 : String := "java/util/AbstractCollection"
abbrev cJ3_init : ByteArray := prog_54_method_1_code
def yJ3_init : MethodName := ⟨RJ3, "<init>", "()V"⟩
theorem dJ3_init_0 : decode cJ3_init 0 = .ok (.aload_n 0, 1) := by decide +kernel
theorem dJ3_init_1 : decode cJ3_init 1 = .ok (.invokespecial 1, 3) := by decide +kernel
theorem dJ3_init_4 : decode cJ3_init 4 = .ok (.return_, 1) := by decide +kernel
theorem q97 : (Jvm.Cond.initialized "java/util/AbstractCollection") ∈ lw_all := lw_g (lw_at lw_m1 7 rfl) rfl
theorem q230 : (Jvm.Cond.instanceMethod ({ cls := "java/util/AbstractCollection", name := "<init>", desc := "()V" } : Jvm.MethodName)) ∈ lw_all := lw_g (lw_at lw_m1 140 rfl) rfl
theorem q231 : (Jvm.Cond.code ({ cls := "java/util/AbstractCollection", name := "<init>", desc := "()V" } : Jvm.MethodName) prog_54_method_1_code (1 : Nat) (Option.none : Option Jvm.ClassFile.FieldType)) ∈ lw_all := lw_g (lw_at lw_m1 141 rfl) rfl
theorem q232 : (Jvm.Cond.methodLink "java/util/AbstractCollection" (1 : Nat) ({ cls := "java/lang/Object", name := "<init>", desc := "()V" } : Jvm.MethodName)) ∈ lw_all := lw_g (lw_at lw_m1 142 rfl) rfl
/-! java/util/AbstractList -/
set_option maxRecDepth 100000
def RJ4 : String := "java/util/AbstractList"
abbrev cJ4_init : ByteArray := prog_55_method_1_code
def yJ4_init : MethodName := ⟨RJ4, "<init>", "()V"⟩
def dkwJ4_init_0 : List UInt8 := [42, 183, 0, 1, 42, 3, 181, 0, 7, 177]
abbrev dktJ4_init_0 : List UInt8 := dkwJ4_init_0 ++ []
theorem dksJ4_init_0 : cJ4_init.data.toList.drop 0 = dktJ4_init_0 := by decide +kernel
theorem dJ4_init_0 : decode cJ4_init 0 = .ok (.aload_n 0, 1) := dk_42 (dk_at dksJ4_init_0 0 rfl rfl)
theorem dJ4_init_1 : decode cJ4_init 1 = .ok (.invokespecial 1, 3) := dk_183 0 1 (dk_at dksJ4_init_0 1 rfl rfl)
theorem dJ4_init_4 : decode cJ4_init 4 = .ok (.aload_n 0, 1) := dk_42 (dk_at dksJ4_init_0 4 rfl rfl)
theorem dJ4_init_5 : decode cJ4_init 5 = .ok (.iconst 0, 1) := dk_3 (dk_at dksJ4_init_0 5 rfl rfl)
theorem dJ4_init_6 : decode cJ4_init 6 = .ok (.putfield 7, 3) := dk_181 0 7 (dk_at dksJ4_init_0 6 rfl rfl)
theorem dJ4_init_9 : decode cJ4_init 9 = .ok (.return_, 1) := dk_177 (dk_at dksJ4_init_0 9 rfl rfl)
theorem q98 : (Jvm.Cond.initialized "java/util/AbstractList") ∈ lw_all := lw_g (lw_at lw_m1 8 rfl) rfl
theorem q227 : (Jvm.Cond.instanceMethod ({ cls := "java/util/AbstractList", name := "<init>", desc := "()V" } : Jvm.MethodName)) ∈ lw_all := lw_g (lw_at lw_m1 137 rfl) rfl
theorem q228 : (Jvm.Cond.code ({ cls := "java/util/AbstractList", name := "<init>", desc := "()V" } : Jvm.MethodName) prog_55_method_1_code (1 : Nat) (Option.none : Option Jvm.ClassFile.FieldType)) ∈ lw_all := lw_g (lw_at lw_m1 138 rfl) rfl
theorem q229 : (Jvm.Cond.methodLink "java/util/AbstractList" (1 : Nat) ({ cls := "java/util/AbstractCollection", name := "<init>", desc := "()V" } : Jvm.MethodName)) ∈ lw_all := lw_g (lw_at lw_m1 139 rfl) rfl
theorem q237 : (Jvm.Cond.fieldLink "java/util/AbstractList" (7 : Nat) "java/util/AbstractList" "modCount" "I") ∈ lw_all := lw_g (lw_at lw_m1 147 rfl) rfl
theorem q245 : (Jvm.Cond.soleField "java/util/AbstractList" "modCount") ∈ lw_all := lw_g (lw_at lw_m1 155 rfl) rfl
/-! java/util/ArrayList -/
set_option maxRecDepth 100000
def RJ5 : String := "java/util/ArrayList"
def TJ5 : u_T := fun k => match k with
  | 0 => ("java/util/AbstractList", "modCount", "I", false)
  | 1 => ("java/util/ArrayList", "elementData", "[Ljava/lang/Object;", false)
  | _ => ("java/util/ArrayList", "size", "I", false)
def tyJ5 : Nat → FieldType := fun k => match k with
  | 0 => .int
  | 1 => .array (.object "java/lang/Object")
  | _ => .int
abbrev wsJ50 : List Cond := u_ws RJ5 TJ5 3
theorem nmJ5 : ∀ a, a < 3 → ∀ b, b < 3 → a ≠ b → (TJ5 a).2.1 ≠ (TJ5 b).2.1 := by decide +kernel
theorem tyJ5_ok : ∀ k, k < 3 → parseFieldDescriptor (TJ5 k).2.2.1 = some (tyJ5 k) := by decide +kernel
abbrev cJ5_init : ByteArray := prog_56_method_2_code
def yJ5_init : MethodName := ⟨RJ5, "<init>", "()V"⟩
def dkwJ5_init_0 : List UInt8 := [42, 183, 0, 1, 42, 178, 0, 39, 181, 0, 9, 177]
abbrev dktJ5_init_0 : List UInt8 := dkwJ5_init_0 ++ []
theorem dksJ5_init_0 : cJ5_init.data.toList.drop 0 = dktJ5_init_0 := by decide +kernel
theorem dJ5_init_0 : decode cJ5_init 0 = .ok (.aload_n 0, 1) := dk_42 (dk_at dksJ5_init_0 0 rfl rfl)
theorem dJ5_init_1 : decode cJ5_init 1 = .ok (.invokespecial 1, 3) := dk_183 0 1 (dk_at dksJ5_init_0 1 rfl rfl)
theorem dJ5_init_4 : decode cJ5_init 4 = .ok (.aload_n 0, 1) := dk_42 (dk_at dksJ5_init_0 4 rfl rfl)
theorem dJ5_init_5 : decode cJ5_init 5 = .ok (.getstatic 39, 3) := dk_178 0 39 (dk_at dksJ5_init_0 5 rfl rfl)
theorem dJ5_init_8 : decode cJ5_init 8 = .ok (.putfield 9, 3) := dk_181 0 9 (dk_at dksJ5_init_0 8 rfl rfl)
theorem dJ5_init_11 : decode cJ5_init 11 = .ok (.return_, 1) := dk_177 (dk_at dksJ5_init_0 11 rfl rfl)
abbrev cJ5_size : ByteArray := prog_56_method_8_code
def yJ5_size : MethodName := ⟨RJ5, "size", "()I"⟩
theorem dJ5_size_0 : decode cJ5_size 0 = .ok (.aload_n 0, 1) := by decide +kernel
theorem dJ5_size_1 : decode cJ5_size 1 = .ok (.getfield 48, 3) := by decide +kernel
theorem dJ5_size_4 : decode cJ5_size 4 = .ok (.ireturn, 1) := by decide +kernel
abbrev cJ5_add : ByteArray := prog_56_method_25_code
def yJ5_add : MethodName := ⟨RJ5, "add", "(Ljava/lang/Object;)Z"⟩
def dkwJ5_add_1 : List UInt8 := [172]
abbrev dktJ5_add_1 : List UInt8 := dkwJ5_add_1 ++ []
def dkwJ5_add_0 : List UInt8 := [42, 89, 180, 0, 63, 4, 96, 181, 0, 63, 42, 43, 42, 180, 0, 9, 42, 180, 0, 48, 182, 0, 131, 4]
abbrev dktJ5_add_0 : List UInt8 := dkwJ5_add_0 ++ dktJ5_add_1
theorem dksJ5_add_0 : cJ5_add.data.toList.drop 0 = dktJ5_add_0 := by decide +kernel
theorem dksJ5_add_1 : cJ5_add.data.toList.drop 24 = dktJ5_add_1 := dk_seg dksJ5_add_0 24 rfl rfl
theorem dJ5_add_0 : decode cJ5_add 0 = .ok (.aload_n 0, 1) := dk_42 (dk_at dksJ5_add_0 0 rfl rfl)
theorem dJ5_add_1 : decode cJ5_add 1 = .ok (.dup, 1) := dk_89 (dk_at dksJ5_add_0 1 rfl rfl)
theorem dJ5_add_2 : decode cJ5_add 2 = .ok (.getfield 63, 3) := dk_180 0 63 (dk_at dksJ5_add_0 2 rfl rfl)
theorem dJ5_add_5 : decode cJ5_add 5 = .ok (.iconst 1, 1) := dk_4 (dk_at dksJ5_add_0 5 rfl rfl)
theorem dJ5_add_6 : decode cJ5_add 6 = .ok (.iadd, 1) := dk_96 (dk_at dksJ5_add_0 6 rfl rfl)
theorem dJ5_add_7 : decode cJ5_add 7 = .ok (.putfield 63, 3) := dk_181 0 63 (dk_at dksJ5_add_0 7 rfl rfl)
theorem dJ5_add_10 : decode cJ5_add 10 = .ok (.aload_n 0, 1) := dk_42 (dk_at dksJ5_add_0 10 rfl rfl)
theorem dJ5_add_11 : decode cJ5_add 11 = .ok (.aload_n 1, 1) := dk_43 (dk_at dksJ5_add_0 11 rfl rfl)
theorem dJ5_add_12 : decode cJ5_add 12 = .ok (.aload_n 0, 1) := dk_42 (dk_at dksJ5_add_0 12 rfl rfl)
theorem dJ5_add_13 : decode cJ5_add 13 = .ok (.getfield 9, 3) := dk_180 0 9 (dk_at dksJ5_add_0 13 rfl rfl)
theorem dJ5_add_16 : decode cJ5_add 16 = .ok (.aload_n 0, 1) := dk_42 (dk_at dksJ5_add_0 16 rfl rfl)
theorem dJ5_add_17 : decode cJ5_add 17 = .ok (.getfield 48, 3) := dk_180 0 48 (dk_at dksJ5_add_0 17 rfl rfl)
theorem dJ5_add_20 : decode cJ5_add 20 = .ok (.invokevirtual 131, 3) := dk_182 0 131 (dk_at dksJ5_add_0 20 rfl rfl)
theorem dJ5_add_23 : decode cJ5_add 23 = .ok (.iconst 1, 1) := dk_4 (dk_at dksJ5_add_0 23 rfl rfl)
theorem dJ5_add_24 : decode cJ5_add 24 = .ok (.ireturn, 1) := dk_172 (dk_at dksJ5_add_1 0 rfl rfl)
abbrev cJ5_add_2 : ByteArray := prog_56_method_24_code
def yJ5_add_2 : MethodName := ⟨RJ5, "add", "(Ljava/lang/Object;[Ljava/lang/Object;I)V"⟩
def dkwJ5_add_2_0 : List UInt8 := [29, 44, 190, 160, 0, 8, 42, 182, 0, 129, 77, 44, 29, 43, 83, 42, 29, 4, 96, 181, 0, 48, 177]
abbrev dktJ5_add_2_0 : List UInt8 := dkwJ5_add_2_0 ++ []
theorem dksJ5_add_2_0 : cJ5_add_2.data.toList.drop 0 = dktJ5_add_2_0 := by decide +kernel
theorem dJ5_add_2_0 : decode cJ5_add_2 0 = .ok (.iload_n 3, 1) := dk_29 (dk_at dksJ5_add_2_0 0 rfl rfl)
theorem dJ5_add_2_1 : decode cJ5_add_2 1 = .ok (.aload_n 2, 1) := dk_44 (dk_at dksJ5_add_2_0 1 rfl rfl)
theorem dJ5_add_2_2 : decode cJ5_add_2 2 = .ok (.arraylength, 1) := dk_190 (dk_at dksJ5_add_2_0 2 rfl rfl)
theorem dJ5_add_2_3 : decode cJ5_add_2 3 = .ok (.if_icmp .ne 8, 3) := dk_160 0 8 (dk_at dksJ5_add_2_0 3 rfl rfl)
theorem dJ5_add_2_6 : decode cJ5_add_2 6 = .ok (.aload_n 0, 1) := dk_42 (dk_at dksJ5_add_2_0 6 rfl rfl)
theorem dJ5_add_2_7 : decode cJ5_add_2 7 = .ok (.invokevirtual 129, 3) := dk_182 0 129 (dk_at dksJ5_add_2_0 7 rfl rfl)
theorem dJ5_add_2_10 : decode cJ5_add_2 10 = .ok (.astore_n 2, 1) := dk_77 (dk_at dksJ5_add_2_0 10 rfl rfl)
theorem dJ5_add_2_11 : decode cJ5_add_2 11 = .ok (.aload_n 2, 1) := dk_44 (dk_at dksJ5_add_2_0 11 rfl rfl)
theorem dJ5_add_2_12 : decode cJ5_add_2 12 = .ok (.iload_n 3, 1) := dk_29 (dk_at dksJ5_add_2_0 12 rfl rfl)
theorem dJ5_add_2_13 : decode cJ5_add_2 13 = .ok (.aload_n 1, 1) := dk_43 (dk_at dksJ5_add_2_0 13 rfl rfl)
theorem dJ5_add_2_14 : decode cJ5_add_2 14 = .ok (.aastore, 1) := dk_83 (dk_at dksJ5_add_2_0 14 rfl rfl)
theorem dJ5_add_2_15 : decode cJ5_add_2 15 = .ok (.aload_n 0, 1) := dk_42 (dk_at dksJ5_add_2_0 15 rfl rfl)
theorem dJ5_add_2_16 : decode cJ5_add_2 16 = .ok (.iload_n 3, 1) := dk_29 (dk_at dksJ5_add_2_0 16 rfl rfl)
theorem dJ5_add_2_17 : decode cJ5_add_2 17 = .ok (.iconst 1, 1) := dk_4 (dk_at dksJ5_add_2_0 17 rfl rfl)
theorem dJ5_add_2_18 : decode cJ5_add_2 18 = .ok (.iadd, 1) := dk_96 (dk_at dksJ5_add_2_0 18 rfl rfl)
theorem dJ5_add_2_19 : decode cJ5_add_2 19 = .ok (.putfield 48, 3) := dk_181 0 48 (dk_at dksJ5_add_2_0 19 rfl rfl)
theorem dJ5_add_2_22 : decode cJ5_add_2 22 = .ok (.return_, 1) := dk_177 (dk_at dksJ5_add_2_0 22 rfl rfl)
abbrev cJ5_grow : ByteArray := prog_56_method_7_code
def yJ5_grow : MethodName := ⟨RJ5, "grow", "()[Ljava/lang/Object;"⟩
def dkwJ5_grow_0 : List UInt8 := [42, 42, 180, 0, 48, 4, 96, 182, 0, 69, 176]
abbrev dktJ5_grow_0 : List UInt8 := dkwJ5_grow_0 ++ []
theorem dksJ5_grow_0 : cJ5_grow.data.toList.drop 0 = dktJ5_grow_0 := by decide +kernel
theorem dJ5_grow_0 : decode cJ5_grow 0 = .ok (.aload_n 0, 1) := dk_42 (dk_at dksJ5_grow_0 0 rfl rfl)
theorem dJ5_grow_1 : decode cJ5_grow 1 = .ok (.aload_n 0, 1) := dk_42 (dk_at dksJ5_grow_0 1 rfl rfl)
theorem dJ5_grow_2 : decode cJ5_grow 2 = .ok (.getfield 48, 3) := dk_180 0 48 (dk_at dksJ5_grow_0 2 rfl rfl)
theorem dJ5_grow_5 : decode cJ5_grow 5 = .ok (.iconst 1, 1) := dk_4 (dk_at dksJ5_grow_0 5 rfl rfl)
theorem dJ5_grow_6 : decode cJ5_grow 6 = .ok (.iadd, 1) := dk_96 (dk_at dksJ5_grow_0 6 rfl rfl)
theorem dJ5_grow_7 : decode cJ5_grow 7 = .ok (.invokevirtual 69, 3) := dk_182 0 69 (dk_at dksJ5_grow_0 7 rfl rfl)
theorem dJ5_grow_10 : decode cJ5_grow 10 = .ok (.areturn, 1) := dk_176 (dk_at dksJ5_grow_0 10 rfl rfl)
abbrev cJ5_grow_2 : ByteArray := prog_56_method_6_code
def yJ5_grow_2 : MethodName := ⟨RJ5, "grow", "(I)[Ljava/lang/Object;"⟩
def dkwJ5_grow_2_2 : List UInt8 := [27, 184, 0, 79, 189, 0, 7, 90, 181, 0, 9, 176]
abbrev dktJ5_grow_2_2 : List UInt8 := dkwJ5_grow_2_2 ++ []
def dkwJ5_grow_2_1 : List UInt8 := [28, 4, 122, 184, 0, 73, 62, 42, 42, 180, 0, 9, 29, 184, 0, 66, 90, 181, 0, 9, 176, 42, 16, 10]
abbrev dktJ5_grow_2_1 : List UInt8 := dkwJ5_grow_2_1 ++ dktJ5_grow_2_2
def dkwJ5_grow_2_0 : List UInt8 := [42, 180, 0, 9, 190, 61, 28, 157, 0, 13, 42, 180, 0, 9, 178, 0, 39, 165, 0, 28, 28, 27, 28, 100]
abbrev dktJ5_grow_2_0 : List UInt8 := dkwJ5_grow_2_0 ++ dktJ5_grow_2_1
theorem dksJ5_grow_2_0 : cJ5_grow_2.data.toList.drop 0 = dktJ5_grow_2_0 := by decide +kernel
theorem dksJ5_grow_2_1 : cJ5_grow_2.data.toList.drop 24 = dktJ5_grow_2_1 := dk_seg dksJ5_grow_2_0 24 rfl rfl
theorem dksJ5_grow_2_2 : cJ5_grow_2.data.toList.drop 48 = dktJ5_grow_2_2 := dk_seg dksJ5_grow_2_1 24 rfl rfl
theorem dJ5_grow_2_0 : decode cJ5_grow_2 0 = .ok (.aload_n 0, 1) := dk_42 (dk_at dksJ5_grow_2_0 0 rfl rfl)
theorem dJ5_grow_2_1 : decode cJ5_grow_2 1 = .ok (.getfield 9, 3) := dk_180 0 9 (dk_at dksJ5_grow_2_0 1 rfl rfl)
theorem dJ5_grow_2_4 : decode cJ5_grow_2 4 = .ok (.arraylength, 1) := dk_190 (dk_at dksJ5_grow_2_0 4 rfl rfl)
theorem dJ5_grow_2_5 : decode cJ5_grow_2 5 = .ok (.istore_n 2, 1) := dk_61 (dk_at dksJ5_grow_2_0 5 rfl rfl)
theorem dJ5_grow_2_6 : decode cJ5_grow_2 6 = .ok (.iload_n 2, 1) := dk_28 (dk_at dksJ5_grow_2_0 6 rfl rfl)
theorem dJ5_grow_2_7 : decode cJ5_grow_2 7 = .ok (.ifCond .gt 13, 3) := dk_157 0 13 (dk_at dksJ5_grow_2_0 7 rfl rfl)
theorem dJ5_grow_2_10 : decode cJ5_grow_2 10 = .ok (.aload_n 0, 1) := dk_42 (dk_at dksJ5_grow_2_0 10 rfl rfl)
theorem dJ5_grow_2_11 : decode cJ5_grow_2 11 = .ok (.getfield 9, 3) := dk_180 0 9 (dk_at dksJ5_grow_2_0 11 rfl rfl)
theorem dJ5_grow_2_14 : decode cJ5_grow_2 14 = .ok (.getstatic 39, 3) := dk_178 0 39 (dk_at dksJ5_grow_2_0 14 rfl rfl)
theorem dJ5_grow_2_17 : decode cJ5_grow_2 17 = .ok (.if_acmp .eq 28, 3) := dk_165 0 28 (dk_at dksJ5_grow_2_0 17 rfl rfl)
theorem dJ5_grow_2_20 : decode cJ5_grow_2 20 = .ok (.iload_n 2, 1) := dk_28 (dk_at dksJ5_grow_2_0 20 rfl rfl)
theorem dJ5_grow_2_21 : decode cJ5_grow_2 21 = .ok (.iload_n 1, 1) := dk_27 (dk_at dksJ5_grow_2_0 21 rfl rfl)
theorem dJ5_grow_2_22 : decode cJ5_grow_2 22 = .ok (.iload_n 2, 1) := dk_28 (dk_at dksJ5_grow_2_0 22 rfl rfl)
theorem dJ5_grow_2_23 : decode cJ5_grow_2 23 = .ok (.isub, 1) := dk_100 (dk_at dksJ5_grow_2_0 23 rfl rfl)
theorem dJ5_grow_2_24 : decode cJ5_grow_2 24 = .ok (.iload_n 2, 1) := dk_28 (dk_at dksJ5_grow_2_1 0 rfl rfl)
theorem dJ5_grow_2_25 : decode cJ5_grow_2 25 = .ok (.iconst 1, 1) := dk_4 (dk_at dksJ5_grow_2_1 1 rfl rfl)
theorem dJ5_grow_2_26 : decode cJ5_grow_2 26 = .ok (.ishr, 1) := dk_122 (dk_at dksJ5_grow_2_1 2 rfl rfl)
theorem dJ5_grow_2_27 : decode cJ5_grow_2 27 = .ok (.invokestatic 73, 3) := dk_184 0 73 (dk_at dksJ5_grow_2_1 3 rfl rfl)
theorem dJ5_grow_2_30 : decode cJ5_grow_2 30 = .ok (.istore_n 3, 1) := dk_62 (dk_at dksJ5_grow_2_1 6 rfl rfl)
theorem dJ5_grow_2_31 : decode cJ5_grow_2 31 = .ok (.aload_n 0, 1) := dk_42 (dk_at dksJ5_grow_2_1 7 rfl rfl)
theorem dJ5_grow_2_32 : decode cJ5_grow_2 32 = .ok (.aload_n 0, 1) := dk_42 (dk_at dksJ5_grow_2_1 8 rfl rfl)
theorem dJ5_grow_2_33 : decode cJ5_grow_2 33 = .ok (.getfield 9, 3) := dk_180 0 9 (dk_at dksJ5_grow_2_1 9 rfl rfl)
theorem dJ5_grow_2_36 : decode cJ5_grow_2 36 = .ok (.iload_n 3, 1) := dk_29 (dk_at dksJ5_grow_2_1 12 rfl rfl)
theorem dJ5_grow_2_37 : decode cJ5_grow_2 37 = .ok (.invokestatic 66, 3) := dk_184 0 66 (dk_at dksJ5_grow_2_1 13 rfl rfl)
theorem dJ5_grow_2_40 : decode cJ5_grow_2 40 = .ok (.dup_x1, 1) := dk_90 (dk_at dksJ5_grow_2_1 16 rfl rfl)
theorem dJ5_grow_2_41 : decode cJ5_grow_2 41 = .ok (.putfield 9, 3) := dk_181 0 9 (dk_at dksJ5_grow_2_1 17 rfl rfl)
theorem dJ5_grow_2_44 : decode cJ5_grow_2 44 = .ok (.areturn, 1) := dk_176 (dk_at dksJ5_grow_2_1 20 rfl rfl)
theorem dJ5_grow_2_45 : decode cJ5_grow_2 45 = .ok (.aload_n 0, 1) := dk_42 (dk_at dksJ5_grow_2_1 21 rfl rfl)
theorem dJ5_grow_2_46 : decode cJ5_grow_2 46 = .ok (.bipush 10, 2) := dk_16 10 (dk_at dksJ5_grow_2_1 22 rfl rfl)
theorem dJ5_grow_2_48 : decode cJ5_grow_2 48 = .ok (.iload_n 1, 1) := dk_27 (dk_at dksJ5_grow_2_2 0 rfl rfl)
theorem dJ5_grow_2_49 : decode cJ5_grow_2 49 = .ok (.invokestatic 79, 3) := dk_184 0 79 (dk_at dksJ5_grow_2_2 1 rfl rfl)
theorem dJ5_grow_2_52 : decode cJ5_grow_2 52 = .ok (.anewarray 7, 3) := dk_189 0 7 (dk_at dksJ5_grow_2_2 4 rfl rfl)
theorem dJ5_grow_2_55 : decode cJ5_grow_2 55 = .ok (.dup_x1, 1) := dk_90 (dk_at dksJ5_grow_2_2 7 rfl rfl)
theorem dJ5_grow_2_56 : decode cJ5_grow_2 56 = .ok (.putfield 9, 3) := dk_181 0 9 (dk_at dksJ5_grow_2_2 8 rfl rfl)
theorem dJ5_grow_2_59 : decode cJ5_grow_2 59 = .ok (.areturn, 1) := dk_176 (dk_at dksJ5_grow_2_2 11 rfl rfl)
abbrev cJ5_get : ByteArray := prog_56_method_20_code
def yJ5_get : MethodName := ⟨RJ5, "get", "(I)Ljava/lang/Object;"⟩
def dkwJ5_get_0 : List UInt8 := [27, 42, 180, 0, 48, 184, 0, 118, 87, 42, 27, 182, 0, 123, 176]
abbrev dktJ5_get_0 : List UInt8 := dkwJ5_get_0 ++ []
theorem dksJ5_get_0 : cJ5_get.data.toList.drop 0 = dktJ5_get_0 := by decide +kernel
theorem dJ5_get_0 : decode cJ5_get 0 = .ok (.iload_n 1, 1) := dk_27 (dk_at dksJ5_get_0 0 rfl rfl)
theorem dJ5_get_1 : decode cJ5_get 1 = .ok (.aload_n 0, 1) := dk_42 (dk_at dksJ5_get_0 1 rfl rfl)
theorem dJ5_get_2 : decode cJ5_get 2 = .ok (.getfield 48, 3) := dk_180 0 48 (dk_at dksJ5_get_0 2 rfl rfl)
theorem dJ5_get_5 : decode cJ5_get 5 = .ok (.invokestatic 118, 3) := dk_184 0 118 (dk_at dksJ5_get_0 5 rfl rfl)
theorem dJ5_get_8 : decode cJ5_get 8 = .ok (.pop, 1) := dk_87 (dk_at dksJ5_get_0 8 rfl rfl)
theorem dJ5_get_9 : decode cJ5_get 9 = .ok (.aload_n 0, 1) := dk_42 (dk_at dksJ5_get_0 9 rfl rfl)
theorem dJ5_get_10 : decode cJ5_get 10 = .ok (.iload_n 1, 1) := dk_27 (dk_at dksJ5_get_0 10 rfl rfl)
theorem dJ5_get_11 : decode cJ5_get 11 = .ok (.invokevirtual 123, 3) := dk_182 0 123 (dk_at dksJ5_get_0 11 rfl rfl)
theorem dJ5_get_14 : decode cJ5_get 14 = .ok (.areturn, 1) := dk_176 (dk_at dksJ5_get_0 14 rfl rfl)
abbrev cJ5_elementData : ByteArray := prog_56_method_18_code
def yJ5_elementData : MethodName := ⟨RJ5, "elementData", "(I)Ljava/lang/Object;"⟩
def dkwJ5_elementData_0 : List UInt8 := [42, 180, 0, 9, 27, 50, 176]
abbrev dktJ5_elementData_0 : List UInt8 := dkwJ5_elementData_0 ++ []
theorem dksJ5_elementData_0 : cJ5_elementData.data.toList.drop 0 = dktJ5_elementData_0 := by decide +kernel
theorem dJ5_elementData_0 : decode cJ5_elementData 0 = .ok (.aload_n 0, 1) := dk_42 (dk_at dksJ5_elementData_0 0 rfl rfl)
theorem dJ5_elementData_1 : decode cJ5_elementData 1 = .ok (.getfield 9, 3) := dk_180 0 9 (dk_at dksJ5_elementData_0 1 rfl rfl)
theorem dJ5_elementData_4 : decode cJ5_elementData 4 = .ok (.iload_n 1, 1) := dk_27 (dk_at dksJ5_elementData_0 4 rfl rfl)
theorem dJ5_elementData_5 : decode cJ5_elementData 5 = .ok (.aaload, 1) := dk_50 (dk_at dksJ5_elementData_0 5 rfl rfl)
theorem dJ5_elementData_6 : decode cJ5_elementData 6 = .ok (.areturn, 1) := dk_176 (dk_at dksJ5_elementData_0 6 rfl rfl)
theorem q99 : (Jvm.Cond.initialized "java/util/ArrayList") ∈ lw_all := lw_g (lw_at lw_m1 9 rfl) rfl
theorem q222 : (Jvm.Cond.instantiable "java/util/ArrayList" (3 : Nat)) ∈ lw_all := lw_g (lw_at lw_m1 132 rfl) rfl
theorem q224 : (Jvm.Cond.instanceMethod ({ cls := "java/util/ArrayList", name := "<init>", desc := "()V" } : Jvm.MethodName)) ∈ lw_all := lw_g (lw_at lw_m1 134 rfl) rfl
theorem q225 : (Jvm.Cond.code ({ cls := "java/util/ArrayList", name := "<init>", desc := "()V" } : Jvm.MethodName) prog_56_method_2_code (1 : Nat) (Option.none : Option Jvm.ClassFile.FieldType)) ∈ lw_all := lw_g (lw_at lw_m1 135 rfl) rfl
theorem q226 : (Jvm.Cond.methodLink "java/util/ArrayList" (1 : Nat) ({ cls := "java/util/AbstractList", name := "<init>", desc := "()V" } : Jvm.MethodName)) ∈ lw_all := lw_g (lw_at lw_m1 136 rfl) rfl
theorem q233 : (Jvm.Cond.fieldLink "java/util/ArrayList" (39 : Nat) "java/util/ArrayList" "DEFAULTCAPACITY_EMPTY_ELEMENTDATA" "[Ljava/lang/Object;") ∈ lw_all := lw_g (lw_at lw_m1 143 rfl) rfl
theorem q234 : (Jvm.Cond.laysStatic "java/util/ArrayList" "DEFAULTCAPACITY_EMPTY_ELEMENTDATA" "[Ljava/lang/Object;") ∈ lw_tbl := lw_at lw_m1 144 rfl
theorem q235 : (Jvm.Cond.fieldLink "java/util/ArrayList" (9 : Nat) "java/util/ArrayList" "elementData" "[Ljava/lang/Object;") ∈ lw_all := lw_g (lw_at lw_m1 145 rfl) rfl
theorem q236 : (Jvm.Cond.fieldLink "java/util/ArrayList" (48 : Nat) "java/util/ArrayList" "size" "I") ∈ lw_all := lw_g (lw_at lw_m1 146 rfl) rfl
theorem q238 : (Jvm.Cond.fieldLink "java/util/ArrayList" (63 : Nat) "java/util/ArrayList" "modCount" "I") ∈ lw_all := lw_g (lw_at lw_m1 148 rfl) rfl
theorem q239 : (Jvm.Cond.sameField "java/util/ArrayList" "java/util/AbstractList" "modCount" "I") ∈ lw_all := lw_g (lw_at lw_m1 149 rfl) rfl
theorem q240 : (Jvm.Cond.lays "java/util/ArrayList" "java/util/ArrayList" "elementData" "[Ljava/lang/Object;") ∈ lw_all := lw_g (lw_at lw_m1 150 rfl) rfl
theorem q241 : (Jvm.Cond.soleField "java/util/ArrayList" "elementData") ∈ lw_all := lw_g (lw_at lw_m1 151 rfl) rfl
theorem q242 : (Jvm.Cond.lays "java/util/ArrayList" "java/util/ArrayList" "size" "I") ∈ lw_all := lw_g (lw_at lw_m1 152 rfl) rfl
theorem q243 : (Jvm.Cond.soleField "java/util/ArrayList" "size") ∈ lw_all := lw_g (lw_at lw_m1 153 rfl) rfl
theorem q244 : (Jvm.Cond.lays "java/util/ArrayList" "java/util/AbstractList" "modCount" "I") ∈ lw_all := lw_g (lw_at lw_m1 154 rfl) rfl
theorem q246 : (Jvm.Cond.superclass "java/util/ArrayList" "java/util/AbstractList") ∈ lw_all := lw_g (lw_at lw_m1 156 rfl) rfl
theorem q515 : (Jvm.Cond.instanceMethod ({ cls := "java/util/ArrayList", name := "size", desc := "()I" } : Jvm.MethodName)) ∈ lw_all := lw_g (lw_at lw_m2 185 rfl) rfl
theorem q516 : (Jvm.Cond.selects "java/util/ArrayList" ({ cls := "java/util/ArrayList", name := "size", desc := "()I" } : Jvm.MethodName) ({ cls := "java/util/ArrayList", name := "size", desc := "()I" } : Jvm.MethodName)) ∈ lw_all := lw_g (lw_at lw_m2 186 rfl) rfl
theorem q517 : (Jvm.Cond.code ({ cls := "java/util/ArrayList", name := "size", desc := "()I" } : Jvm.MethodName) prog_56_method_8_code (1 : Nat) (Option.some Jvm.ClassFile.FieldType.int)) ∈ lw_all := lw_g (lw_at lw_m2 187 rfl) rfl
theorem q1261 : (Jvm.Cond.instanceMethod ({ cls := "java/util/ArrayList", name := "add", desc := "(Ljava/lang/Object;)Z" } : Jvm.MethodName)) ∈ lw_all := lw_g (lw_at lw_m5 211 rfl) rfl
theorem q1262 : (Jvm.Cond.selects "java/util/ArrayList" ({ cls := "java/util/ArrayList", name := "add", desc := "(Ljava/lang/Object;)Z" } : Jvm.MethodName) ({ cls := "java/util/ArrayList", name := "add", desc := "(Ljava/lang/Object;)Z" } : Jvm.MethodName)) ∈ lw_all := lw_g (lw_at lw_m5 212 rfl) rfl
theorem q1263 : (Jvm.Cond.code ({ cls := "java/util/ArrayList", name := "add", desc := "(Ljava/lang/Object;)Z" } : Jvm.MethodName) prog_56_method_25_code (2 : Nat) (Option.some Jvm.ClassFile.FieldType.boolean)) ∈ lw_all := lw_g (lw_at lw_m5 213 rfl) rfl
theorem q1264 : (Jvm.Cond.methodLink "java/util/ArrayList" (131 : Nat) ({ cls := "java/util/ArrayList", name := "add", desc := "(Ljava/lang/Object;[Ljava/lang/Object;I)V" } : Jvm.MethodName)) ∈ lw_all := lw_g (lw_at lw_m5 214 rfl) rfl
theorem q1265 : (Jvm.Cond.privateMethod ({ cls := "java/util/ArrayList", name := "add", desc := "(Ljava/lang/Object;[Ljava/lang/Object;I)V" } : Jvm.MethodName)) ∈ lw_tbl := lw_at lw_m5 215 rfl
theorem q1266 : (Jvm.Cond.instanceMethod ({ cls := "java/util/ArrayList", name := "add", desc := "(Ljava/lang/Object;[Ljava/lang/Object;I)V" } : Jvm.MethodName)) ∈ lw_all := lw_g (lw_at lw_m5 216 rfl) rfl
theorem q1267 : (Jvm.Cond.code ({ cls := "java/util/ArrayList", name := "add", desc := "(Ljava/lang/Object;[Ljava/lang/Object;I)V" } : Jvm.MethodName) prog_56_method_24_code (4 : Nat) (Option.none : Option Jvm.ClassFile.FieldType)) ∈ lw_all := lw_g (lw_at lw_m5 217 rfl) rfl
theorem q1268 : (Jvm.Cond.methodLink "java/util/ArrayList" (129 : Nat) ({ cls := "java/util/ArrayList", name := "grow", desc := "()[Ljava/lang/Object;" } : Jvm.MethodName)) ∈ lw_all := lw_g (lw_at lw_m5 218 rfl) rfl
theorem q1269 : (Jvm.Cond.privateMethod ({ cls := "java/util/ArrayList", name := "grow", desc := "()[Ljava/lang/Object;" } : Jvm.MethodName)) ∈ lw_tbl := lw_at lw_m5 219 rfl
theorem q1270 : (Jvm.Cond.instanceMethod ({ cls := "java/util/ArrayList", name := "grow", desc := "()[Ljava/lang/Object;" } : Jvm.MethodName)) ∈ lw_all := lw_g (lw_at lw_m5 220 rfl) rfl
theorem q1271 : (Jvm.Cond.code ({ cls := "java/util/ArrayList", name := "grow", desc := "()[Ljava/lang/Object;" } : Jvm.MethodName) prog_56_method_7_code (1 : Nat) (Option.some (Jvm.ClassFile.FieldType.array (Jvm.ClassFile.FieldType.object "java/lang/Object")))) ∈ lw_all := lw_g (lw_at lw_m5 221 rfl) rfl
theorem q1272 : (Jvm.Cond.methodLink "java/util/ArrayList" (69 : Nat) ({ cls := "java/util/ArrayList", name := "grow", desc := "(I)[Ljava/lang/Object;" } : Jvm.MethodName)) ∈ lw_all := lw_g (lw_at lw_m5 222 rfl) rfl
theorem q1273 : (Jvm.Cond.privateMethod ({ cls := "java/util/ArrayList", name := "grow", desc := "(I)[Ljava/lang/Object;" } : Jvm.MethodName)) ∈ lw_tbl := lw_at lw_m5 223 rfl
theorem q1274 : (Jvm.Cond.instanceMethod ({ cls := "java/util/ArrayList", name := "grow", desc := "(I)[Ljava/lang/Object;" } : Jvm.MethodName)) ∈ lw_all := lw_g (lw_at lw_m5 224 rfl) rfl
theorem q1275 : (Jvm.Cond.code ({ cls := "java/util/ArrayList", name := "grow", desc := "(I)[Ljava/lang/Object;" } : Jvm.MethodName) prog_56_method_6_code (4 : Nat) (Option.some (Jvm.ClassFile.FieldType.array (Jvm.ClassFile.FieldType.object "java/lang/Object")))) ∈ lw_all := lw_g (lw_at lw_m5 225 rfl) rfl
theorem q1276 : (Jvm.Cond.methodLink "java/util/ArrayList" (73 : Nat) ({ cls := "jdk/internal/util/ArraysSupport", name := "newLength", desc := "(III)I" } : Jvm.MethodName)) ∈ lw_all := lw_g (lw_at lw_m5 226 rfl) rfl
theorem q1277 : (Jvm.Cond.methodLink "java/util/ArrayList" (66 : Nat) ({ cls := "java/util/Arrays", name := "copyOf", desc := "([Ljava/lang/Object;I)[Ljava/lang/Object;" } : Jvm.MethodName)) ∈ lw_all := lw_g (lw_at lw_m5 227 rfl) rfl
theorem q1311 : (Jvm.Cond.selects "java/util/ArrayList" ({ cls := "java/lang/Object", name := "getClass", desc := "()Ljava/lang/Class;" } : Jvm.MethodName) ({ cls := "java/lang/Object", name := "getClass", desc := "()Ljava/lang/Class;" } : Jvm.MethodName)) ∈ lw_all := lw_g (lw_at lw_m6 21 rfl) rfl
theorem q1319 : (Jvm.Cond.methodLink "java/util/ArrayList" (79 : Nat) ({ cls := "java/lang/Math", name := "max", desc := "(II)I" } : Jvm.MethodName)) ∈ lw_all := lw_g (lw_at lw_m6 29 rfl) rfl
theorem q1320 : (Jvm.Cond.classLink "java/util/ArrayList" (7 : Nat) "java/lang/Object") ∈ lw_all := lw_g (lw_at lw_m6 30 rfl) rfl
theorem q1330 : (Jvm.Cond.instanceMethod ({ cls := "java/util/ArrayList", name := "get", desc := "(I)Ljava/lang/Object;" } : Jvm.MethodName)) ∈ lw_all := lw_g (lw_at lw_m6 40 rfl) rfl
theorem q1331 : (Jvm.Cond.selects "java/util/ArrayList" ({ cls := "java/util/ArrayList", name := "get", desc := "(I)Ljava/lang/Object;" } : Jvm.MethodName) ({ cls := "java/util/ArrayList", name := "get", desc := "(I)Ljava/lang/Object;" } : Jvm.MethodName)) ∈ lw_all := lw_g (lw_at lw_m6 41 rfl) rfl
theorem q1332 : (Jvm.Cond.code ({ cls := "java/util/ArrayList", name := "get", desc := "(I)Ljava/lang/Object;" } : Jvm.MethodName) prog_56_method_20_code (2 : Nat) (Option.some (Jvm.ClassFile.FieldType.object "java/lang/Object"))) ∈ lw_all := lw_g (lw_at lw_m6 42 rfl) rfl
theorem q1333 : (Jvm.Cond.methodLink "java/util/ArrayList" (118 : Nat) ({ cls := "java/util/Objects", name := "checkIndex", desc := "(II)I" } : Jvm.MethodName)) ∈ lw_all := lw_g (lw_at lw_m6 43 rfl) rfl
theorem q1339 : (Jvm.Cond.methodLink "java/util/ArrayList" (123 : Nat) ({ cls := "java/util/ArrayList", name := "elementData", desc := "(I)Ljava/lang/Object;" } : Jvm.MethodName)) ∈ lw_all := lw_g (lw_at lw_m6 49 rfl) rfl
theorem q1340 : (Jvm.Cond.instanceMethod ({ cls := "java/util/ArrayList", name := "elementData", desc := "(I)Ljava/lang/Object;" } : Jvm.MethodName)) ∈ lw_all := lw_g (lw_at lw_m6 50 rfl) rfl
theorem q1341 : (Jvm.Cond.selects "java/util/ArrayList" ({ cls := "java/util/ArrayList", name := "elementData", desc := "(I)Ljava/lang/Object;" } : Jvm.MethodName) ({ cls := "java/util/ArrayList", name := "elementData", desc := "(I)Ljava/lang/Object;" } : Jvm.MethodName)) ∈ lw_all := lw_g (lw_at lw_m6 51 rfl) rfl
theorem q1342 : (Jvm.Cond.code ({ cls := "java/util/ArrayList", name := "elementData", desc := "(I)Ljava/lang/Object;" } : Jvm.MethodName) prog_56_method_18_code (2 : Nat) (Option.some (Jvm.ClassFile.FieldType.object "java/lang/Object"))) ∈ lw_all := lw_g (lw_at lw_m6 52 rfl) rfl
theorem q2526 : (Jvm.Cond.castable "java/util/ArrayList" "java/lang/Object") ∈ lw_tbl := lw_at lw_m11 36 rfl
theorem in_J5 : ∀ w ∈ wsJ50, w ∈ lw_all := lw_in wsJ50 [244, 240, 242] (by decide +kernel) (by decide +kernel)
/-! java/lang/Math -/
set_option maxRecDepth 100000
def RJ6 : String := "java/lang/Math"
abbrev cJ6_min : ByteArray := prog_44_method_69_code
def yJ6_min : MethodName := ⟨RJ6, "min", "(II)I"⟩
def dkwJ6_min_0 : List UInt8 := [26, 27, 163, 0, 7, 26, 167, 0, 4, 27, 172]
abbrev dktJ6_min_0 : List UInt8 := dkwJ6_min_0 ++ []
theorem dksJ6_min_0 : cJ6_min.data.toList.drop 0 = dktJ6_min_0 := by decide +kernel
theorem dJ6_min_0 : decode cJ6_min 0 = .ok (.iload_n 0, 1) := dk_26 (dk_at dksJ6_min_0 0 rfl rfl)
theorem dJ6_min_1 : decode cJ6_min 1 = .ok (.iload_n 1, 1) := dk_27 (dk_at dksJ6_min_0 1 rfl rfl)
theorem dJ6_min_2 : decode cJ6_min 2 = .ok (.if_icmp .gt 7, 3) := dk_163 0 7 (dk_at dksJ6_min_0 2 rfl rfl)
theorem dJ6_min_5 : decode cJ6_min 5 = .ok (.iload_n 0, 1) := dk_26 (dk_at dksJ6_min_0 5 rfl rfl)
theorem dJ6_min_6 : decode cJ6_min 6 = .ok (.goto 4, 3) := dk_167 0 4 (dk_at dksJ6_min_0 6 rfl rfl)
theorem dJ6_min_9 : decode cJ6_min 9 = .ok (.iload_n 1, 1) := dk_27 (dk_at dksJ6_min_0 9 rfl rfl)
theorem dJ6_min_10 : decode cJ6_min 10 = .ok (.ireturn, 1) := dk_172 (dk_at dksJ6_min_0 10 rfl rfl)
abbrev cJ6_max : ByteArray := prog_44_method_65_code
def yJ6_max : MethodName := ⟨RJ6, "max", "(II)I"⟩
def dkwJ6_max_0 : List UInt8 := [26, 27, 161, 0, 7, 26, 167, 0, 4, 27, 172]
abbrev dktJ6_max_0 : List UInt8 := dkwJ6_max_0 ++ []
theorem dksJ6_max_0 : cJ6_max.data.toList.drop 0 = dktJ6_max_0 := by decide +kernel
theorem dJ6_max_0 : decode cJ6_max 0 = .ok (.iload_n 0, 1) := dk_26 (dk_at dksJ6_max_0 0 rfl rfl)
theorem dJ6_max_1 : decode cJ6_max 1 = .ok (.iload_n 1, 1) := dk_27 (dk_at dksJ6_max_0 1 rfl rfl)
theorem dJ6_max_2 : decode cJ6_max 2 = .ok (.if_icmp .lt 7, 3) := dk_161 0 7 (dk_at dksJ6_max_0 2 rfl rfl)
theorem dJ6_max_5 : decode cJ6_max 5 = .ok (.iload_n 0, 1) := dk_26 (dk_at dksJ6_max_0 5 rfl rfl)
theorem dJ6_max_6 : decode cJ6_max 6 = .ok (.goto 4, 3) := dk_167 0 4 (dk_at dksJ6_max_0 6 rfl rfl)
theorem dJ6_max_9 : decode cJ6_max 9 = .ok (.iload_n 1, 1) := dk_27 (dk_at dksJ6_max_0 9 rfl rfl)
theorem dJ6_max_10 : decode cJ6_max 10 = .ok (.ireturn, 1) := dk_172 (dk_at dksJ6_max_0 10 rfl rfl)
theorem q107 : (Jvm.Cond.initialized "java/lang/Math") ∈ lw_all := lw_g (lw_at lw_m1 17 rfl) rfl
theorem q481 : (Jvm.Cond.static ({ cls := "java/lang/Math", name := "min", desc := "(II)I" } : Jvm.MethodName)) ∈ lw_all := lw_g (lw_at lw_m2 151 rfl) rfl
theorem q482 : (Jvm.Cond.code ({ cls := "java/lang/Math", name := "min", desc := "(II)I" } : Jvm.MethodName) prog_44_method_69_code (2 : Nat) (Option.some Jvm.ClassFile.FieldType.int)) ∈ lw_all := lw_g (lw_at lw_m2 152 rfl) rfl
theorem q744 : (Jvm.Cond.static ({ cls := "java/lang/Math", name := "max", desc := "(II)I" } : Jvm.MethodName)) ∈ lw_all := lw_g (lw_at lw_m3 174 rfl) rfl
theorem q745 : (Jvm.Cond.code ({ cls := "java/lang/Math", name := "max", desc := "(II)I" } : Jvm.MethodName) prog_44_method_65_code (2 : Nat) (Option.some Jvm.ClassFile.FieldType.int)) ∈ lw_all := lw_g (lw_at lw_m3 175 rfl) rfl
/-! java/lang/AbstractStringBuilder -/
set_option maxRecDepth 100000
def RJ7 : String := "java/lang/AbstractStringBuilder"
abbrev cJ7_init : ByteArray := prog_35_method_2_code
def yJ7_init : MethodName := ⟨RJ7, "<init>", "(I)V"⟩
def dkwJ7_init_1 : List UInt8 := [167, 0, 16, 42, 27, 184, 0, 26, 181, 0, 15, 42, 4, 181, 0, 22, 177]
abbrev dktJ7_init_1 : List UInt8 := dkwJ7_init_1 ++ []
def dkwJ7_init_0 : List UInt8 := [42, 183, 0, 3, 178, 0, 18, 153, 0, 18, 42, 27, 188, 8, 181, 0, 15, 42, 3, 181, 0, 22]
abbrev dktJ7_init_0 : List UInt8 := dkwJ7_init_0 ++ dktJ7_init_1
theorem dksJ7_init_0 : cJ7_init.data.toList.drop 0 = dktJ7_init_0 := by decide +kernel
theorem dksJ7_init_1 : cJ7_init.data.toList.drop 22 = dktJ7_init_1 := dk_seg dksJ7_init_0 22 rfl rfl
theorem dJ7_init_0 : decode cJ7_init 0 = .ok (.aload_n 0, 1) := dk_42 (dk_at dksJ7_init_0 0 rfl rfl)
theorem dJ7_init_1 : decode cJ7_init 1 = .ok (.invokespecial 3, 3) := dk_183 0 3 (dk_at dksJ7_init_0 1 rfl rfl)
theorem dJ7_init_4 : decode cJ7_init 4 = .ok (.getstatic 18, 3) := dk_178 0 18 (dk_at dksJ7_init_0 4 rfl rfl)
theorem dJ7_init_7 : decode cJ7_init 7 = .ok (.ifCond .eq 18, 3) := dk_153 0 18 (dk_at dksJ7_init_0 7 rfl rfl)
theorem dJ7_init_10 : decode cJ7_init 10 = .ok (.aload_n 0, 1) := dk_42 (dk_at dksJ7_init_0 10 rfl rfl)
theorem dJ7_init_11 : decode cJ7_init 11 = .ok (.iload_n 1, 1) := dk_27 (dk_at dksJ7_init_0 11 rfl rfl)
theorem dJ7_init_12 : decode cJ7_init 12 = .ok (.newarray .byte, 2) := dk_188_8 (dk_at dksJ7_init_0 12 rfl rfl)
theorem dJ7_init_14 : decode cJ7_init 14 = .ok (.putfield 15, 3) := dk_181 0 15 (dk_at dksJ7_init_0 14 rfl rfl)
theorem dJ7_init_17 : decode cJ7_init 17 = .ok (.aload_n 0, 1) := dk_42 (dk_at dksJ7_init_0 17 rfl rfl)
theorem dJ7_init_18 : decode cJ7_init 18 = .ok (.iconst 0, 1) := dk_3 (dk_at dksJ7_init_0 18 rfl rfl)
theorem dJ7_init_19 : decode cJ7_init 19 = .ok (.putfield 22, 3) := dk_181 0 22 (dk_at dksJ7_init_0 19 rfl rfl)
theorem dJ7_init_22 : decode cJ7_init 22 = .ok (.goto 16, 3) := dk_167 0 16 (dk_at dksJ7_init_1 0 rfl rfl)
theorem dJ7_init_25 : decode cJ7_init 25 = .ok (.aload_n 0, 1) := dk_42 (dk_at dksJ7_init_1 3 rfl rfl)
theorem dJ7_init_26 : decode cJ7_init 26 = .ok (.iload_n 1, 1) := dk_27 (dk_at dksJ7_init_1 4 rfl rfl)
theorem dJ7_init_27 : decode cJ7_init 27 = .ok (.invokestatic 26, 3) := dk_184 0 26 (dk_at dksJ7_init_1 5 rfl rfl)
theorem dJ7_init_30 : decode cJ7_init 30 = .ok (.putfield 15, 3) := dk_181 0 15 (dk_at dksJ7_init_1 8 rfl rfl)
theorem dJ7_init_33 : decode cJ7_init 33 = .ok (.aload_n 0, 1) := dk_42 (dk_at dksJ7_init_1 11 rfl rfl)
theorem dJ7_init_34 : decode cJ7_init 34 = .ok (.iconst 1, 1) := dk_4 (dk_at dksJ7_init_1 12 rfl rfl)
theorem dJ7_init_35 : decode cJ7_init 35 = .ok (.putfield 22, 3) := dk_181 0 22 (dk_at dksJ7_init_1 13 rfl rfl)
theorem dJ7_init_38 : decode cJ7_init 38 = .ok (.return_, 1) := dk_177 (dk_at dksJ7_init_1 16 rfl rfl)
abbrev cJ7_append : ByteArray := prog_35_method_22_code
def yJ7_append : MethodName := ⟨RJ7, "append", "(Ljava/lang/String;)Ljava/lang/AbstractStringBuilder;"⟩
def dkwJ7_append_1 : List UInt8 := [42, 42, 180, 0, 79, 43, 182, 0, 208, 42, 89, 180, 0, 79, 28, 96, 181, 0, 79, 42, 176]
abbrev dktJ7_append_1 : List UInt8 := dkwJ7_append_1 ++ []
def dkwJ7_append_0 : List UInt8 := [43, 199, 0, 8, 42, 182, 0, 204, 176, 43, 182, 0, 32, 61, 42, 42, 180, 0, 79, 28, 96, 182, 0, 100]
abbrev dktJ7_append_0 : List UInt8 := dkwJ7_append_0 ++ dktJ7_append_1
theorem dksJ7_append_0 : cJ7_append.data.toList.drop 0 = dktJ7_append_0 := by decide +kernel
theorem dksJ7_append_1 : cJ7_append.data.toList.drop 24 = dktJ7_append_1 := dk_seg dksJ7_append_0 24 rfl rfl
theorem dJ7_append_0 : decode cJ7_append 0 = .ok (.aload_n 1, 1) := dk_43 (dk_at dksJ7_append_0 0 rfl rfl)
theorem dJ7_append_1 : decode cJ7_append 1 = .ok (.ifnonnull 8, 3) := dk_199 0 8 (dk_at dksJ7_append_0 1 rfl rfl)
theorem dJ7_append_4 : decode cJ7_append 4 = .ok (.aload_n 0, 1) := dk_42 (dk_at dksJ7_append_0 4 rfl rfl)
theorem dJ7_append_5 : decode cJ7_append 5 = .ok (.invokevirtual 204, 3) := dk_182 0 204 (dk_at dksJ7_append_0 5 rfl rfl)
theorem dJ7_append_8 : decode cJ7_append 8 = .ok (.areturn, 1) := dk_176 (dk_at dksJ7_append_0 8 rfl rfl)
theorem dJ7_append_9 : decode cJ7_append 9 = .ok (.aload_n 1, 1) := dk_43 (dk_at dksJ7_append_0 9 rfl rfl)
theorem dJ7_append_10 : decode cJ7_append 10 = .ok (.invokevirtual 32, 3) := dk_182 0 32 (dk_at dksJ7_append_0 10 rfl rfl)
theorem dJ7_append_13 : decode cJ7_append 13 = .ok (.istore_n 2, 1) := dk_61 (dk_at dksJ7_append_0 13 rfl rfl)
theorem dJ7_append_14 : decode cJ7_append 14 = .ok (.aload_n 0, 1) := dk_42 (dk_at dksJ7_append_0 14 rfl rfl)
theorem dJ7_append_15 : decode cJ7_append 15 = .ok (.aload_n 0, 1) := dk_42 (dk_at dksJ7_append_0 15 rfl rfl)
theorem dJ7_append_16 : decode cJ7_append 16 = .ok (.getfield 79, 3) := dk_180 0 79 (dk_at dksJ7_append_0 16 rfl rfl)
theorem dJ7_append_19 : decode cJ7_append 19 = .ok (.iload_n 2, 1) := dk_28 (dk_at dksJ7_append_0 19 rfl rfl)
theorem dJ7_append_20 : decode cJ7_append 20 = .ok (.iadd, 1) := dk_96 (dk_at dksJ7_append_0 20 rfl rfl)
theorem dJ7_append_21 : decode cJ7_append 21 = .ok (.invokevirtual 100, 3) := dk_182 0 100 (dk_at dksJ7_append_0 21 rfl rfl)
theorem dJ7_append_24 : decode cJ7_append 24 = .ok (.aload_n 0, 1) := dk_42 (dk_at dksJ7_append_1 0 rfl rfl)
theorem dJ7_append_25 : decode cJ7_append 25 = .ok (.aload_n 0, 1) := dk_42 (dk_at dksJ7_append_1 1 rfl rfl)
theorem dJ7_append_26 : decode cJ7_append 26 = .ok (.getfield 79, 3) := dk_180 0 79 (dk_at dksJ7_append_1 2 rfl rfl)
theorem dJ7_append_29 : decode cJ7_append 29 = .ok (.aload_n 1, 1) := dk_43 (dk_at dksJ7_append_1 5 rfl rfl)
theorem dJ7_append_30 : decode cJ7_append 30 = .ok (.invokevirtual 208, 3) := dk_182 0 208 (dk_at dksJ7_append_1 6 rfl rfl)
theorem dJ7_append_33 : decode cJ7_append 33 = .ok (.aload_n 0, 1) := dk_42 (dk_at dksJ7_append_1 9 rfl rfl)
theorem dJ7_append_34 : decode cJ7_append 34 = .ok (.dup, 1) := dk_89 (dk_at dksJ7_append_1 10 rfl rfl)
theorem dJ7_append_35 : decode cJ7_append 35 = .ok (.getfield 79, 3) := dk_180 0 79 (dk_at dksJ7_append_1 11 rfl rfl)
theorem dJ7_append_38 : decode cJ7_append 38 = .ok (.iload_n 2, 1) := dk_28 (dk_at dksJ7_append_1 14 rfl rfl)
theorem dJ7_append_39 : decode cJ7_append 39 = .ok (.iadd, 1) := dk_96 (dk_at dksJ7_append_1 15 rfl rfl)
theorem dJ7_append_40 : decode cJ7_append 40 = .ok (.putfield 79, 3) := dk_181 0 79 (dk_at dksJ7_append_1 16 rfl rfl)
theorem dJ7_append_43 : decode cJ7_append 43 = .ok (.aload_n 0, 1) := dk_42 (dk_at dksJ7_append_1 19 rfl rfl)
theorem dJ7_append_44 : decode cJ7_append 44 = .ok (.areturn, 1) := dk_176 (dk_at dksJ7_append_1 20 rfl rfl)
abbrev cJ7_appendNull : ByteArray := prog_35_method_26_code
def yJ7_appendNull : MethodName := ⟨RJ7, "appendNull", "()Ljava/lang/AbstractStringBuilder;"⟩
def dkwJ7_appendNull_3 : List UInt8 := [184, 0, 226, 60, 42, 27, 181, 0, 79, 42, 176]
abbrev dktJ7_appendNull_3 : List UInt8 := dkwJ7_appendNull_3 ++ []
def dkwJ7_appendNull_2 : List UInt8 := [16, 108, 84, 44, 27, 132, 1, 1, 16, 108, 84, 167, 0, 17, 44, 27, 16, 110, 16, 117, 16, 108, 16, 108]
abbrev dktJ7_appendNull_2 : List UInt8 := dkwJ7_appendNull_2 ++ dktJ7_appendNull_3
def dkwJ7_appendNull_1 : List UInt8 := [153, 0, 38, 44, 27, 132, 1, 1, 16, 110, 84, 44, 27, 132, 1, 1, 16, 117, 84, 44, 27, 132, 1, 1]
abbrev dktJ7_appendNull_1 : List UInt8 := dkwJ7_appendNull_1 ++ dktJ7_appendNull_2
def dkwJ7_appendNull_0 : List UInt8 := [42, 42, 180, 0, 79, 7, 96, 182, 0, 100, 42, 180, 0, 79, 60, 42, 180, 0, 15, 77, 42, 182, 0, 83]
abbrev dktJ7_appendNull_0 : List UInt8 := dkwJ7_appendNull_0 ++ dktJ7_appendNull_1
theorem dksJ7_appendNull_0 : cJ7_appendNull.data.toList.drop 0 = dktJ7_appendNull_0 := by decide +kernel
theorem dksJ7_appendNull_1 : cJ7_appendNull.data.toList.drop 24 = dktJ7_appendNull_1 := dk_seg dksJ7_appendNull_0 24 rfl rfl
theorem dksJ7_appendNull_2 : cJ7_appendNull.data.toList.drop 48 = dktJ7_appendNull_2 := dk_seg dksJ7_appendNull_1 24 rfl rfl
theorem dksJ7_appendNull_3 : cJ7_appendNull.data.toList.drop 72 = dktJ7_appendNull_3 := dk_seg dksJ7_appendNull_2 24 rfl rfl
theorem dJ7_appendNull_0 : decode cJ7_appendNull 0 = .ok (.aload_n 0, 1) := dk_42 (dk_at dksJ7_appendNull_0 0 rfl rfl)
theorem dJ7_appendNull_1 : decode cJ7_appendNull 1 = .ok (.aload_n 0, 1) := dk_42 (dk_at dksJ7_appendNull_0 1 rfl rfl)
theorem dJ7_appendNull_2 : decode cJ7_appendNull 2 = .ok (.getfield 79, 3) := dk_180 0 79 (dk_at dksJ7_appendNull_0 2 rfl rfl)
theorem dJ7_appendNull_5 : decode cJ7_appendNull 5 = .ok (.iconst 4, 1) := dk_7 (dk_at dksJ7_appendNull_0 5 rfl rfl)
theorem dJ7_appendNull_6 : decode cJ7_appendNull 6 = .ok (.iadd, 1) := dk_96 (dk_at dksJ7_appendNull_0 6 rfl rfl)
theorem dJ7_appendNull_7 : decode cJ7_appendNull 7 = .ok (.invokevirtual 100, 3) := dk_182 0 100 (dk_at dksJ7_appendNull_0 7 rfl rfl)
theorem dJ7_appendNull_10 : decode cJ7_appendNull 10 = .ok (.aload_n 0, 1) := dk_42 (dk_at dksJ7_appendNull_0 10 rfl rfl)
theorem dJ7_appendNull_11 : decode cJ7_appendNull 11 = .ok (.getfield 79, 3) := dk_180 0 79 (dk_at dksJ7_appendNull_0 11 rfl rfl)
theorem dJ7_appendNull_14 : decode cJ7_appendNull 14 = .ok (.istore_n 1, 1) := dk_60 (dk_at dksJ7_appendNull_0 14 rfl rfl)
theorem dJ7_appendNull_15 : decode cJ7_appendNull 15 = .ok (.aload_n 0, 1) := dk_42 (dk_at dksJ7_appendNull_0 15 rfl rfl)
theorem dJ7_appendNull_16 : decode cJ7_appendNull 16 = .ok (.getfield 15, 3) := dk_180 0 15 (dk_at dksJ7_appendNull_0 16 rfl rfl)
theorem dJ7_appendNull_19 : decode cJ7_appendNull 19 = .ok (.astore_n 2, 1) := dk_77 (dk_at dksJ7_appendNull_0 19 rfl rfl)
theorem dJ7_appendNull_20 : decode cJ7_appendNull 20 = .ok (.aload_n 0, 1) := dk_42 (dk_at dksJ7_appendNull_0 20 rfl rfl)
theorem dJ7_appendNull_21 : decode cJ7_appendNull 21 = .ok (.invokevirtual 83, 3) := dk_182 0 83 (dk_at dksJ7_appendNull_0 21 rfl rfl)
theorem dJ7_appendNull_24 : decode cJ7_appendNull 24 = .ok (.ifCond .eq 38, 3) := dk_153 0 38 (dk_at dksJ7_appendNull_1 0 rfl rfl)
theorem dJ7_appendNull_27 : decode cJ7_appendNull 27 = .ok (.aload_n 2, 1) := dk_44 (dk_at dksJ7_appendNull_1 3 rfl rfl)
theorem dJ7_appendNull_28 : decode cJ7_appendNull 28 = .ok (.iload_n 1, 1) := dk_27 (dk_at dksJ7_appendNull_1 4 rfl rfl)
theorem dJ7_appendNull_29 : decode cJ7_appendNull 29 = .ok (.iinc 1 1, 3) := dk_132 1 1 (dk_at dksJ7_appendNull_1 5 rfl rfl)
theorem dJ7_appendNull_32 : decode cJ7_appendNull 32 = .ok (.bipush 110, 2) := dk_16 110 (dk_at dksJ7_appendNull_1 8 rfl rfl)
theorem dJ7_appendNull_34 : decode cJ7_appendNull 34 = .ok (.bastore, 1) := dk_84 (dk_at dksJ7_appendNull_1 10 rfl rfl)
theorem dJ7_appendNull_35 : decode cJ7_appendNull 35 = .ok (.aload_n 2, 1) := dk_44 (dk_at dksJ7_appendNull_1 11 rfl rfl)
theorem dJ7_appendNull_36 : decode cJ7_appendNull 36 = .ok (.iload_n 1, 1) := dk_27 (dk_at dksJ7_appendNull_1 12 rfl rfl)
theorem dJ7_appendNull_37 : decode cJ7_appendNull 37 = .ok (.iinc 1 1, 3) := dk_132 1 1 (dk_at dksJ7_appendNull_1 13 rfl rfl)
theorem dJ7_appendNull_40 : decode cJ7_appendNull 40 = .ok (.bipush 117, 2) := dk_16 117 (dk_at dksJ7_appendNull_1 16 rfl rfl)
theorem dJ7_appendNull_42 : decode cJ7_appendNull 42 = .ok (.bastore, 1) := dk_84 (dk_at dksJ7_appendNull_1 18 rfl rfl)
theorem dJ7_appendNull_43 : decode cJ7_appendNull 43 = .ok (.aload_n 2, 1) := dk_44 (dk_at dksJ7_appendNull_1 19 rfl rfl)
theorem dJ7_appendNull_44 : decode cJ7_appendNull 44 = .ok (.iload_n 1, 1) := dk_27 (dk_at dksJ7_appendNull_1 20 rfl rfl)
theorem dJ7_appendNull_45 : decode cJ7_appendNull 45 = .ok (.iinc 1 1, 3) := dk_132 1 1 (dk_at dksJ7_appendNull_1 21 rfl rfl)
theorem dJ7_appendNull_48 : decode cJ7_appendNull 48 = .ok (.bipush 108, 2) := dk_16 108 (dk_at dksJ7_appendNull_2 0 rfl rfl)
theorem dJ7_appendNull_50 : decode cJ7_appendNull 50 = .ok (.bastore, 1) := dk_84 (dk_at dksJ7_appendNull_2 2 rfl rfl)
theorem dJ7_appendNull_51 : decode cJ7_appendNull 51 = .ok (.aload_n 2, 1) := dk_44 (dk_at dksJ7_appendNull_2 3 rfl rfl)
theorem dJ7_appendNull_52 : decode cJ7_appendNull 52 = .ok (.iload_n 1, 1) := dk_27 (dk_at dksJ7_appendNull_2 4 rfl rfl)
theorem dJ7_appendNull_53 : decode cJ7_appendNull 53 = .ok (.iinc 1 1, 3) := dk_132 1 1 (dk_at dksJ7_appendNull_2 5 rfl rfl)
theorem dJ7_appendNull_56 : decode cJ7_appendNull 56 = .ok (.bipush 108, 2) := dk_16 108 (dk_at dksJ7_appendNull_2 8 rfl rfl)
theorem dJ7_appendNull_58 : decode cJ7_appendNull 58 = .ok (.bastore, 1) := dk_84 (dk_at dksJ7_appendNull_2 10 rfl rfl)
theorem dJ7_appendNull_59 : decode cJ7_appendNull 59 = .ok (.goto 17, 3) := dk_167 0 17 (dk_at dksJ7_appendNull_2 11 rfl rfl)
theorem dJ7_appendNull_62 : decode cJ7_appendNull 62 = .ok (.aload_n 2, 1) := dk_44 (dk_at dksJ7_appendNull_2 14 rfl rfl)
theorem dJ7_appendNull_63 : decode cJ7_appendNull 63 = .ok (.iload_n 1, 1) := dk_27 (dk_at dksJ7_appendNull_2 15 rfl rfl)
theorem dJ7_appendNull_64 : decode cJ7_appendNull 64 = .ok (.bipush 110, 2) := dk_16 110 (dk_at dksJ7_appendNull_2 16 rfl rfl)
theorem dJ7_appendNull_66 : decode cJ7_appendNull 66 = .ok (.bipush 117, 2) := dk_16 117 (dk_at dksJ7_appendNull_2 18 rfl rfl)
theorem dJ7_appendNull_68 : decode cJ7_appendNull 68 = .ok (.bipush 108, 2) := dk_16 108 (dk_at dksJ7_appendNull_2 20 rfl rfl)
theorem dJ7_appendNull_70 : decode cJ7_appendNull 70 = .ok (.bipush 108, 2) := dk_16 108 (dk_at dksJ7_appendNull_2 22 rfl rfl)
theorem dJ7_appendNull_72 : decode cJ7_appendNull 72 = .ok (.invokestatic 226, 3) := dk_184 0 226 (dk_at dksJ7_appendNull_3 0 rfl rfl)
theorem dJ7_appendNull_75 : decode cJ7_appendNull 75 = .ok (.istore_n 1, 1) := dk_60 (dk_at dksJ7_appendNull_3 3 rfl rfl)
theorem dJ7_appendNull_76 : decode cJ7_appendNull 76 = .ok (.aload_n 0, 1) := dk_42 (dk_at dksJ7_appendNull_3 4 rfl rfl)
theorem dJ7_appendNull_77 : decode cJ7_appendNull 77 = .ok (.iload_n 1, 1) := dk_27 (dk_at dksJ7_appendNull_3 5 rfl rfl)
theorem dJ7_appendNull_78 : decode cJ7_appendNull 78 = .ok (.putfield 79, 3) := dk_181 0 79 (dk_at dksJ7_appendNull_3 6 rfl rfl)
theorem dJ7_appendNull_81 : decode cJ7_appendNull 81 = .ok (.aload_n 0, 1) := dk_42 (dk_at dksJ7_appendNull_3 9 rfl rfl)
theorem dJ7_appendNull_82 : decode cJ7_appendNull 82 = .ok (.areturn, 1) := dk_176 (dk_at dksJ7_appendNull_3 10 rfl rfl)
abbrev cJ7_ensureCapacityInternal : ByteArray := prog_35_method_9_code
def yJ7_ensureCapacityInternal : MethodName := ⟨RJ7, "ensureCapacityInternal", "(I)V"⟩
def dkwJ7_ensureCapacityInternal_1 : List UInt8 := [182, 0, 104, 42, 180, 0, 22, 120, 184, 0, 108, 181, 0, 15, 177]
abbrev dktJ7_ensureCapacityInternal_1 : List UInt8 := dkwJ7_ensureCapacityInternal_1 ++ []
def dkwJ7_ensureCapacityInternal_0 : List UInt8 := [42, 180, 0, 15, 190, 42, 180, 0, 22, 122, 61, 27, 28, 100, 158, 0, 24, 42, 42, 180, 0, 15, 42, 27]
abbrev dktJ7_ensureCapacityInternal_0 : List UInt8 := dkwJ7_ensureCapacityInternal_0 ++ dktJ7_ensureCapacityInternal_1
theorem dksJ7_ensureCapacityInternal_0 : cJ7_ensureCapacityInternal.data.toList.drop 0 = dktJ7_ensureCapacityInternal_0 := by decide +kernel
theorem dksJ7_ensureCapacityInternal_1 : cJ7_ensureCapacityInternal.data.toList.drop 24 = dktJ7_ensureCapacityInternal_1 := dk_seg dksJ7_ensureCapacityInternal_0 24 rfl rfl
theorem dJ7_ensureCapacityInternal_0 : decode cJ7_ensureCapacityInternal 0 = .ok (.aload_n 0, 1) := dk_42 (dk_at dksJ7_ensureCapacityInternal_0 0 rfl rfl)
theorem dJ7_ensureCapacityInternal_1 : decode cJ7_ensureCapacityInternal 1 = .ok (.getfield 15, 3) := dk_180 0 15 (dk_at dksJ7_ensureCapacityInternal_0 1 rfl rfl)
theorem dJ7_ensureCapacityInternal_4 : decode cJ7_ensureCapacityInternal 4 = .ok (.arraylength, 1) := dk_190 (dk_at dksJ7_ensureCapacityInternal_0 4 rfl rfl)
theorem dJ7_ensureCapacityInternal_5 : decode cJ7_ensureCapacityInternal 5 = .ok (.aload_n 0, 1) := dk_42 (dk_at dksJ7_ensureCapacityInternal_0 5 rfl rfl)
theorem dJ7_ensureCapacityInternal_6 : decode cJ7_ensureCapacityInternal 6 = .ok (.getfield 22, 3) := dk_180 0 22 (dk_at dksJ7_ensureCapacityInternal_0 6 rfl rfl)
theorem dJ7_ensureCapacityInternal_9 : decode cJ7_ensureCapacityInternal 9 = .ok (.ishr, 1) := dk_122 (dk_at dksJ7_ensureCapacityInternal_0 9 rfl rfl)
theorem dJ7_ensureCapacityInternal_10 : decode cJ7_ensureCapacityInternal 10 = .ok (.istore_n 2, 1) := dk_61 (dk_at dksJ7_ensureCapacityInternal_0 10 rfl rfl)
theorem dJ7_ensureCapacityInternal_11 : decode cJ7_ensureCapacityInternal 11 = .ok (.iload_n 1, 1) := dk_27 (dk_at dksJ7_ensureCapacityInternal_0 11 rfl rfl)
theorem dJ7_ensureCapacityInternal_12 : decode cJ7_ensureCapacityInternal 12 = .ok (.iload_n 2, 1) := dk_28 (dk_at dksJ7_ensureCapacityInternal_0 12 rfl rfl)
theorem dJ7_ensureCapacityInternal_13 : decode cJ7_ensureCapacityInternal 13 = .ok (.isub, 1) := dk_100 (dk_at dksJ7_ensureCapacityInternal_0 13 rfl rfl)
theorem dJ7_ensureCapacityInternal_14 : decode cJ7_ensureCapacityInternal 14 = .ok (.ifCond .le 24, 3) := dk_158 0 24 (dk_at dksJ7_ensureCapacityInternal_0 14 rfl rfl)
theorem dJ7_ensureCapacityInternal_17 : decode cJ7_ensureCapacityInternal 17 = .ok (.aload_n 0, 1) := dk_42 (dk_at dksJ7_ensureCapacityInternal_0 17 rfl rfl)
theorem dJ7_ensureCapacityInternal_18 : decode cJ7_ensureCapacityInternal 18 = .ok (.aload_n 0, 1) := dk_42 (dk_at dksJ7_ensureCapacityInternal_0 18 rfl rfl)
theorem dJ7_ensureCapacityInternal_19 : decode cJ7_ensureCapacityInternal 19 = .ok (.getfield 15, 3) := dk_180 0 15 (dk_at dksJ7_ensureCapacityInternal_0 19 rfl rfl)
theorem dJ7_ensureCapacityInternal_22 : decode cJ7_ensureCapacityInternal 22 = .ok (.aload_n 0, 1) := dk_42 (dk_at dksJ7_ensureCapacityInternal_0 22 rfl rfl)
theorem dJ7_ensureCapacityInternal_23 : decode cJ7_ensureCapacityInternal 23 = .ok (.iload_n 1, 1) := dk_27 (dk_at dksJ7_ensureCapacityInternal_0 23 rfl rfl)
theorem dJ7_ensureCapacityInternal_24 : decode cJ7_ensureCapacityInternal 24 = .ok (.invokevirtual 104, 3) := dk_182 0 104 (dk_at dksJ7_ensureCapacityInternal_1 0 rfl rfl)
theorem dJ7_ensureCapacityInternal_27 : decode cJ7_ensureCapacityInternal 27 = .ok (.aload_n 0, 1) := dk_42 (dk_at dksJ7_ensureCapacityInternal_1 3 rfl rfl)
theorem dJ7_ensureCapacityInternal_28 : decode cJ7_ensureCapacityInternal 28 = .ok (.getfield 22, 3) := dk_180 0 22 (dk_at dksJ7_ensureCapacityInternal_1 4 rfl rfl)
theorem dJ7_ensureCapacityInternal_31 : decode cJ7_ensureCapacityInternal 31 = .ok (.ishl, 1) := dk_120 (dk_at dksJ7_ensureCapacityInternal_1 7 rfl rfl)
theorem dJ7_ensureCapacityInternal_32 : decode cJ7_ensureCapacityInternal 32 = .ok (.invokestatic 108, 3) := dk_184 0 108 (dk_at dksJ7_ensureCapacityInternal_1 8 rfl rfl)
theorem dJ7_ensureCapacityInternal_35 : decode cJ7_ensureCapacityInternal 35 = .ok (.putfield 15, 3) := dk_181 0 15 (dk_at dksJ7_ensureCapacityInternal_1 11 rfl rfl)
theorem dJ7_ensureCapacityInternal_38 : decode cJ7_ensureCapacityInternal 38 = .ok (.return_, 1) := dk_177 (dk_at dksJ7_ensureCapacityInternal_1 14 rfl rfl)
abbrev cJ7_newCapacity : ByteArray := prog_35_method_10_code
def yJ7_newCapacity : MethodName := ⟨RJ7, "newCapacity", "(I)I"⟩
def dkwJ7_newCapacity_2 : List UInt8 := [183, 0, 124, 191, 21, 5, 42, 180, 0, 22, 122, 172]
abbrev dktJ7_newCapacity_2 : List UInt8 := dkwJ7_newCapacity_2 ++ []
def dkwJ7_newCapacity_1 : List UInt8 := [180, 0, 22, 120, 96, 184, 0, 114, 54, 5, 21, 5, 18, 39, 160, 0, 13, 187, 0, 120, 89, 18, 122]
abbrev dktJ7_newCapacity_1 : List UInt8 := dkwJ7_newCapacity_1 ++ dktJ7_newCapacity_2
def dkwJ7_newCapacity_0 : List UInt8 := [42, 180, 0, 15, 190, 61, 27, 42, 180, 0, 22, 120, 62, 29, 28, 100, 54, 4, 28, 21, 4, 28, 5, 42]
abbrev dktJ7_newCapacity_0 : List UInt8 := dkwJ7_newCapacity_0 ++ dktJ7_newCapacity_1
theorem dksJ7_newCapacity_0 : cJ7_newCapacity.data.toList.drop 0 = dktJ7_newCapacity_0 := by decide +kernel
theorem dksJ7_newCapacity_1 : cJ7_newCapacity.data.toList.drop 24 = dktJ7_newCapacity_1 := dk_seg dksJ7_newCapacity_0 24 rfl rfl
theorem dksJ7_newCapacity_2 : cJ7_newCapacity.data.toList.drop 47 = dktJ7_newCapacity_2 := dk_seg dksJ7_newCapacity_1 23 rfl rfl
theorem dJ7_newCapacity_0 : decode cJ7_newCapacity 0 = .ok (.aload_n 0, 1) := dk_42 (dk_at dksJ7_newCapacity_0 0 rfl rfl)
theorem dJ7_newCapacity_1 : decode cJ7_newCapacity 1 = .ok (.getfield 15, 3) := dk_180 0 15 (dk_at dksJ7_newCapacity_0 1 rfl rfl)
theorem dJ7_newCapacity_4 : decode cJ7_newCapacity 4 = .ok (.arraylength, 1) := dk_190 (dk_at dksJ7_newCapacity_0 4 rfl rfl)
theorem dJ7_newCapacity_5 : decode cJ7_newCapacity 5 = .ok (.istore_n 2, 1) := dk_61 (dk_at dksJ7_newCapacity_0 5 rfl rfl)
theorem dJ7_newCapacity_6 : decode cJ7_newCapacity 6 = .ok (.iload_n 1, 1) := dk_27 (dk_at dksJ7_newCapacity_0 6 rfl rfl)
theorem dJ7_newCapacity_7 : decode cJ7_newCapacity 7 = .ok (.aload_n 0, 1) := dk_42 (dk_at dksJ7_newCapacity_0 7 rfl rfl)
theorem dJ7_newCapacity_8 : decode cJ7_newCapacity 8 = .ok (.getfield 22, 3) := dk_180 0 22 (dk_at dksJ7_newCapacity_0 8 rfl rfl)
theorem dJ7_newCapacity_11 : decode cJ7_newCapacity 11 = .ok (.ishl, 1) := dk_120 (dk_at dksJ7_newCapacity_0 11 rfl rfl)
theorem dJ7_newCapacity_12 : decode cJ7_newCapacity 12 = .ok (.istore_n 3, 1) := dk_62 (dk_at dksJ7_newCapacity_0 12 rfl rfl)
theorem dJ7_newCapacity_13 : decode cJ7_newCapacity 13 = .ok (.iload_n 3, 1) := dk_29 (dk_at dksJ7_newCapacity_0 13 rfl rfl)
theorem dJ7_newCapacity_14 : decode cJ7_newCapacity 14 = .ok (.iload_n 2, 1) := dk_28 (dk_at dksJ7_newCapacity_0 14 rfl rfl)
theorem dJ7_newCapacity_15 : decode cJ7_newCapacity 15 = .ok (.isub, 1) := dk_100 (dk_at dksJ7_newCapacity_0 15 rfl rfl)
theorem dJ7_newCapacity_16 : decode cJ7_newCapacity 16 = .ok (.istore 4, 2) := dk_54 4 (dk_at dksJ7_newCapacity_0 16 rfl rfl)
theorem dJ7_newCapacity_18 : decode cJ7_newCapacity 18 = .ok (.iload_n 2, 1) := dk_28 (dk_at dksJ7_newCapacity_0 18 rfl rfl)
theorem dJ7_newCapacity_19 : decode cJ7_newCapacity 19 = .ok (.iload 4, 2) := dk_21 4 (dk_at dksJ7_newCapacity_0 19 rfl rfl)
theorem dJ7_newCapacity_21 : decode cJ7_newCapacity 21 = .ok (.iload_n 2, 1) := dk_28 (dk_at dksJ7_newCapacity_0 21 rfl rfl)
theorem dJ7_newCapacity_22 : decode cJ7_newCapacity 22 = .ok (.iconst 2, 1) := dk_5 (dk_at dksJ7_newCapacity_0 22 rfl rfl)
theorem dJ7_newCapacity_23 : decode cJ7_newCapacity 23 = .ok (.aload_n 0, 1) := dk_42 (dk_at dksJ7_newCapacity_0 23 rfl rfl)
theorem dJ7_newCapacity_24 : decode cJ7_newCapacity 24 = .ok (.getfield 22, 3) := dk_180 0 22 (dk_at dksJ7_newCapacity_1 0 rfl rfl)
theorem dJ7_newCapacity_27 : decode cJ7_newCapacity 27 = .ok (.ishl, 1) := dk_120 (dk_at dksJ7_newCapacity_1 3 rfl rfl)
theorem dJ7_newCapacity_28 : decode cJ7_newCapacity 28 = .ok (.iadd, 1) := dk_96 (dk_at dksJ7_newCapacity_1 4 rfl rfl)
theorem dJ7_newCapacity_29 : decode cJ7_newCapacity 29 = .ok (.invokestatic 114, 3) := dk_184 0 114 (dk_at dksJ7_newCapacity_1 5 rfl rfl)
theorem dJ7_newCapacity_32 : decode cJ7_newCapacity 32 = .ok (.istore 5, 2) := dk_54 5 (dk_at dksJ7_newCapacity_1 8 rfl rfl)
theorem dJ7_newCapacity_34 : decode cJ7_newCapacity 34 = .ok (.iload 5, 2) := dk_21 5 (dk_at dksJ7_newCapacity_1 10 rfl rfl)
theorem dJ7_newCapacity_36 : decode cJ7_newCapacity 36 = .ok (.ldc 39, 2) := dk_18 39 (dk_at dksJ7_newCapacity_1 12 rfl rfl)
theorem dJ7_newCapacity_38 : decode cJ7_newCapacity 38 = .ok (.if_icmp .ne 13, 3) := dk_160 0 13 (dk_at dksJ7_newCapacity_1 14 rfl rfl)
theorem dJ7_newCapacity_41 : decode cJ7_newCapacity 41 = .ok (.new 120, 3) := dk_187 0 120 (dk_at dksJ7_newCapacity_1 17 rfl rfl)
theorem dJ7_newCapacity_44 : decode cJ7_newCapacity 44 = .ok (.dup, 1) := dk_89 (dk_at dksJ7_newCapacity_1 20 rfl rfl)
theorem dJ7_newCapacity_45 : decode cJ7_newCapacity 45 = .ok (.ldc 122, 2) := dk_18 122 (dk_at dksJ7_newCapacity_1 21 rfl rfl)
theorem dJ7_newCapacity_47 : decode cJ7_newCapacity 47 = .ok (.invokespecial 124, 3) := dk_183 0 124 (dk_at dksJ7_newCapacity_2 0 rfl rfl)
theorem dJ7_newCapacity_50 : decode cJ7_newCapacity 50 = .ok (.athrow, 1) := dk_191 (dk_at dksJ7_newCapacity_2 3 rfl rfl)
theorem dJ7_newCapacity_51 : decode cJ7_newCapacity 51 = .ok (.iload 5, 2) := dk_21 5 (dk_at dksJ7_newCapacity_2 4 rfl rfl)
theorem dJ7_newCapacity_53 : decode cJ7_newCapacity 53 = .ok (.aload_n 0, 1) := dk_42 (dk_at dksJ7_newCapacity_2 6 rfl rfl)
theorem dJ7_newCapacity_54 : decode cJ7_newCapacity 54 = .ok (.getfield 22, 3) := dk_180 0 22 (dk_at dksJ7_newCapacity_2 7 rfl rfl)
theorem dJ7_newCapacity_57 : decode cJ7_newCapacity 57 = .ok (.ishr, 1) := dk_122 (dk_at dksJ7_newCapacity_2 10 rfl rfl)
theorem dJ7_newCapacity_58 : decode cJ7_newCapacity 58 = .ok (.ireturn, 1) := dk_172 (dk_at dksJ7_newCapacity_2 11 rfl rfl)
abbrev cJ7_isLatin1 : ByteArray := prog_35_method_68_code
def yJ7_isLatin1 : MethodName := ⟨RJ7, "isLatin1", "()Z"⟩
def dkwJ7_isLatin1_0 : List UInt8 := [178, 0, 18, 153, 0, 14, 42, 180, 0, 22, 154, 0, 7, 4, 167, 0, 4, 3, 172]
abbrev dktJ7_isLatin1_0 : List UInt8 := dkwJ7_isLatin1_0 ++ []
theorem dksJ7_isLatin1_0 : cJ7_isLatin1.data.toList.drop 0 = dktJ7_isLatin1_0 := by decide +kernel
theorem dJ7_isLatin1_0 : decode cJ7_isLatin1 0 = .ok (.getstatic 18, 3) := dk_178 0 18 (dk_at dksJ7_isLatin1_0 0 rfl rfl)
theorem dJ7_isLatin1_3 : decode cJ7_isLatin1 3 = .ok (.ifCond .eq 14, 3) := dk_153 0 14 (dk_at dksJ7_isLatin1_0 3 rfl rfl)
theorem dJ7_isLatin1_6 : decode cJ7_isLatin1 6 = .ok (.aload_n 0, 1) := dk_42 (dk_at dksJ7_isLatin1_0 6 rfl rfl)
theorem dJ7_isLatin1_7 : decode cJ7_isLatin1 7 = .ok (.getfield 22, 3) := dk_180 0 22 (dk_at dksJ7_isLatin1_0 7 rfl rfl)
theorem dJ7_isLatin1_10 : decode cJ7_isLatin1 10 = .ok (.ifCond .ne 7, 3) := dk_154 0 7 (dk_at dksJ7_isLatin1_0 10 rfl rfl)
theorem dJ7_isLatin1_13 : decode cJ7_isLatin1 13 = .ok (.iconst 1, 1) := dk_4 (dk_at dksJ7_isLatin1_0 13 rfl rfl)
theorem dJ7_isLatin1_14 : decode cJ7_isLatin1 14 = .ok (.goto 4, 3) := dk_167 0 4 (dk_at dksJ7_isLatin1_0 14 rfl rfl)
theorem dJ7_isLatin1_17 : decode cJ7_isLatin1 17 = .ok (.iconst 0, 1) := dk_3 (dk_at dksJ7_isLatin1_0 17 rfl rfl)
theorem dJ7_isLatin1_18 : decode cJ7_isLatin1 18 = .ok (.ireturn, 1) := dk_172 (dk_at dksJ7_isLatin1_0 18 rfl rfl)
abbrev cJ7_putStringAt : ByteArray := prog_35_method_73_code
def yJ7_putStringAt : MethodName := ⟨RJ7, "putStringAt", "(ILjava/lang/String;)V"⟩
def dkwJ7_putStringAt_0 : List UInt8 := [42, 44, 182, 1, 141, 44, 42, 180, 0, 15, 27, 42, 180, 0, 22, 182, 1, 143, 177]
abbrev dktJ7_putStringAt_0 : List UInt8 := dkwJ7_putStringAt_0 ++ []
theorem dksJ7_putStringAt_0 : cJ7_putStringAt.data.toList.drop 0 = dktJ7_putStringAt_0 := by decide +kernel
theorem dJ7_putStringAt_0 : decode cJ7_putStringAt 0 = .ok (.aload_n 0, 1) := dk_42 (dk_at dksJ7_putStringAt_0 0 rfl rfl)
theorem dJ7_putStringAt_1 : decode cJ7_putStringAt 1 = .ok (.aload_n 2, 1) := dk_44 (dk_at dksJ7_putStringAt_0 1 rfl rfl)
theorem dJ7_putStringAt_2 : decode cJ7_putStringAt 2 = .ok (.invokevirtual 397, 3) := dk_182 1 141 (dk_at dksJ7_putStringAt_0 2 rfl rfl)
theorem dJ7_putStringAt_5 : decode cJ7_putStringAt 5 = .ok (.aload_n 2, 1) := dk_44 (dk_at dksJ7_putStringAt_0 5 rfl rfl)
theorem dJ7_putStringAt_6 : decode cJ7_putStringAt 6 = .ok (.aload_n 0, 1) := dk_42 (dk_at dksJ7_putStringAt_0 6 rfl rfl)
theorem dJ7_putStringAt_7 : decode cJ7_putStringAt 7 = .ok (.getfield 15, 3) := dk_180 0 15 (dk_at dksJ7_putStringAt_0 7 rfl rfl)
theorem dJ7_putStringAt_10 : decode cJ7_putStringAt 10 = .ok (.iload_n 1, 1) := dk_27 (dk_at dksJ7_putStringAt_0 10 rfl rfl)
theorem dJ7_putStringAt_11 : decode cJ7_putStringAt 11 = .ok (.aload_n 0, 1) := dk_42 (dk_at dksJ7_putStringAt_0 11 rfl rfl)
theorem dJ7_putStringAt_12 : decode cJ7_putStringAt 12 = .ok (.getfield 22, 3) := dk_180 0 22 (dk_at dksJ7_putStringAt_0 12 rfl rfl)
theorem dJ7_putStringAt_15 : decode cJ7_putStringAt 15 = .ok (.invokevirtual 399, 3) := dk_182 1 143 (dk_at dksJ7_putStringAt_0 15 rfl rfl)
theorem dJ7_putStringAt_18 : decode cJ7_putStringAt 18 = .ok (.return_, 1) := dk_177 (dk_at dksJ7_putStringAt_0 18 rfl rfl)
abbrev cJ7_inflateIfNeededFor : ByteArray := prog_35_method_71_code
def yJ7_inflateIfNeededFor : MethodName := ⟨RJ7, "inflateIfNeededFor", "(Ljava/lang/String;)V"⟩
def dkwJ7_inflateIfNeededFor_0 : List UInt8 := [178, 0, 18, 153, 0, 18, 42, 180, 0, 22, 43, 182, 0, 40, 159, 0, 7, 42, 182, 0, 195, 177]
abbrev dktJ7_inflateIfNeededFor_0 : List UInt8 := dkwJ7_inflateIfNeededFor_0 ++ []
theorem dksJ7_inflateIfNeededFor_0 : cJ7_inflateIfNeededFor.data.toList.drop 0 = dktJ7_inflateIfNeededFor_0 := by decide +kernel
theorem dJ7_inflateIfNeededFor_0 : decode cJ7_inflateIfNeededFor 0 = .ok (.getstatic 18, 3) := dk_178 0 18 (dk_at dksJ7_inflateIfNeededFor_0 0 rfl rfl)
theorem dJ7_inflateIfNeededFor_3 : decode cJ7_inflateIfNeededFor 3 = .ok (.ifCond .eq 18, 3) := dk_153 0 18 (dk_at dksJ7_inflateIfNeededFor_0 3 rfl rfl)
theorem dJ7_inflateIfNeededFor_6 : decode cJ7_inflateIfNeededFor 6 = .ok (.aload_n 0, 1) := dk_42 (dk_at dksJ7_inflateIfNeededFor_0 6 rfl rfl)
theorem dJ7_inflateIfNeededFor_7 : decode cJ7_inflateIfNeededFor 7 = .ok (.getfield 22, 3) := dk_180 0 22 (dk_at dksJ7_inflateIfNeededFor_0 7 rfl rfl)
theorem dJ7_inflateIfNeededFor_10 : decode cJ7_inflateIfNeededFor 10 = .ok (.aload_n 1, 1) := dk_43 (dk_at dksJ7_inflateIfNeededFor_0 10 rfl rfl)
theorem dJ7_inflateIfNeededFor_11 : decode cJ7_inflateIfNeededFor 11 = .ok (.invokevirtual 40, 3) := dk_182 0 40 (dk_at dksJ7_inflateIfNeededFor_0 11 rfl rfl)
theorem dJ7_inflateIfNeededFor_14 : decode cJ7_inflateIfNeededFor 14 = .ok (.if_icmp .eq 7, 3) := dk_159 0 7 (dk_at dksJ7_inflateIfNeededFor_0 14 rfl rfl)
theorem dJ7_inflateIfNeededFor_17 : decode cJ7_inflateIfNeededFor 17 = .ok (.aload_n 0, 1) := dk_42 (dk_at dksJ7_inflateIfNeededFor_0 17 rfl rfl)
theorem dJ7_inflateIfNeededFor_18 : decode cJ7_inflateIfNeededFor 18 = .ok (.invokevirtual 195, 3) := dk_182 0 195 (dk_at dksJ7_inflateIfNeededFor_0 18 rfl rfl)
theorem dJ7_inflateIfNeededFor_21 : decode cJ7_inflateIfNeededFor 21 = .ok (.return_, 1) := dk_177 (dk_at dksJ7_inflateIfNeededFor_0 21 rfl rfl)
abbrev cJ7_inflate : ByteArray := prog_35_method_11_code
def yJ7_inflate : MethodName := ⟨RJ7, "inflate", "()V"⟩
def dkwJ7_inflate_1 : List UInt8 := [42, 180, 0, 79, 184, 0, 125, 42, 43, 181, 0, 15, 42, 4, 181, 0, 22, 177]
abbrev dktJ7_inflate_1 : List UInt8 := dkwJ7_inflate_1 ++ []
def dkwJ7_inflate_0 : List UInt8 := [42, 182, 0, 83, 154, 0, 4, 177, 42, 180, 0, 15, 190, 184, 0, 26, 76, 42, 180, 0, 15, 3, 43, 3]
abbrev dktJ7_inflate_0 : List UInt8 := dkwJ7_inflate_0 ++ dktJ7_inflate_1
theorem dksJ7_inflate_0 : cJ7_inflate.data.toList.drop 0 = dktJ7_inflate_0 := by decide +kernel
theorem dksJ7_inflate_1 : cJ7_inflate.data.toList.drop 24 = dktJ7_inflate_1 := dk_seg dksJ7_inflate_0 24 rfl rfl
theorem dJ7_inflate_0 : decode cJ7_inflate 0 = .ok (.aload_n 0, 1) := dk_42 (dk_at dksJ7_inflate_0 0 rfl rfl)
theorem dJ7_inflate_1 : decode cJ7_inflate 1 = .ok (.invokevirtual 83, 3) := dk_182 0 83 (dk_at dksJ7_inflate_0 1 rfl rfl)
theorem dJ7_inflate_4 : decode cJ7_inflate 4 = .ok (.ifCond .ne 4, 3) := dk_154 0 4 (dk_at dksJ7_inflate_0 4 rfl rfl)
theorem dJ7_inflate_7 : decode cJ7_inflate 7 = .ok (.return_, 1) := dk_177 (dk_at dksJ7_inflate_0 7 rfl rfl)
theorem dJ7_inflate_8 : decode cJ7_inflate 8 = .ok (.aload_n 0, 1) := dk_42 (dk_at dksJ7_inflate_0 8 rfl rfl)
theorem dJ7_inflate_9 : decode cJ7_inflate 9 = .ok (.getfield 15, 3) := dk_180 0 15 (dk_at dksJ7_inflate_0 9 rfl rfl)
theorem dJ7_inflate_12 : decode cJ7_inflate 12 = .ok (.arraylength, 1) := dk_190 (dk_at dksJ7_inflate_0 12 rfl rfl)
theorem dJ7_inflate_13 : decode cJ7_inflate 13 = .ok (.invokestatic 26, 3) := dk_184 0 26 (dk_at dksJ7_inflate_0 13 rfl rfl)
theorem dJ7_inflate_16 : decode cJ7_inflate 16 = .ok (.astore_n 1, 1) := dk_76 (dk_at dksJ7_inflate_0 16 rfl rfl)
theorem dJ7_inflate_17 : decode cJ7_inflate 17 = .ok (.aload_n 0, 1) := dk_42 (dk_at dksJ7_inflate_0 17 rfl rfl)
theorem dJ7_inflate_18 : decode cJ7_inflate 18 = .ok (.getfield 15, 3) := dk_180 0 15 (dk_at dksJ7_inflate_0 18 rfl rfl)
theorem dJ7_inflate_21 : decode cJ7_inflate 21 = .ok (.iconst 0, 1) := dk_3 (dk_at dksJ7_inflate_0 21 rfl rfl)
theorem dJ7_inflate_22 : decode cJ7_inflate 22 = .ok (.aload_n 1, 1) := dk_43 (dk_at dksJ7_inflate_0 22 rfl rfl)
theorem dJ7_inflate_23 : decode cJ7_inflate 23 = .ok (.iconst 0, 1) := dk_3 (dk_at dksJ7_inflate_0 23 rfl rfl)
theorem dJ7_inflate_24 : decode cJ7_inflate 24 = .ok (.aload_n 0, 1) := dk_42 (dk_at dksJ7_inflate_1 0 rfl rfl)
theorem dJ7_inflate_25 : decode cJ7_inflate 25 = .ok (.getfield 79, 3) := dk_180 0 79 (dk_at dksJ7_inflate_1 1 rfl rfl)
theorem dJ7_inflate_28 : decode cJ7_inflate 28 = .ok (.invokestatic 125, 3) := dk_184 0 125 (dk_at dksJ7_inflate_1 4 rfl rfl)
theorem dJ7_inflate_31 : decode cJ7_inflate 31 = .ok (.aload_n 0, 1) := dk_42 (dk_at dksJ7_inflate_1 7 rfl rfl)
theorem dJ7_inflate_32 : decode cJ7_inflate 32 = .ok (.aload_n 1, 1) := dk_43 (dk_at dksJ7_inflate_1 8 rfl rfl)
theorem dJ7_inflate_33 : decode cJ7_inflate 33 = .ok (.putfield 15, 3) := dk_181 0 15 (dk_at dksJ7_inflate_1 9 rfl rfl)
theorem dJ7_inflate_36 : decode cJ7_inflate 36 = .ok (.aload_n 0, 1) := dk_42 (dk_at dksJ7_inflate_1 12 rfl rfl)
theorem dJ7_inflate_37 : decode cJ7_inflate 37 = .ok (.iconst 1, 1) := dk_4 (dk_at dksJ7_inflate_1 13 rfl rfl)
theorem dJ7_inflate_38 : decode cJ7_inflate 38 = .ok (.putfield 22, 3) := dk_181 0 22 (dk_at dksJ7_inflate_1 14 rfl rfl)
theorem dJ7_inflate_41 : decode cJ7_inflate 41 = .ok (.return_, 1) := dk_177 (dk_at dksJ7_inflate_1 17 rfl rfl)
abbrev cJ7_getValue : ByteArray := prog_35_method_64_code
def yJ7_getValue : MethodName := ⟨RJ7, "getValue", "()[B"⟩
theorem dJ7_getValue_0 : decode cJ7_getValue 0 = .ok (.aload_n 0, 1) := by decide +kernel
theorem dJ7_getValue_1 : decode cJ7_getValue 1 = .ok (.getfield 15, 3) := by decide +kernel
theorem dJ7_getValue_4 : decode cJ7_getValue 4 = .ok (.areturn, 1) := by decide +kernel
abbrev cJ7_length : ByteArray := prog_35_method_6_code
def yJ7_length : MethodName := ⟨RJ7, "length", "()I"⟩
theorem dJ7_length_0 : decode cJ7_length 0 = .ok (.aload_n 0, 1) := by decide +kernel
theorem dJ7_length_1 : decode cJ7_length 1 = .ok (.getfield 79, 3) := by decide +kernel
theorem dJ7_length_4 : decode cJ7_length 4 = .ok (.ireturn, 1) := by decide +kernel
theorem q115 : (Jvm.Cond.initialized "java/lang/AbstractStringBuilder") ∈ lw_all := lw_g (lw_at lw_m1 25 rfl) rfl
theorem q687 : (Jvm.Cond.instanceMethod ({ cls := "java/lang/AbstractStringBuilder", name := "<init>", desc := "(I)V" } : Jvm.MethodName)) ∈ lw_all := lw_g (lw_at lw_m3 117 rfl) rfl
theorem q688 : (Jvm.Cond.code ({ cls := "java/lang/AbstractStringBuilder", name := "<init>", desc := "(I)V" } : Jvm.MethodName) prog_35_method_2_code (2 : Nat) (Option.none : Option Jvm.ClassFile.FieldType)) ∈ lw_all := lw_g (lw_at lw_m3 118 rfl) rfl
theorem q689 : (Jvm.Cond.methodLink "java/lang/AbstractStringBuilder" (3 : Nat) ({ cls := "java/lang/Object", name := "<init>", desc := "()V" } : Jvm.MethodName)) ∈ lw_all := lw_g (lw_at lw_m3 119 rfl) rfl
theorem q690 : (Jvm.Cond.fieldLink "java/lang/AbstractStringBuilder" (18 : Nat) "java/lang/String" "COMPACT_STRINGS" "Z") ∈ lw_all := lw_g (lw_at lw_m3 120 rfl) rfl
theorem q692 : (Jvm.Cond.methodLink "java/lang/AbstractStringBuilder" (26 : Nat) ({ cls := "java/lang/StringUTF16", name := "newBytesFor", desc := "(I)[B" } : Jvm.MethodName)) ∈ lw_all := lw_g (lw_at lw_m3 122 rfl) rfl
theorem q699 : (Jvm.Cond.fieldLink "java/lang/AbstractStringBuilder" (15 : Nat) "java/lang/AbstractStringBuilder" "value" "[B") ∈ lw_all := lw_g (lw_at lw_m3 129 rfl) rfl
theorem q700 : (Jvm.Cond.fieldLink "java/lang/AbstractStringBuilder" (22 : Nat) "java/lang/AbstractStringBuilder" "coder" "B") ∈ lw_all := lw_g (lw_at lw_m3 130 rfl) rfl
theorem q702 : (Jvm.Cond.fieldLink "java/lang/AbstractStringBuilder" (79 : Nat) "java/lang/AbstractStringBuilder" "count" "I") ∈ lw_all := lw_g (lw_at lw_m3 132 rfl) rfl
theorem q704 : (Jvm.Cond.soleField "java/lang/AbstractStringBuilder" "value") ∈ lw_all := lw_g (lw_at lw_m3 134 rfl) rfl
theorem q706 : (Jvm.Cond.soleField "java/lang/AbstractStringBuilder" "coder") ∈ lw_all := lw_g (lw_at lw_m3 136 rfl) rfl
theorem q708 : (Jvm.Cond.soleField "java/lang/AbstractStringBuilder" "maybeLatin1") ∈ lw_all := lw_g (lw_at lw_m3 138 rfl) rfl
theorem q710 : (Jvm.Cond.soleField "java/lang/AbstractStringBuilder" "count") ∈ lw_all := lw_g (lw_at lw_m3 140 rfl) rfl
theorem q726 : (Jvm.Cond.instanceMethod ({ cls := "java/lang/AbstractStringBuilder", name := "append", desc := "(Ljava/lang/String;)Ljava/lang/AbstractStringBuilder;" } : Jvm.MethodName)) ∈ lw_all := lw_g (lw_at lw_m3 156 rfl) rfl
theorem q727 : (Jvm.Cond.code ({ cls := "java/lang/AbstractStringBuilder", name := "append", desc := "(Ljava/lang/String;)Ljava/lang/AbstractStringBuilder;" } : Jvm.MethodName) prog_35_method_22_code (3 : Nat) (Option.some (Jvm.ClassFile.FieldType.object "java/lang/AbstractStringBuilder"))) ∈ lw_all := lw_g (lw_at lw_m3 157 rfl) rfl
theorem q728 : (Jvm.Cond.methodLink "java/lang/AbstractStringBuilder" (204 : Nat) ({ cls := "java/lang/AbstractStringBuilder", name := "appendNull", desc := "()Ljava/lang/AbstractStringBuilder;" } : Jvm.MethodName)) ∈ lw_all := lw_g (lw_at lw_m3 158 rfl) rfl
theorem q729 : (Jvm.Cond.privateMethod ({ cls := "java/lang/AbstractStringBuilder", name := "appendNull", desc := "()Ljava/lang/AbstractStringBuilder;" } : Jvm.MethodName)) ∈ lw_tbl := lw_at lw_m3 159 rfl
theorem q730 : (Jvm.Cond.instanceMethod ({ cls := "java/lang/AbstractStringBuilder", name := "appendNull", desc := "()Ljava/lang/AbstractStringBuilder;" } : Jvm.MethodName)) ∈ lw_all := lw_g (lw_at lw_m3 160 rfl) rfl
theorem q731 : (Jvm.Cond.code ({ cls := "java/lang/AbstractStringBuilder", name := "appendNull", desc := "()Ljava/lang/AbstractStringBuilder;" } : Jvm.MethodName) prog_35_method_26_code (3 : Nat) (Option.some (Jvm.ClassFile.FieldType.object "java/lang/AbstractStringBuilder"))) ∈ lw_all := lw_g (lw_at lw_m3 161 rfl) rfl
theorem q732 : (Jvm.Cond.methodLink "java/lang/AbstractStringBuilder" (100 : Nat) ({ cls := "java/lang/AbstractStringBuilder", name := "ensureCapacityInternal", desc := "(I)V" } : Jvm.MethodName)) ∈ lw_all := lw_g (lw_at lw_m3 162 rfl) rfl
theorem q733 : (Jvm.Cond.privateMethod ({ cls := "java/lang/AbstractStringBuilder", name := "ensureCapacityInternal", desc := "(I)V" } : Jvm.MethodName)) ∈ lw_tbl := lw_at lw_m3 163 rfl
theorem q734 : (Jvm.Cond.instanceMethod ({ cls := "java/lang/AbstractStringBuilder", name := "ensureCapacityInternal", desc := "(I)V" } : Jvm.MethodName)) ∈ lw_all := lw_g (lw_at lw_m3 164 rfl) rfl
theorem q735 : (Jvm.Cond.code ({ cls := "java/lang/AbstractStringBuilder", name := "ensureCapacityInternal", desc := "(I)V" } : Jvm.MethodName) prog_35_method_9_code (3 : Nat) (Option.none : Option Jvm.ClassFile.FieldType)) ∈ lw_all := lw_g (lw_at lw_m3 165 rfl) rfl
theorem q736 : (Jvm.Cond.methodLink "java/lang/AbstractStringBuilder" (104 : Nat) ({ cls := "java/lang/AbstractStringBuilder", name := "newCapacity", desc := "(I)I" } : Jvm.MethodName)) ∈ lw_all := lw_g (lw_at lw_m3 166 rfl) rfl
theorem q737 : (Jvm.Cond.privateMethod ({ cls := "java/lang/AbstractStringBuilder", name := "newCapacity", desc := "(I)I" } : Jvm.MethodName)) ∈ lw_tbl := lw_at lw_m3 167 rfl
theorem q738 : (Jvm.Cond.instanceMethod ({ cls := "java/lang/AbstractStringBuilder", name := "newCapacity", desc := "(I)I" } : Jvm.MethodName)) ∈ lw_all := lw_g (lw_at lw_m3 168 rfl) rfl
theorem q739 : (Jvm.Cond.code ({ cls := "java/lang/AbstractStringBuilder", name := "newCapacity", desc := "(I)I" } : Jvm.MethodName) prog_35_method_10_code (6 : Nat) (Option.some Jvm.ClassFile.FieldType.int)) ∈ lw_all := lw_g (lw_at lw_m3 169 rfl) rfl
theorem q740 : (Jvm.Cond.methodLink "java/lang/AbstractStringBuilder" (114 : Nat) ({ cls := "jdk/internal/util/ArraysSupport", name := "newLength", desc := "(III)I" } : Jvm.MethodName)) ∈ lw_all := lw_g (lw_at lw_m3 170 rfl) rfl
theorem q750 : (Jvm.Cond.constant "java/lang/AbstractStringBuilder" (39 : Nat) (2147483647 : Int32)) ∈ lw_all := lw_g (lw_at lw_m3 180 rfl) rfl
theorem q751 : (Jvm.Cond.methodLink "java/lang/AbstractStringBuilder" (108 : Nat) ({ cls := "java/util/Arrays", name := "copyOf", desc := "([BI)[B" } : Jvm.MethodName)) ∈ lw_all := lw_g (lw_at lw_m3 181 rfl) rfl
theorem q765 : (Jvm.Cond.methodLink "java/lang/AbstractStringBuilder" (83 : Nat) ({ cls := "java/lang/AbstractStringBuilder", name := "isLatin1", desc := "()Z" } : Jvm.MethodName)) ∈ lw_all := lw_g (lw_at lw_m3 195 rfl) rfl
theorem q766 : (Jvm.Cond.instanceMethod ({ cls := "java/lang/AbstractStringBuilder", name := "isLatin1", desc := "()Z" } : Jvm.MethodName)) ∈ lw_all := lw_g (lw_at lw_m3 196 rfl) rfl
theorem q767 : (Jvm.Cond.sameMethod "java/lang/AbstractStringBuilder" "java/lang/AbstractStringBuilder" "isLatin1" "()Z") ∈ lw_all := lw_g (lw_at lw_m3 197 rfl) rfl
theorem q769 : (Jvm.Cond.code ({ cls := "java/lang/AbstractStringBuilder", name := "isLatin1", desc := "()Z" } : Jvm.MethodName) prog_35_method_68_code (1 : Nat) (Option.some Jvm.ClassFile.FieldType.boolean)) ∈ lw_all := lw_g (lw_at lw_m3 199 rfl) rfl
theorem q770 : (Jvm.Cond.methodLink "java/lang/AbstractStringBuilder" (226 : Nat) ({ cls := "java/lang/StringUTF16", name := "putCharsAt", desc := "([BICCCC)I" } : Jvm.MethodName)) ∈ lw_all := lw_g (lw_at lw_m3 200 rfl) rfl
theorem q796 : (Jvm.Cond.methodLink "java/lang/AbstractStringBuilder" (32 : Nat) ({ cls := "java/lang/String", name := "length", desc := "()I" } : Jvm.MethodName)) ∈ lw_all := lw_g (lw_at lw_m3 226 rfl) rfl
theorem q805 : (Jvm.Cond.methodLink "java/lang/AbstractStringBuilder" (208 : Nat) ({ cls := "java/lang/AbstractStringBuilder", name := "putStringAt", desc := "(ILjava/lang/String;)V" } : Jvm.MethodName)) ∈ lw_all := lw_g (lw_at lw_m3 235 rfl) rfl
theorem q806 : (Jvm.Cond.privateMethod ({ cls := "java/lang/AbstractStringBuilder", name := "putStringAt", desc := "(ILjava/lang/String;)V" } : Jvm.MethodName)) ∈ lw_tbl := lw_at lw_m3 236 rfl
theorem q807 : (Jvm.Cond.instanceMethod ({ cls := "java/lang/AbstractStringBuilder", name := "putStringAt", desc := "(ILjava/lang/String;)V" } : Jvm.MethodName)) ∈ lw_all := lw_g (lw_at lw_m3 237 rfl) rfl
theorem q808 : (Jvm.Cond.code ({ cls := "java/lang/AbstractStringBuilder", name := "putStringAt", desc := "(ILjava/lang/String;)V" } : Jvm.MethodName) prog_35_method_73_code (3 : Nat) (Option.none : Option Jvm.ClassFile.FieldType)) ∈ lw_all := lw_g (lw_at lw_m3 238 rfl) rfl
theorem q809 : (Jvm.Cond.methodLink "java/lang/AbstractStringBuilder" (397 : Nat) ({ cls := "java/lang/AbstractStringBuilder", name := "inflateIfNeededFor", desc := "(Ljava/lang/String;)V" } : Jvm.MethodName)) ∈ lw_all := lw_g (lw_at lw_m3 239 rfl) rfl
theorem q810 : (Jvm.Cond.privateMethod ({ cls := "java/lang/AbstractStringBuilder", name := "inflateIfNeededFor", desc := "(Ljava/lang/String;)V" } : Jvm.MethodName)) ∈ lw_tbl := lw_at lw_m4 0 rfl
theorem q811 : (Jvm.Cond.instanceMethod ({ cls := "java/lang/AbstractStringBuilder", name := "inflateIfNeededFor", desc := "(Ljava/lang/String;)V" } : Jvm.MethodName)) ∈ lw_all := lw_g (lw_at lw_m4 1 rfl) rfl
theorem q812 : (Jvm.Cond.code ({ cls := "java/lang/AbstractStringBuilder", name := "inflateIfNeededFor", desc := "(Ljava/lang/String;)V" } : Jvm.MethodName) prog_35_method_71_code (2 : Nat) (Option.none : Option Jvm.ClassFile.FieldType)) ∈ lw_all := lw_g (lw_at lw_m4 2 rfl) rfl
theorem q813 : (Jvm.Cond.methodLink "java/lang/AbstractStringBuilder" (40 : Nat) ({ cls := "java/lang/String", name := "coder", desc := "()B" } : Jvm.MethodName)) ∈ lw_all := lw_g (lw_at lw_m4 3 rfl) rfl
theorem q814 : (Jvm.Cond.methodLink "java/lang/AbstractStringBuilder" (195 : Nat) ({ cls := "java/lang/AbstractStringBuilder", name := "inflate", desc := "()V" } : Jvm.MethodName)) ∈ lw_all := lw_g (lw_at lw_m4 4 rfl) rfl
theorem q815 : (Jvm.Cond.privateMethod ({ cls := "java/lang/AbstractStringBuilder", name := "inflate", desc := "()V" } : Jvm.MethodName)) ∈ lw_tbl := lw_at lw_m4 5 rfl
theorem q816 : (Jvm.Cond.instanceMethod ({ cls := "java/lang/AbstractStringBuilder", name := "inflate", desc := "()V" } : Jvm.MethodName)) ∈ lw_all := lw_g (lw_at lw_m4 6 rfl) rfl
theorem q817 : (Jvm.Cond.code ({ cls := "java/lang/AbstractStringBuilder", name := "inflate", desc := "()V" } : Jvm.MethodName) prog_35_method_11_code (2 : Nat) (Option.none : Option Jvm.ClassFile.FieldType)) ∈ lw_all := lw_g (lw_at lw_m4 7 rfl) rfl
theorem q818 : (Jvm.Cond.methodLink "java/lang/AbstractStringBuilder" (125 : Nat) ({ cls := "java/lang/StringLatin1", name := "inflate", desc := "([BI[BII)V" } : Jvm.MethodName)) ∈ lw_all := lw_g (lw_at lw_m4 8 rfl) rfl
theorem q833 : (Jvm.Cond.methodLink "java/lang/AbstractStringBuilder" (399 : Nat) ({ cls := "java/lang/String", name := "getBytes", desc := "([BIB)V" } : Jvm.MethodName)) ∈ lw_all := lw_g (lw_at lw_m4 23 rfl) rfl
theorem q854 : (Jvm.Cond.instanceMethod ({ cls := "java/lang/AbstractStringBuilder", name := "getValue", desc := "()[B" } : Jvm.MethodName)) ∈ lw_all := lw_g (lw_at lw_m4 44 rfl) rfl
theorem q855 : (Jvm.Cond.sameMethod "java/lang/AbstractStringBuilder" "java/lang/AbstractStringBuilder" "getValue" "()[B") ∈ lw_all := lw_g (lw_at lw_m4 45 rfl) rfl
theorem q857 : (Jvm.Cond.code ({ cls := "java/lang/AbstractStringBuilder", name := "getValue", desc := "()[B" } : Jvm.MethodName) prog_35_method_64_code (1 : Nat) (Option.some (Jvm.ClassFile.FieldType.array Jvm.ClassFile.FieldType.byte))) ∈ lw_all := lw_g (lw_at lw_m4 47 rfl) rfl
theorem q859 : (Jvm.Cond.instanceMethod ({ cls := "java/lang/AbstractStringBuilder", name := "length", desc := "()I" } : Jvm.MethodName)) ∈ lw_all := lw_g (lw_at lw_m4 49 rfl) rfl
theorem q860 : (Jvm.Cond.sameMethod "java/lang/AbstractStringBuilder" "java/lang/AbstractStringBuilder" "length" "()I") ∈ lw_all := lw_g (lw_at lw_m4 50 rfl) rfl
theorem q865 : (Jvm.Cond.code ({ cls := "java/lang/AbstractStringBuilder", name := "length", desc := "()I" } : Jvm.MethodName) prog_35_method_6_code (1 : Nat) (Option.some Jvm.ClassFile.FieldType.int)) ∈ lw_all := lw_g (lw_at lw_m4 55 rfl) rfl
theorem q2482 : (Jvm.Cond.sameMethod "java/lang/AbstractStringBuilder" "java/lang/AbstractStringBuilder" "append" "(Ljava/lang/String;)Ljava/lang/AbstractStringBuilder;") ∈ lw_all := lw_g (lw_at lw_m10 232 rfl) rfl
theorem q2483 : (Jvm.Cond.sameMethod "java/lang/AbstractStringBuilder" "java/lang/AbstractStringBuilder" "appendNull" "()Ljava/lang/AbstractStringBuilder;") ∈ lw_all := lw_g (lw_at lw_m10 233 rfl) rfl
theorem q2484 : (Jvm.Cond.sameMethod "java/lang/AbstractStringBuilder" "java/lang/AbstractStringBuilder" "ensureCapacityInternal" "(I)V") ∈ lw_all := lw_g (lw_at lw_m10 234 rfl) rfl
theorem q2485 : (Jvm.Cond.sameMethod "java/lang/AbstractStringBuilder" "java/lang/AbstractStringBuilder" "newCapacity" "(I)I") ∈ lw_all := lw_g (lw_at lw_m10 235 rfl) rfl
theorem q2486 : (Jvm.Cond.sameMethod "java/lang/AbstractStringBuilder" "java/lang/AbstractStringBuilder" "putStringAt" "(ILjava/lang/String;)V") ∈ lw_all := lw_g (lw_at lw_m10 236 rfl) rfl
theorem q2487 : (Jvm.Cond.sameMethod "java/lang/AbstractStringBuilder" "java/lang/AbstractStringBuilder" "inflateIfNeededFor" "(Ljava/lang/String;)V") ∈ lw_all := lw_g (lw_at lw_m10 237 rfl) rfl
theorem q2488 : (Jvm.Cond.sameMethod "java/lang/AbstractStringBuilder" "java/lang/AbstractStringBuilder" "inflate" "()V") ∈ lw_all := lw_g (lw_at lw_m10 238 rfl) rfl
/-! java/lang/StringBuilder -/
set_option maxRecDepth 100000
def RJ8 : String := "java/lang/StringBuilder"
def TJ8 : u_T := fun k => match k with
  | 0 => ("java/lang/AbstractStringBuilder", "value", "[B", false)
  | 1 => ("java/lang/AbstractStringBuilder", "coder", "B", false)
  | 2 => ("java/lang/AbstractStringBuilder", "maybeLatin1", "Z", false)
  | _ => ("java/lang/AbstractStringBuilder", "count", "I", false)
def tyJ8 : Nat → FieldType := fun k => match k with
  | 0 => .array .byte
  | 1 => .byte
  | 2 => .boolean
  | _ => .int
abbrev wsJ80 : List Cond := u_ws RJ8 TJ8 4
theorem nmJ8 : ∀ a, a < 4 → ∀ b, b < 4 → a ≠ b → (TJ8 a).2.1 ≠ (TJ8 b).2.1 := by decide +kernel
theorem tyJ8_ok : ∀ k, k < 4 → parseFieldDescriptor (TJ8 k).2.2.1 = some (tyJ8 k) := by decide +kernel
abbrev cJ8_init : ByteArray := prog_47_method_1_code
def yJ8_init : MethodName := ⟨RJ8, "<init>", "()V"⟩
def dkwJ8_init_0 : List UInt8 := [42, 16, 16, 183, 0, 1, 177]
abbrev dktJ8_init_0 : List UInt8 := dkwJ8_init_0 ++ []
theorem dksJ8_init_0 : cJ8_init.data.toList.drop 0 = dktJ8_init_0 := by decide +kernel
theorem dJ8_init_0 : decode cJ8_init 0 = .ok (.aload_n 0, 1) := dk_42 (dk_at dksJ8_init_0 0 rfl rfl)
theorem dJ8_init_1 : decode cJ8_init 1 = .ok (.bipush 16, 2) := dk_16 16 (dk_at dksJ8_init_0 1 rfl rfl)
theorem dJ8_init_3 : decode cJ8_init 3 = .ok (.invokespecial 1, 3) := dk_183 0 1 (dk_at dksJ8_init_0 3 rfl rfl)
theorem dJ8_init_6 : decode cJ8_init 6 = .ok (.return_, 1) := dk_177 (dk_at dksJ8_init_0 6 rfl rfl)
abbrev cJ8_append : ByteArray := prog_47_method_7_code
def yJ8_append : MethodName := ⟨RJ8, "append", "(Ljava/lang/String;)Ljava/lang/StringBuilder;"⟩
def dkwJ8_append_0 : List UInt8 := [42, 43, 183, 0, 29, 87, 42, 176]
abbrev dktJ8_append_0 : List UInt8 := dkwJ8_append_0 ++ []
theorem dksJ8_append_0 : cJ8_append.data.toList.drop 0 = dktJ8_append_0 := by decide +kernel
theorem dJ8_append_0 : decode cJ8_append 0 = .ok (.aload_n 0, 1) := dk_42 (dk_at dksJ8_append_0 0 rfl rfl)
theorem dJ8_append_1 : decode cJ8_append 1 = .ok (.aload_n 1, 1) := dk_43 (dk_at dksJ8_append_0 1 rfl rfl)
theorem dJ8_append_2 : decode cJ8_append 2 = .ok (.invokespecial 29, 3) := dk_183 0 29 (dk_at dksJ8_append_0 2 rfl rfl)
theorem dJ8_append_5 : decode cJ8_append 5 = .ok (.pop, 1) := dk_87 (dk_at dksJ8_append_0 5 rfl rfl)
theorem dJ8_append_6 : decode cJ8_append 6 = .ok (.aload_n 0, 1) := dk_42 (dk_at dksJ8_append_0 6 rfl rfl)
theorem dJ8_append_7 : decode cJ8_append 7 = .ok (.areturn, 1) := dk_176 (dk_at dksJ8_append_0 7 rfl rfl)
abbrev cJ8_toString : ByteArray := prog_47_method_42_code
def yJ8_toString : MethodName := ⟨RJ8, "toString", "()Ljava/lang/String;"⟩
def dkwJ8_toString_0 : List UInt8 := [187, 0, 18, 89, 42, 183, 0, 137, 176]
abbrev dktJ8_toString_0 : List UInt8 := dkwJ8_toString_0 ++ []
theorem dksJ8_toString_0 : cJ8_toString.data.toList.drop 0 = dktJ8_toString_0 := by decide +kernel
theorem dJ8_toString_0 : decode cJ8_toString 0 = .ok (.new 18, 3) := dk_187 0 18 (dk_at dksJ8_toString_0 0 rfl rfl)
theorem dJ8_toString_3 : decode cJ8_toString 3 = .ok (.dup, 1) := dk_89 (dk_at dksJ8_toString_0 3 rfl rfl)
theorem dJ8_toString_4 : decode cJ8_toString 4 = .ok (.aload_n 0, 1) := dk_42 (dk_at dksJ8_toString_0 4 rfl rfl)
theorem dJ8_toString_5 : decode cJ8_toString 5 = .ok (.invokespecial 137, 3) := dk_183 0 137 (dk_at dksJ8_toString_0 5 rfl rfl)
theorem dJ8_toString_8 : decode cJ8_toString 8 = .ok (.areturn, 1) := dk_176 (dk_at dksJ8_toString_0 8 rfl rfl)
abbrev cJ8_length : ByteArray := prog_47_method_93_code
def yJ8_length : MethodName := ⟨RJ8, "length", "()I"⟩
theorem dJ8_length_0 : decode cJ8_length 0 = .ok (.aload_n 0, 1) := by decide +kernel
theorem dJ8_length_1 : decode cJ8_length 1 = .ok (.invokespecial 343, 3) := by decide +kernel
theorem dJ8_length_4 : decode cJ8_length 4 = .ok (.ireturn, 1) := by decide +kernel
theorem q116 : (Jvm.Cond.initialized "java/lang/StringBuilder") ∈ lw_all := lw_g (lw_at lw_m1 26 rfl) rfl
theorem q682 : (Jvm.Cond.instantiable "java/lang/StringBuilder" (4 : Nat)) ∈ lw_all := lw_g (lw_at lw_m3 112 rfl) rfl
theorem q684 : (Jvm.Cond.instanceMethod ({ cls := "java/lang/StringBuilder", name := "<init>", desc := "()V" } : Jvm.MethodName)) ∈ lw_all := lw_g (lw_at lw_m3 114 rfl) rfl
theorem q685 : (Jvm.Cond.code ({ cls := "java/lang/StringBuilder", name := "<init>", desc := "()V" } : Jvm.MethodName) prog_47_method_1_code (1 : Nat) (Option.none : Option Jvm.ClassFile.FieldType)) ∈ lw_all := lw_g (lw_at lw_m3 115 rfl) rfl
theorem q686 : (Jvm.Cond.methodLink "java/lang/StringBuilder" (1 : Nat) ({ cls := "java/lang/AbstractStringBuilder", name := "<init>", desc := "(I)V" } : Jvm.MethodName)) ∈ lw_all := lw_g (lw_at lw_m3 116 rfl) rfl
theorem q703 : (Jvm.Cond.lays "java/lang/StringBuilder" "java/lang/AbstractStringBuilder" "value" "[B") ∈ lw_all := lw_g (lw_at lw_m3 133 rfl) rfl
theorem q705 : (Jvm.Cond.lays "java/lang/StringBuilder" "java/lang/AbstractStringBuilder" "coder" "B") ∈ lw_all := lw_g (lw_at lw_m3 135 rfl) rfl
theorem q707 : (Jvm.Cond.lays "java/lang/StringBuilder" "java/lang/AbstractStringBuilder" "maybeLatin1" "Z") ∈ lw_all := lw_g (lw_at lw_m3 137 rfl) rfl
theorem q709 : (Jvm.Cond.lays "java/lang/StringBuilder" "java/lang/AbstractStringBuilder" "count" "I") ∈ lw_all := lw_g (lw_at lw_m3 139 rfl) rfl
theorem q711 : (Jvm.Cond.superclass "java/lang/StringBuilder" "java/lang/AbstractStringBuilder") ∈ lw_all := lw_g (lw_at lw_m3 141 rfl) rfl
theorem q722 : (Jvm.Cond.instanceMethod ({ cls := "java/lang/StringBuilder", name := "append", desc := "(Ljava/lang/String;)Ljava/lang/StringBuilder;" } : Jvm.MethodName)) ∈ lw_all := lw_g (lw_at lw_m3 152 rfl) rfl
theorem q723 : (Jvm.Cond.selects "java/lang/StringBuilder" ({ cls := "java/lang/StringBuilder", name := "append", desc := "(Ljava/lang/String;)Ljava/lang/StringBuilder;" } : Jvm.MethodName) ({ cls := "java/lang/StringBuilder", name := "append", desc := "(Ljava/lang/String;)Ljava/lang/StringBuilder;" } : Jvm.MethodName)) ∈ lw_all := lw_g (lw_at lw_m3 153 rfl) rfl
theorem q724 : (Jvm.Cond.code ({ cls := "java/lang/StringBuilder", name := "append", desc := "(Ljava/lang/String;)Ljava/lang/StringBuilder;" } : Jvm.MethodName) prog_47_method_7_code (2 : Nat) (Option.some (Jvm.ClassFile.FieldType.object "java/lang/StringBuilder"))) ∈ lw_all := lw_g (lw_at lw_m3 154 rfl) rfl
theorem q725 : (Jvm.Cond.methodLink "java/lang/StringBuilder" (29 : Nat) ({ cls := "java/lang/AbstractStringBuilder", name := "append", desc := "(Ljava/lang/String;)Ljava/lang/AbstractStringBuilder;" } : Jvm.MethodName)) ∈ lw_all := lw_g (lw_at lw_m3 155 rfl) rfl
theorem q768 : (Jvm.Cond.selects "java/lang/StringBuilder" ({ cls := "java/lang/AbstractStringBuilder", name := "isLatin1", desc := "()Z" } : Jvm.MethodName) ({ cls := "java/lang/AbstractStringBuilder", name := "isLatin1", desc := "()Z" } : Jvm.MethodName)) ∈ lw_all := lw_g (lw_at lw_m3 198 rfl) rfl
theorem q841 : (Jvm.Cond.instanceMethod ({ cls := "java/lang/StringBuilder", name := "toString", desc := "()Ljava/lang/String;" } : Jvm.MethodName)) ∈ lw_all := lw_g (lw_at lw_m4 31 rfl) rfl
theorem q842 : (Jvm.Cond.selects "java/lang/StringBuilder" ({ cls := "java/lang/StringBuilder", name := "toString", desc := "()Ljava/lang/String;" } : Jvm.MethodName) ({ cls := "java/lang/StringBuilder", name := "toString", desc := "()Ljava/lang/String;" } : Jvm.MethodName)) ∈ lw_all := lw_g (lw_at lw_m4 32 rfl) rfl
theorem q843 : (Jvm.Cond.code ({ cls := "java/lang/StringBuilder", name := "toString", desc := "()Ljava/lang/String;" } : Jvm.MethodName) prog_47_method_42_code (1 : Nat) (Option.some (Jvm.ClassFile.FieldType.object "java/lang/String"))) ∈ lw_all := lw_g (lw_at lw_m4 33 rfl) rfl
theorem q844 : (Jvm.Cond.classLink "java/lang/StringBuilder" (18 : Nat) "java/lang/String") ∈ lw_all := lw_g (lw_at lw_m4 34 rfl) rfl
theorem q846 : (Jvm.Cond.methodLink "java/lang/StringBuilder" (137 : Nat) ({ cls := "java/lang/String", name := "<init>", desc := "(Ljava/lang/StringBuilder;)V" } : Jvm.MethodName)) ∈ lw_all := lw_g (lw_at lw_m4 36 rfl) rfl
theorem q856 : (Jvm.Cond.selects "java/lang/StringBuilder" ({ cls := "java/lang/AbstractStringBuilder", name := "getValue", desc := "()[B" } : Jvm.MethodName) ({ cls := "java/lang/AbstractStringBuilder", name := "getValue", desc := "()[B" } : Jvm.MethodName)) ∈ lw_all := lw_g (lw_at lw_m4 46 rfl) rfl
theorem q861 : (Jvm.Cond.selects "java/lang/StringBuilder" ({ cls := "java/lang/AbstractStringBuilder", name := "length", desc := "()I" } : Jvm.MethodName) ({ cls := "java/lang/StringBuilder", name := "length", desc := "()I" } : Jvm.MethodName)) ∈ lw_all := lw_g (lw_at lw_m4 51 rfl) rfl
theorem q862 : (Jvm.Cond.instanceMethod ({ cls := "java/lang/StringBuilder", name := "length", desc := "()I" } : Jvm.MethodName)) ∈ lw_all := lw_g (lw_at lw_m4 52 rfl) rfl
theorem q863 : (Jvm.Cond.code ({ cls := "java/lang/StringBuilder", name := "length", desc := "()I" } : Jvm.MethodName) prog_47_method_93_code (1 : Nat) (Option.some Jvm.ClassFile.FieldType.int)) ∈ lw_all := lw_g (lw_at lw_m4 53 rfl) rfl
theorem q864 : (Jvm.Cond.methodLink "java/lang/StringBuilder" (343 : Nat) ({ cls := "java/lang/AbstractStringBuilder", name := "length", desc := "()I" } : Jvm.MethodName)) ∈ lw_all := lw_g (lw_at lw_m4 54 rfl) rfl
theorem q1310 : (Jvm.Cond.selects "java/lang/StringBuilder" ({ cls := "java/lang/Object", name := "getClass", desc := "()Ljava/lang/Class;" } : Jvm.MethodName) ({ cls := "java/lang/Object", name := "getClass", desc := "()Ljava/lang/Class;" } : Jvm.MethodName)) ∈ lw_all := lw_g (lw_at lw_m6 20 rfl) rfl
theorem q2540 : (Jvm.Cond.castable "java/lang/StringBuilder" "java/lang/Object") ∈ lw_tbl := lw_at lw_m11 50 rfl
theorem in_J8 : ∀ w ∈ wsJ80, w ∈ lw_all := lw_in wsJ80 [703, 705, 707, 709] (by decide +kernel) (by decide +kernel)
/-! java/lang/String -/
set_option maxRecDepth 100000
def RJ9 : String := "java/lang/String"
def TJ9 : u_T := fun k => match k with
  | 0 => ("java/lang/String", "value", "[B", true)
  | 1 => ("java/lang/String", "coder", "B", true)
  | 2 => ("java/lang/String", "hash", "I", false)
  | _ => ("java/lang/String", "hashIsZero", "Z", false)
def tyJ9 : Nat → FieldType := fun k => match k with
  | 0 => .array .byte
  | 1 => .byte
  | 2 => .int
  | _ => .boolean
abbrev wsJ90 : List Cond := u_ws RJ9 TJ9 4
theorem nmJ9 : ∀ a, a < 4 → ∀ b, b < 4 → a ≠ b → (TJ9 a).2.1 ≠ (TJ9 b).2.1 := by decide +kernel
theorem tyJ9_ok : ∀ k, k < 4 → parseFieldDescriptor (TJ9 k).2.2.1 = some (tyJ9 k) := by decide +kernel
abbrev cJ9_checkBoundsBeginEnd : ByteArray := prog_46_method_158_code
def yJ9_checkBoundsBeginEnd : MethodName := ⟨RJ9, "checkBoundsBeginEnd", "(III)V"⟩
def dkwJ9_checkBoundsBeginEnd_0 : List UInt8 := [26, 27, 28, 178, 4, 29, 184, 4, 38, 87, 177]
abbrev dktJ9_checkBoundsBeginEnd_0 : List UInt8 := dkwJ9_checkBoundsBeginEnd_0 ++ []
theorem dksJ9_checkBoundsBeginEnd_0 : cJ9_checkBoundsBeginEnd.data.toList.drop 0 = dktJ9_checkBoundsBeginEnd_0 := by decide +kernel
theorem dJ9_checkBoundsBeginEnd_0 : decode cJ9_checkBoundsBeginEnd 0 = .ok (.iload_n 0, 1) := dk_26 (dk_at dksJ9_checkBoundsBeginEnd_0 0 rfl rfl)
theorem dJ9_checkBoundsBeginEnd_1 : decode cJ9_checkBoundsBeginEnd 1 = .ok (.iload_n 1, 1) := dk_27 (dk_at dksJ9_checkBoundsBeginEnd_0 1 rfl rfl)
theorem dJ9_checkBoundsBeginEnd_2 : decode cJ9_checkBoundsBeginEnd 2 = .ok (.iload_n 2, 1) := dk_28 (dk_at dksJ9_checkBoundsBeginEnd_0 2 rfl rfl)
theorem dJ9_checkBoundsBeginEnd_3 : decode cJ9_checkBoundsBeginEnd 3 = .ok (.getstatic 1053, 3) := dk_178 4 29 (dk_at dksJ9_checkBoundsBeginEnd_0 3 rfl rfl)
theorem dJ9_checkBoundsBeginEnd_6 : decode cJ9_checkBoundsBeginEnd 6 = .ok (.invokestatic 1062, 3) := dk_184 4 38 (dk_at dksJ9_checkBoundsBeginEnd_0 6 rfl rfl)
theorem dJ9_checkBoundsBeginEnd_9 : decode cJ9_checkBoundsBeginEnd 9 = .ok (.pop, 1) := dk_87 (dk_at dksJ9_checkBoundsBeginEnd_0 9 rfl rfl)
theorem dJ9_checkBoundsBeginEnd_10 : decode cJ9_checkBoundsBeginEnd 10 = .ok (.return_, 1) := dk_177 (dk_at dksJ9_checkBoundsBeginEnd_0 10 rfl rfl)
abbrev cJ9_length : ByteArray := prog_46_method_54_code
def yJ9_length : MethodName := ⟨RJ9, "length", "()I"⟩
def dkwJ9_length_0 : List UInt8 := [42, 180, 0, 9, 190, 42, 182, 1, 79, 122, 172]
abbrev dktJ9_length_0 : List UInt8 := dkwJ9_length_0 ++ []
theorem dksJ9_length_0 : cJ9_length.data.toList.drop 0 = dktJ9_length_0 := by decide +kernel
theorem dJ9_length_0 : decode cJ9_length 0 = .ok (.aload_n 0, 1) := dk_42 (dk_at dksJ9_length_0 0 rfl rfl)
theorem dJ9_length_1 : decode cJ9_length 1 = .ok (.getfield 9, 3) := dk_180 0 9 (dk_at dksJ9_length_0 1 rfl rfl)
theorem dJ9_length_4 : decode cJ9_length 4 = .ok (.arraylength, 1) := dk_190 (dk_at dksJ9_length_0 4 rfl rfl)
theorem dJ9_length_5 : decode cJ9_length 5 = .ok (.aload_n 0, 1) := dk_42 (dk_at dksJ9_length_0 5 rfl rfl)
theorem dJ9_length_6 : decode cJ9_length 6 = .ok (.invokevirtual 335, 3) := dk_182 1 79 (dk_at dksJ9_length_0 6 rfl rfl)
theorem dJ9_length_9 : decode cJ9_length 9 = .ok (.ishr, 1) := dk_122 (dk_at dksJ9_length_0 9 rfl rfl)
theorem dJ9_length_10 : decode cJ9_length 10 = .ok (.ireturn, 1) := dk_172 (dk_at dksJ9_length_0 10 rfl rfl)
abbrev cJ9_coder : ByteArray := prog_46_method_152_code
def yJ9_coder : MethodName := ⟨RJ9, "coder", "()B"⟩
def dkwJ9_coder_0 : List UInt8 := [178, 0, 38, 153, 0, 10, 42, 180, 0, 15, 167, 0, 4, 4, 172]
abbrev dktJ9_coder_0 : List UInt8 := dkwJ9_coder_0 ++ []
theorem dksJ9_coder_0 : cJ9_coder.data.toList.drop 0 = dktJ9_coder_0 := by decide +kernel
theorem dJ9_coder_0 : decode cJ9_coder 0 = .ok (.getstatic 38, 3) := dk_178 0 38 (dk_at dksJ9_coder_0 0 rfl rfl)
theorem dJ9_coder_3 : decode cJ9_coder 3 = .ok (.ifCond .eq 10, 3) := dk_153 0 10 (dk_at dksJ9_coder_0 3 rfl rfl)
theorem dJ9_coder_6 : decode cJ9_coder 6 = .ok (.aload_n 0, 1) := dk_42 (dk_at dksJ9_coder_0 6 rfl rfl)
theorem dJ9_coder_7 : decode cJ9_coder 7 = .ok (.getfield 15, 3) := dk_180 0 15 (dk_at dksJ9_coder_0 7 rfl rfl)
theorem dJ9_coder_10 : decode cJ9_coder 10 = .ok (.goto 4, 3) := dk_167 0 4 (dk_at dksJ9_coder_0 10 rfl rfl)
theorem dJ9_coder_13 : decode cJ9_coder 13 = .ok (.iconst 1, 1) := dk_4 (dk_at dksJ9_coder_0 13 rfl rfl)
theorem dJ9_coder_14 : decode cJ9_coder 14 = .ok (.ireturn, 1) := dk_172 (dk_at dksJ9_coder_0 14 rfl rfl)
abbrev cJ9_checkBoundsOffCount : ByteArray := prog_46_method_157_code
def yJ9_checkBoundsOffCount : MethodName := ⟨RJ9, "checkBoundsOffCount", "(III)I"⟩
def dkwJ9_checkBoundsOffCount_0 : List UInt8 := [26, 27, 28, 178, 4, 29, 184, 4, 41, 172]
abbrev dktJ9_checkBoundsOffCount_0 : List UInt8 := dkwJ9_checkBoundsOffCount_0 ++ []
theorem dksJ9_checkBoundsOffCount_0 : cJ9_checkBoundsOffCount.data.toList.drop 0 = dktJ9_checkBoundsOffCount_0 := by decide +kernel
theorem dJ9_checkBoundsOffCount_0 : decode cJ9_checkBoundsOffCount 0 = .ok (.iload_n 0, 1) := dk_26 (dk_at dksJ9_checkBoundsOffCount_0 0 rfl rfl)
theorem dJ9_checkBoundsOffCount_1 : decode cJ9_checkBoundsOffCount 1 = .ok (.iload_n 1, 1) := dk_27 (dk_at dksJ9_checkBoundsOffCount_0 1 rfl rfl)
theorem dJ9_checkBoundsOffCount_2 : decode cJ9_checkBoundsOffCount 2 = .ok (.iload_n 2, 1) := dk_28 (dk_at dksJ9_checkBoundsOffCount_0 2 rfl rfl)
theorem dJ9_checkBoundsOffCount_3 : decode cJ9_checkBoundsOffCount 3 = .ok (.getstatic 1053, 3) := dk_178 4 29 (dk_at dksJ9_checkBoundsOffCount_0 3 rfl rfl)
theorem dJ9_checkBoundsOffCount_6 : decode cJ9_checkBoundsOffCount 6 = .ok (.invokestatic 1065, 3) := dk_184 4 41 (dk_at dksJ9_checkBoundsOffCount_0 6 rfl rfl)
theorem dJ9_checkBoundsOffCount_9 : decode cJ9_checkBoundsOffCount 9 = .ok (.ireturn, 1) := dk_172 (dk_at dksJ9_checkBoundsOffCount_0 9 rfl rfl)
abbrev cJ9_getBytes : ByteArray := prog_46_method_147_code
def yJ9_getBytes : MethodName := ⟨RJ9, "getBytes", "([BIB)V"⟩
def dkwJ9_getBytes_1 : List UInt8 := [184, 0, 212, 167, 0, 18, 42, 180, 0, 9, 3, 43, 28, 42, 180, 0, 9, 190, 184, 0, 106, 177]
abbrev dktJ9_getBytes_1 : List UInt8 := dkwJ9_getBytes_1 ++ []
def dkwJ9_getBytes_0 : List UInt8 := [42, 182, 1, 79, 29, 160, 0, 23, 42, 180, 0, 9, 3, 43, 28, 29, 120, 42, 180, 0, 9, 190]
abbrev dktJ9_getBytes_0 : List UInt8 := dkwJ9_getBytes_0 ++ dktJ9_getBytes_1
theorem dksJ9_getBytes_0 : cJ9_getBytes.data.toList.drop 0 = dktJ9_getBytes_0 := by decide +kernel
theorem dksJ9_getBytes_1 : cJ9_getBytes.data.toList.drop 22 = dktJ9_getBytes_1 := dk_seg dksJ9_getBytes_0 22 rfl rfl
theorem dJ9_getBytes_0 : decode cJ9_getBytes 0 = .ok (.aload_n 0, 1) := dk_42 (dk_at dksJ9_getBytes_0 0 rfl rfl)
theorem dJ9_getBytes_1 : decode cJ9_getBytes 1 = .ok (.invokevirtual 335, 3) := dk_182 1 79 (dk_at dksJ9_getBytes_0 1 rfl rfl)
theorem dJ9_getBytes_4 : decode cJ9_getBytes 4 = .ok (.iload_n 3, 1) := dk_29 (dk_at dksJ9_getBytes_0 4 rfl rfl)
theorem dJ9_getBytes_5 : decode cJ9_getBytes 5 = .ok (.if_icmp .ne 23, 3) := dk_160 0 23 (dk_at dksJ9_getBytes_0 5 rfl rfl)
theorem dJ9_getBytes_8 : decode cJ9_getBytes 8 = .ok (.aload_n 0, 1) := dk_42 (dk_at dksJ9_getBytes_0 8 rfl rfl)
theorem dJ9_getBytes_9 : decode cJ9_getBytes 9 = .ok (.getfield 9, 3) := dk_180 0 9 (dk_at dksJ9_getBytes_0 9 rfl rfl)
theorem dJ9_getBytes_12 : decode cJ9_getBytes 12 = .ok (.iconst 0, 1) := dk_3 (dk_at dksJ9_getBytes_0 12 rfl rfl)
theorem dJ9_getBytes_13 : decode cJ9_getBytes 13 = .ok (.aload_n 1, 1) := dk_43 (dk_at dksJ9_getBytes_0 13 rfl rfl)
theorem dJ9_getBytes_14 : decode cJ9_getBytes 14 = .ok (.iload_n 2, 1) := dk_28 (dk_at dksJ9_getBytes_0 14 rfl rfl)
theorem dJ9_getBytes_15 : decode cJ9_getBytes 15 = .ok (.iload_n 3, 1) := dk_29 (dk_at dksJ9_getBytes_0 15 rfl rfl)
theorem dJ9_getBytes_16 : decode cJ9_getBytes 16 = .ok (.ishl, 1) := dk_120 (dk_at dksJ9_getBytes_0 16 rfl rfl)
theorem dJ9_getBytes_17 : decode cJ9_getBytes 17 = .ok (.aload_n 0, 1) := dk_42 (dk_at dksJ9_getBytes_0 17 rfl rfl)
theorem dJ9_getBytes_18 : decode cJ9_getBytes 18 = .ok (.getfield 9, 3) := dk_180 0 9 (dk_at dksJ9_getBytes_0 18 rfl rfl)
theorem dJ9_getBytes_21 : decode cJ9_getBytes 21 = .ok (.arraylength, 1) := dk_190 (dk_at dksJ9_getBytes_0 21 rfl rfl)
theorem dJ9_getBytes_22 : decode cJ9_getBytes 22 = .ok (.invokestatic 212, 3) := dk_184 0 212 (dk_at dksJ9_getBytes_1 0 rfl rfl)
theorem dJ9_getBytes_25 : decode cJ9_getBytes 25 = .ok (.goto 18, 3) := dk_167 0 18 (dk_at dksJ9_getBytes_1 3 rfl rfl)
theorem dJ9_getBytes_28 : decode cJ9_getBytes 28 = .ok (.aload_n 0, 1) := dk_42 (dk_at dksJ9_getBytes_1 6 rfl rfl)
theorem dJ9_getBytes_29 : decode cJ9_getBytes 29 = .ok (.getfield 9, 3) := dk_180 0 9 (dk_at dksJ9_getBytes_1 7 rfl rfl)
theorem dJ9_getBytes_32 : decode cJ9_getBytes 32 = .ok (.iconst 0, 1) := dk_3 (dk_at dksJ9_getBytes_1 10 rfl rfl)
theorem dJ9_getBytes_33 : decode cJ9_getBytes 33 = .ok (.aload_n 1, 1) := dk_43 (dk_at dksJ9_getBytes_1 11 rfl rfl)
theorem dJ9_getBytes_34 : decode cJ9_getBytes 34 = .ok (.iload_n 2, 1) := dk_28 (dk_at dksJ9_getBytes_1 12 rfl rfl)
theorem dJ9_getBytes_35 : decode cJ9_getBytes 35 = .ok (.aload_n 0, 1) := dk_42 (dk_at dksJ9_getBytes_1 13 rfl rfl)
theorem dJ9_getBytes_36 : decode cJ9_getBytes 36 = .ok (.getfield 9, 3) := dk_180 0 9 (dk_at dksJ9_getBytes_1 14 rfl rfl)
theorem dJ9_getBytes_39 : decode cJ9_getBytes 39 = .ok (.arraylength, 1) := dk_190 (dk_at dksJ9_getBytes_1 17 rfl rfl)
theorem dJ9_getBytes_40 : decode cJ9_getBytes 40 = .ok (.invokestatic 106, 3) := dk_184 0 106 (dk_at dksJ9_getBytes_1 18 rfl rfl)
theorem dJ9_getBytes_43 : decode cJ9_getBytes 43 = .ok (.return_, 1) := dk_177 (dk_at dksJ9_getBytes_1 21 rfl rfl)
abbrev cJ9_init : ByteArray := prog_46_method_53_code
def yJ9_init : MethodName := ⟨RJ9, "<init>", "(Ljava/lang/StringBuilder;)V"⟩
def dkwJ9_init_0 : List UInt8 := [42, 43, 1, 183, 1, 233, 177]
abbrev dktJ9_init_0 : List UInt8 := dkwJ9_init_0 ++ []
theorem dksJ9_init_0 : cJ9_init.data.toList.drop 0 = dktJ9_init_0 := by decide +kernel
theorem dJ9_init_0 : decode cJ9_init 0 = .ok (.aload_n 0, 1) := dk_42 (dk_at dksJ9_init_0 0 rfl rfl)
theorem dJ9_init_1 : decode cJ9_init 1 = .ok (.aload_n 1, 1) := dk_43 (dk_at dksJ9_init_0 1 rfl rfl)
theorem dJ9_init_2 : decode cJ9_init 2 = .ok (.aconst_null, 1) := dk_1 (dk_at dksJ9_init_0 2 rfl rfl)
theorem dJ9_init_3 : decode cJ9_init 3 = .ok (.invokespecial 489, 3) := dk_183 1 233 (dk_at dksJ9_init_0 3 rfl rfl)
theorem dJ9_init_6 : decode cJ9_init 6 = .ok (.return_, 1) := dk_177 (dk_at dksJ9_init_0 6 rfl rfl)
abbrev cJ9_init_2 : ByteArray := prog_46_method_150_code
def yJ9_init_2 : MethodName := ⟨RJ9, "<init>", "(Ljava/lang/AbstractStringBuilder;Ljava/lang/Void;)V"⟩
def dkwJ9_init_2_4 : List UInt8 := [181, 0, 9, 177]
abbrev dktJ9_init_2_4 : List UInt8 := dkwJ9_init_2_4 ++ []
def dkwJ9_init_2_3 : List UInt8 := [184, 0, 47, 181, 0, 15, 177, 42, 4, 181, 0, 15, 42, 45, 3, 21, 4, 4, 120, 184, 0, 54]
abbrev dktJ9_init_2_3 : List UInt8 := dkwJ9_init_2_3 ++ dktJ9_init_2_4
def dkwJ9_init_2_2 : List UInt8 := [180, 4, 24, 153, 0, 28, 42, 45, 3, 21, 4, 184, 4, 27, 181, 0, 9, 42, 42, 180, 0, 9, 21, 4]
abbrev dktJ9_init_2_2 : List UInt8 := dkwJ9_init_2_2 ++ dktJ9_init_2_3
def dkwJ9_init_2_1 : List UInt8 := [181, 0, 15, 42, 45, 3, 21, 4, 184, 0, 54, 181, 0, 9, 167, 0, 59, 178, 0, 38, 153, 0, 35, 43]
abbrev dktJ9_init_2_1 : List UInt8 := dkwJ9_init_2_1 ++ dktJ9_init_2_2
def dkwJ9_init_2_0 : List UInt8 := [42, 183, 0, 1, 43, 182, 2, 40, 78, 43, 182, 2, 37, 54, 4, 43, 182, 4, 23, 153, 0, 22, 42, 3]
abbrev dktJ9_init_2_0 : List UInt8 := dkwJ9_init_2_0 ++ dktJ9_init_2_1
theorem dksJ9_init_2_0 : cJ9_init_2.data.toList.drop 0 = dktJ9_init_2_0 := by decide +kernel
theorem dksJ9_init_2_1 : cJ9_init_2.data.toList.drop 24 = dktJ9_init_2_1 := dk_seg dksJ9_init_2_0 24 rfl rfl
theorem dksJ9_init_2_2 : cJ9_init_2.data.toList.drop 48 = dktJ9_init_2_2 := dk_seg dksJ9_init_2_1 24 rfl rfl
theorem dksJ9_init_2_3 : cJ9_init_2.data.toList.drop 72 = dktJ9_init_2_3 := dk_seg dksJ9_init_2_2 24 rfl rfl
theorem dksJ9_init_2_4 : cJ9_init_2.data.toList.drop 94 = dktJ9_init_2_4 := dk_seg dksJ9_init_2_3 22 rfl rfl
theorem dJ9_init_2_0 : decode cJ9_init_2 0 = .ok (.aload_n 0, 1) := dk_42 (dk_at dksJ9_init_2_0 0 rfl rfl)
theorem dJ9_init_2_1 : decode cJ9_init_2 1 = .ok (.invokespecial 1, 3) := dk_183 0 1 (dk_at dksJ9_init_2_0 1 rfl rfl)
theorem dJ9_init_2_4 : decode cJ9_init_2 4 = .ok (.aload_n 1, 1) := dk_43 (dk_at dksJ9_init_2_0 4 rfl rfl)
theorem dJ9_init_2_5 : decode cJ9_init_2 5 = .ok (.invokevirtual 552, 3) := dk_182 2 40 (dk_at dksJ9_init_2_0 5 rfl rfl)
theorem dJ9_init_2_8 : decode cJ9_init_2 8 = .ok (.astore_n 3, 1) := dk_78 (dk_at dksJ9_init_2_0 8 rfl rfl)
theorem dJ9_init_2_9 : decode cJ9_init_2 9 = .ok (.aload_n 1, 1) := dk_43 (dk_at dksJ9_init_2_0 9 rfl rfl)
theorem dJ9_init_2_10 : decode cJ9_init_2 10 = .ok (.invokevirtual 549, 3) := dk_182 2 37 (dk_at dksJ9_init_2_0 10 rfl rfl)
theorem dJ9_init_2_13 : decode cJ9_init_2 13 = .ok (.istore 4, 2) := dk_54 4 (dk_at dksJ9_init_2_0 13 rfl rfl)
theorem dJ9_init_2_15 : decode cJ9_init_2 15 = .ok (.aload_n 1, 1) := dk_43 (dk_at dksJ9_init_2_0 15 rfl rfl)
theorem dJ9_init_2_16 : decode cJ9_init_2 16 = .ok (.invokevirtual 1047, 3) := dk_182 4 23 (dk_at dksJ9_init_2_0 16 rfl rfl)
theorem dJ9_init_2_19 : decode cJ9_init_2 19 = .ok (.ifCond .eq 22, 3) := dk_153 0 22 (dk_at dksJ9_init_2_0 19 rfl rfl)
theorem dJ9_init_2_22 : decode cJ9_init_2 22 = .ok (.aload_n 0, 1) := dk_42 (dk_at dksJ9_init_2_0 22 rfl rfl)
theorem dJ9_init_2_23 : decode cJ9_init_2 23 = .ok (.iconst 0, 1) := dk_3 (dk_at dksJ9_init_2_0 23 rfl rfl)
theorem dJ9_init_2_24 : decode cJ9_init_2 24 = .ok (.putfield 15, 3) := dk_181 0 15 (dk_at dksJ9_init_2_1 0 rfl rfl)
theorem dJ9_init_2_27 : decode cJ9_init_2 27 = .ok (.aload_n 0, 1) := dk_42 (dk_at dksJ9_init_2_1 3 rfl rfl)
theorem dJ9_init_2_28 : decode cJ9_init_2 28 = .ok (.aload_n 3, 1) := dk_45 (dk_at dksJ9_init_2_1 4 rfl rfl)
theorem dJ9_init_2_29 : decode cJ9_init_2 29 = .ok (.iconst 0, 1) := dk_3 (dk_at dksJ9_init_2_1 5 rfl rfl)
theorem dJ9_init_2_30 : decode cJ9_init_2 30 = .ok (.iload 4, 2) := dk_21 4 (dk_at dksJ9_init_2_1 6 rfl rfl)
theorem dJ9_init_2_32 : decode cJ9_init_2 32 = .ok (.invokestatic 54, 3) := dk_184 0 54 (dk_at dksJ9_init_2_1 8 rfl rfl)
theorem dJ9_init_2_35 : decode cJ9_init_2 35 = .ok (.putfield 9, 3) := dk_181 0 9 (dk_at dksJ9_init_2_1 11 rfl rfl)
theorem dJ9_init_2_38 : decode cJ9_init_2 38 = .ok (.goto 59, 3) := dk_167 0 59 (dk_at dksJ9_init_2_1 14 rfl rfl)
theorem dJ9_init_2_41 : decode cJ9_init_2 41 = .ok (.getstatic 38, 3) := dk_178 0 38 (dk_at dksJ9_init_2_1 17 rfl rfl)
theorem dJ9_init_2_44 : decode cJ9_init_2 44 = .ok (.ifCond .eq 35, 3) := dk_153 0 35 (dk_at dksJ9_init_2_1 20 rfl rfl)
theorem dJ9_init_2_47 : decode cJ9_init_2 47 = .ok (.aload_n 1, 1) := dk_43 (dk_at dksJ9_init_2_1 23 rfl rfl)
theorem dJ9_init_2_48 : decode cJ9_init_2 48 = .ok (.getfield 1048, 3) := dk_180 4 24 (dk_at dksJ9_init_2_2 0 rfl rfl)
theorem dJ9_init_2_51 : decode cJ9_init_2 51 = .ok (.ifCond .eq 28, 3) := dk_153 0 28 (dk_at dksJ9_init_2_2 3 rfl rfl)
theorem dJ9_init_2_54 : decode cJ9_init_2 54 = .ok (.aload_n 0, 1) := dk_42 (dk_at dksJ9_init_2_2 6 rfl rfl)
theorem dJ9_init_2_55 : decode cJ9_init_2 55 = .ok (.aload_n 3, 1) := dk_45 (dk_at dksJ9_init_2_2 7 rfl rfl)
theorem dJ9_init_2_56 : decode cJ9_init_2 56 = .ok (.iconst 0, 1) := dk_3 (dk_at dksJ9_init_2_2 8 rfl rfl)
theorem dJ9_init_2_57 : decode cJ9_init_2 57 = .ok (.iload 4, 2) := dk_21 4 (dk_at dksJ9_init_2_2 9 rfl rfl)
theorem dJ9_init_2_59 : decode cJ9_init_2 59 = .ok (.invokestatic 1051, 3) := dk_184 4 27 (dk_at dksJ9_init_2_2 11 rfl rfl)
theorem dJ9_init_2_62 : decode cJ9_init_2 62 = .ok (.putfield 9, 3) := dk_181 0 9 (dk_at dksJ9_init_2_2 14 rfl rfl)
theorem dJ9_init_2_65 : decode cJ9_init_2 65 = .ok (.aload_n 0, 1) := dk_42 (dk_at dksJ9_init_2_2 17 rfl rfl)
theorem dJ9_init_2_66 : decode cJ9_init_2 66 = .ok (.aload_n 0, 1) := dk_42 (dk_at dksJ9_init_2_2 18 rfl rfl)
theorem dJ9_init_2_67 : decode cJ9_init_2 67 = .ok (.getfield 9, 3) := dk_180 0 9 (dk_at dksJ9_init_2_2 19 rfl rfl)
theorem dJ9_init_2_70 : decode cJ9_init_2 70 = .ok (.iload 4, 2) := dk_21 4 (dk_at dksJ9_init_2_2 22 rfl rfl)
theorem dJ9_init_2_72 : decode cJ9_init_2 72 = .ok (.invokestatic 47, 3) := dk_184 0 47 (dk_at dksJ9_init_2_3 0 rfl rfl)
theorem dJ9_init_2_75 : decode cJ9_init_2 75 = .ok (.putfield 15, 3) := dk_181 0 15 (dk_at dksJ9_init_2_3 3 rfl rfl)
theorem dJ9_init_2_78 : decode cJ9_init_2 78 = .ok (.return_, 1) := dk_177 (dk_at dksJ9_init_2_3 6 rfl rfl)
theorem dJ9_init_2_79 : decode cJ9_init_2 79 = .ok (.aload_n 0, 1) := dk_42 (dk_at dksJ9_init_2_3 7 rfl rfl)
theorem dJ9_init_2_80 : decode cJ9_init_2 80 = .ok (.iconst 1, 1) := dk_4 (dk_at dksJ9_init_2_3 8 rfl rfl)
theorem dJ9_init_2_81 : decode cJ9_init_2 81 = .ok (.putfield 15, 3) := dk_181 0 15 (dk_at dksJ9_init_2_3 9 rfl rfl)
theorem dJ9_init_2_84 : decode cJ9_init_2 84 = .ok (.aload_n 0, 1) := dk_42 (dk_at dksJ9_init_2_3 12 rfl rfl)
theorem dJ9_init_2_85 : decode cJ9_init_2 85 = .ok (.aload_n 3, 1) := dk_45 (dk_at dksJ9_init_2_3 13 rfl rfl)
theorem dJ9_init_2_86 : decode cJ9_init_2 86 = .ok (.iconst 0, 1) := dk_3 (dk_at dksJ9_init_2_3 14 rfl rfl)
theorem dJ9_init_2_87 : decode cJ9_init_2 87 = .ok (.iload 4, 2) := dk_21 4 (dk_at dksJ9_init_2_3 15 rfl rfl)
theorem dJ9_init_2_89 : decode cJ9_init_2 89 = .ok (.iconst 1, 1) := dk_4 (dk_at dksJ9_init_2_3 17 rfl rfl)
theorem dJ9_init_2_90 : decode cJ9_init_2 90 = .ok (.ishl, 1) := dk_120 (dk_at dksJ9_init_2_3 18 rfl rfl)
theorem dJ9_init_2_91 : decode cJ9_init_2 91 = .ok (.invokestatic 54, 3) := dk_184 0 54 (dk_at dksJ9_init_2_3 19 rfl rfl)
theorem dJ9_init_2_94 : decode cJ9_init_2 94 = .ok (.putfield 9, 3) := dk_181 0 9 (dk_at dksJ9_init_2_4 0 rfl rfl)
theorem dJ9_init_2_97 : decode cJ9_init_2 97 = .ok (.return_, 1) := dk_177 (dk_at dksJ9_init_2_4 3 rfl rfl)
abbrev cJ9_indexOf : ByteArray := prog_46_method_79_code
def yJ9_indexOf : MethodName := ⟨RJ9, "indexOf", "(I)I"⟩
def dkwJ9_indexOf_0 : List UInt8 := [42, 27, 3, 182, 2, 121, 172]
abbrev dktJ9_indexOf_0 : List UInt8 := dkwJ9_indexOf_0 ++ []
theorem dksJ9_indexOf_0 : cJ9_indexOf.data.toList.drop 0 = dktJ9_indexOf_0 := by decide +kernel
theorem dJ9_indexOf_0 : decode cJ9_indexOf 0 = .ok (.aload_n 0, 1) := dk_42 (dk_at dksJ9_indexOf_0 0 rfl rfl)
theorem dJ9_indexOf_1 : decode cJ9_indexOf 1 = .ok (.iload_n 1, 1) := dk_27 (dk_at dksJ9_indexOf_0 1 rfl rfl)
theorem dJ9_indexOf_2 : decode cJ9_indexOf 2 = .ok (.iconst 0, 1) := dk_3 (dk_at dksJ9_indexOf_0 2 rfl rfl)
theorem dJ9_indexOf_3 : decode cJ9_indexOf 3 = .ok (.invokevirtual 633, 3) := dk_182 2 121 (dk_at dksJ9_indexOf_0 3 rfl rfl)
theorem dJ9_indexOf_6 : decode cJ9_indexOf 6 = .ok (.ireturn, 1) := dk_172 (dk_at dksJ9_indexOf_0 6 rfl rfl)
abbrev cJ9_indexOf_2 : ByteArray := prog_46_method_80_code
def yJ9_indexOf_2 : MethodName := ⟨RJ9, "indexOf", "(II)I"⟩
def dkwJ9_indexOf_2_1 : List UInt8 := [180, 0, 9, 27, 28, 42, 182, 1, 249, 184, 2, 128, 172]
abbrev dktJ9_indexOf_2_1 : List UInt8 := dkwJ9_indexOf_2_1 ++ []
def dkwJ9_indexOf_2_0 : List UInt8 := [42, 182, 1, 236, 153, 0, 19, 42, 180, 0, 9, 27, 28, 42, 182, 1, 249, 184, 2, 125, 167, 0, 16, 42]
abbrev dktJ9_indexOf_2_0 : List UInt8 := dkwJ9_indexOf_2_0 ++ dktJ9_indexOf_2_1
theorem dksJ9_indexOf_2_0 : cJ9_indexOf_2.data.toList.drop 0 = dktJ9_indexOf_2_0 := by decide +kernel
theorem dksJ9_indexOf_2_1 : cJ9_indexOf_2.data.toList.drop 24 = dktJ9_indexOf_2_1 := dk_seg dksJ9_indexOf_2_0 24 rfl rfl
theorem dJ9_indexOf_2_0 : decode cJ9_indexOf_2 0 = .ok (.aload_n 0, 1) := dk_42 (dk_at dksJ9_indexOf_2_0 0 rfl rfl)
theorem dJ9_indexOf_2_1 : decode cJ9_indexOf_2 1 = .ok (.invokevirtual 492, 3) := dk_182 1 236 (dk_at dksJ9_indexOf_2_0 1 rfl rfl)
theorem dJ9_indexOf_2_4 : decode cJ9_indexOf_2 4 = .ok (.ifCond .eq 19, 3) := dk_153 0 19 (dk_at dksJ9_indexOf_2_0 4 rfl rfl)
theorem dJ9_indexOf_2_7 : decode cJ9_indexOf_2 7 = .ok (.aload_n 0, 1) := dk_42 (dk_at dksJ9_indexOf_2_0 7 rfl rfl)
theorem dJ9_indexOf_2_8 : decode cJ9_indexOf_2 8 = .ok (.getfield 9, 3) := dk_180 0 9 (dk_at dksJ9_indexOf_2_0 8 rfl rfl)
theorem dJ9_indexOf_2_11 : decode cJ9_indexOf_2 11 = .ok (.iload_n 1, 1) := dk_27 (dk_at dksJ9_indexOf_2_0 11 rfl rfl)
theorem dJ9_indexOf_2_12 : decode cJ9_indexOf_2 12 = .ok (.iload_n 2, 1) := dk_28 (dk_at dksJ9_indexOf_2_0 12 rfl rfl)
theorem dJ9_indexOf_2_13 : decode cJ9_indexOf_2 13 = .ok (.aload_n 0, 1) := dk_42 (dk_at dksJ9_indexOf_2_0 13 rfl rfl)
theorem dJ9_indexOf_2_14 : decode cJ9_indexOf_2 14 = .ok (.invokevirtual 505, 3) := dk_182 1 249 (dk_at dksJ9_indexOf_2_0 14 rfl rfl)
theorem dJ9_indexOf_2_17 : decode cJ9_indexOf_2 17 = .ok (.invokestatic 637, 3) := dk_184 2 125 (dk_at dksJ9_indexOf_2_0 17 rfl rfl)
theorem dJ9_indexOf_2_20 : decode cJ9_indexOf_2 20 = .ok (.goto 16, 3) := dk_167 0 16 (dk_at dksJ9_indexOf_2_0 20 rfl rfl)
theorem dJ9_indexOf_2_23 : decode cJ9_indexOf_2 23 = .ok (.aload_n 0, 1) := dk_42 (dk_at dksJ9_indexOf_2_0 23 rfl rfl)
theorem dJ9_indexOf_2_24 : decode cJ9_indexOf_2 24 = .ok (.getfield 9, 3) := dk_180 0 9 (dk_at dksJ9_indexOf_2_1 0 rfl rfl)
theorem dJ9_indexOf_2_27 : decode cJ9_indexOf_2 27 = .ok (.iload_n 1, 1) := dk_27 (dk_at dksJ9_indexOf_2_1 3 rfl rfl)
theorem dJ9_indexOf_2_28 : decode cJ9_indexOf_2 28 = .ok (.iload_n 2, 1) := dk_28 (dk_at dksJ9_indexOf_2_1 4 rfl rfl)
theorem dJ9_indexOf_2_29 : decode cJ9_indexOf_2 29 = .ok (.aload_n 0, 1) := dk_42 (dk_at dksJ9_indexOf_2_1 5 rfl rfl)
theorem dJ9_indexOf_2_30 : decode cJ9_indexOf_2 30 = .ok (.invokevirtual 505, 3) := dk_182 1 249 (dk_at dksJ9_indexOf_2_1 6 rfl rfl)
theorem dJ9_indexOf_2_33 : decode cJ9_indexOf_2 33 = .ok (.invokestatic 640, 3) := dk_184 2 128 (dk_at dksJ9_indexOf_2_1 9 rfl rfl)
theorem dJ9_indexOf_2_36 : decode cJ9_indexOf_2 36 = .ok (.ireturn, 1) := dk_172 (dk_at dksJ9_indexOf_2_1 12 rfl rfl)
abbrev cJ9_isLatin1 : ByteArray := prog_46_method_154_code
def yJ9_isLatin1 : MethodName := ⟨RJ9, "isLatin1", "()Z"⟩
def dkwJ9_isLatin1_0 : List UInt8 := [178, 0, 38, 153, 0, 14, 42, 180, 0, 15, 154, 0, 7, 4, 167, 0, 4, 3, 172]
abbrev dktJ9_isLatin1_0 : List UInt8 := dkwJ9_isLatin1_0 ++ []
theorem dksJ9_isLatin1_0 : cJ9_isLatin1.data.toList.drop 0 = dktJ9_isLatin1_0 := by decide +kernel
theorem dJ9_isLatin1_0 : decode cJ9_isLatin1 0 = .ok (.getstatic 38, 3) := dk_178 0 38 (dk_at dksJ9_isLatin1_0 0 rfl rfl)
theorem dJ9_isLatin1_3 : decode cJ9_isLatin1 3 = .ok (.ifCond .eq 14, 3) := dk_153 0 14 (dk_at dksJ9_isLatin1_0 3 rfl rfl)
theorem dJ9_isLatin1_6 : decode cJ9_isLatin1 6 = .ok (.aload_n 0, 1) := dk_42 (dk_at dksJ9_isLatin1_0 6 rfl rfl)
theorem dJ9_isLatin1_7 : decode cJ9_isLatin1 7 = .ok (.getfield 15, 3) := dk_180 0 15 (dk_at dksJ9_isLatin1_0 7 rfl rfl)
theorem dJ9_isLatin1_10 : decode cJ9_isLatin1 10 = .ok (.ifCond .ne 7, 3) := dk_154 0 7 (dk_at dksJ9_isLatin1_0 10 rfl rfl)
theorem dJ9_isLatin1_13 : decode cJ9_isLatin1 13 = .ok (.iconst 1, 1) := dk_4 (dk_at dksJ9_isLatin1_0 13 rfl rfl)
theorem dJ9_isLatin1_14 : decode cJ9_isLatin1 14 = .ok (.goto 4, 3) := dk_167 0 4 (dk_at dksJ9_isLatin1_0 14 rfl rfl)
theorem dJ9_isLatin1_17 : decode cJ9_isLatin1 17 = .ok (.iconst 0, 1) := dk_3 (dk_at dksJ9_isLatin1_0 17 rfl rfl)
theorem dJ9_isLatin1_18 : decode cJ9_isLatin1 18 = .ok (.ireturn, 1) := dk_172 (dk_at dksJ9_isLatin1_0 18 rfl rfl)
theorem q117 : (Jvm.Cond.initialized "java/lang/String") ∈ lw_all := lw_g (lw_at lw_m1 27 rfl) rfl
theorem q691 : (Jvm.Cond.laysStatic "java/lang/String" "COMPACT_STRINGS" "Z") ∈ lw_tbl := lw_at lw_m3 121 rfl
theorem q701 : (Jvm.Cond.fieldLink "java/lang/String" (1048 : Nat) "java/lang/AbstractStringBuilder" "maybeLatin1" "Z") ∈ lw_all := lw_g (lw_at lw_m3 131 rfl) rfl
theorem q780 : (Jvm.Cond.static ({ cls := "java/lang/String", name := "checkBoundsBeginEnd", desc := "(III)V" } : Jvm.MethodName)) ∈ lw_all := lw_g (lw_at lw_m3 210 rfl) rfl
theorem q781 : (Jvm.Cond.code ({ cls := "java/lang/String", name := "checkBoundsBeginEnd", desc := "(III)V" } : Jvm.MethodName) prog_46_method_158_code (3 : Nat) (Option.none : Option Jvm.ClassFile.FieldType)) ∈ lw_all := lw_g (lw_at lw_m3 211 rfl) rfl
theorem q782 : (Jvm.Cond.fieldLink "java/lang/String" (1053 : Nat) "jdk/internal/util/Preconditions" "SIOOBE_FORMATTER" "Ljava/util/function/BiFunction;") ∈ lw_all := lw_g (lw_at lw_m3 212 rfl) rfl
theorem q784 : (Jvm.Cond.methodLink "java/lang/String" (1062 : Nat) ({ cls := "jdk/internal/util/Preconditions", name := "checkFromToIndex", desc := "(IIILjava/util/function/BiFunction;)I" } : Jvm.MethodName)) ∈ lw_all := lw_g (lw_at lw_m3 214 rfl) rfl
theorem q797 : (Jvm.Cond.instanceMethod ({ cls := "java/lang/String", name := "length", desc := "()I" } : Jvm.MethodName)) ∈ lw_all := lw_g (lw_at lw_m3 227 rfl) rfl
theorem q798 : (Jvm.Cond.selects "java/lang/String" ({ cls := "java/lang/String", name := "length", desc := "()I" } : Jvm.MethodName) ({ cls := "java/lang/String", name := "length", desc := "()I" } : Jvm.MethodName)) ∈ lw_all := lw_g (lw_at lw_m3 228 rfl) rfl
theorem q799 : (Jvm.Cond.code ({ cls := "java/lang/String", name := "length", desc := "()I" } : Jvm.MethodName) prog_46_method_54_code (1 : Nat) (Option.some Jvm.ClassFile.FieldType.int)) ∈ lw_all := lw_g (lw_at lw_m3 229 rfl) rfl
theorem q800 : (Jvm.Cond.methodLink "java/lang/String" (335 : Nat) ({ cls := "java/lang/String", name := "coder", desc := "()B" } : Jvm.MethodName)) ∈ lw_all := lw_g (lw_at lw_m3 230 rfl) rfl
theorem q801 : (Jvm.Cond.instanceMethod ({ cls := "java/lang/String", name := "coder", desc := "()B" } : Jvm.MethodName)) ∈ lw_all := lw_g (lw_at lw_m3 231 rfl) rfl
theorem q802 : (Jvm.Cond.selects "java/lang/String" ({ cls := "java/lang/String", name := "coder", desc := "()B" } : Jvm.MethodName) ({ cls := "java/lang/String", name := "coder", desc := "()B" } : Jvm.MethodName)) ∈ lw_all := lw_g (lw_at lw_m3 232 rfl) rfl
theorem q803 : (Jvm.Cond.code ({ cls := "java/lang/String", name := "coder", desc := "()B" } : Jvm.MethodName) prog_46_method_152_code (1 : Nat) (Option.some Jvm.ClassFile.FieldType.byte)) ∈ lw_all := lw_g (lw_at lw_m3 233 rfl) rfl
theorem q804 : (Jvm.Cond.fieldLink "java/lang/String" (38 : Nat) "java/lang/String" "COMPACT_STRINGS" "Z") ∈ lw_all := lw_g (lw_at lw_m3 234 rfl) rfl
theorem q828 : (Jvm.Cond.static ({ cls := "java/lang/String", name := "checkBoundsOffCount", desc := "(III)I" } : Jvm.MethodName)) ∈ lw_all := lw_g (lw_at lw_m4 18 rfl) rfl
theorem q829 : (Jvm.Cond.code ({ cls := "java/lang/String", name := "checkBoundsOffCount", desc := "(III)I" } : Jvm.MethodName) prog_46_method_157_code (3 : Nat) (Option.some Jvm.ClassFile.FieldType.int)) ∈ lw_all := lw_g (lw_at lw_m4 19 rfl) rfl
theorem q830 : (Jvm.Cond.methodLink "java/lang/String" (1065 : Nat) ({ cls := "jdk/internal/util/Preconditions", name := "checkFromIndexSize", desc := "(IIILjava/util/function/BiFunction;)I" } : Jvm.MethodName)) ∈ lw_all := lw_g (lw_at lw_m4 20 rfl) rfl
theorem q834 : (Jvm.Cond.instanceMethod ({ cls := "java/lang/String", name := "getBytes", desc := "([BIB)V" } : Jvm.MethodName)) ∈ lw_all := lw_g (lw_at lw_m4 24 rfl) rfl
theorem q835 : (Jvm.Cond.selects "java/lang/String" ({ cls := "java/lang/String", name := "getBytes", desc := "([BIB)V" } : Jvm.MethodName) ({ cls := "java/lang/String", name := "getBytes", desc := "([BIB)V" } : Jvm.MethodName)) ∈ lw_all := lw_g (lw_at lw_m4 25 rfl) rfl
theorem q836 : (Jvm.Cond.code ({ cls := "java/lang/String", name := "getBytes", desc := "([BIB)V" } : Jvm.MethodName) prog_46_method_147_code (4 : Nat) (Option.none : Option Jvm.ClassFile.FieldType)) ∈ lw_all := lw_g (lw_at lw_m4 26 rfl) rfl
theorem q837 : (Jvm.Cond.methodLink "java/lang/String" (212 : Nat) ({ cls := "java/lang/System", name := "arraycopy", desc := "(Ljava/lang/Object;ILjava/lang/Object;II)V" } : Jvm.MethodName)) ∈ lw_all := lw_g (lw_at lw_m4 27 rfl) rfl
theorem q838 : (Jvm.Cond.methodLink "java/lang/String" (106 : Nat) ({ cls := "java/lang/StringLatin1", name := "inflate", desc := "([BI[BII)V" } : Jvm.MethodName)) ∈ lw_all := lw_g (lw_at lw_m4 28 rfl) rfl
theorem q845 : (Jvm.Cond.instantiable "java/lang/String" (4 : Nat)) ∈ lw_all := lw_g (lw_at lw_m4 35 rfl) rfl
theorem q847 : (Jvm.Cond.instanceMethod ({ cls := "java/lang/String", name := "<init>", desc := "(Ljava/lang/StringBuilder;)V" } : Jvm.MethodName)) ∈ lw_all := lw_g (lw_at lw_m4 37 rfl) rfl
theorem q848 : (Jvm.Cond.code ({ cls := "java/lang/String", name := "<init>", desc := "(Ljava/lang/StringBuilder;)V" } : Jvm.MethodName) prog_46_method_53_code (2 : Nat) (Option.none : Option Jvm.ClassFile.FieldType)) ∈ lw_all := lw_g (lw_at lw_m4 38 rfl) rfl
theorem q849 : (Jvm.Cond.methodLink "java/lang/String" (489 : Nat) ({ cls := "java/lang/String", name := "<init>", desc := "(Ljava/lang/AbstractStringBuilder;Ljava/lang/Void;)V" } : Jvm.MethodName)) ∈ lw_all := lw_g (lw_at lw_m4 39 rfl) rfl
theorem q850 : (Jvm.Cond.instanceMethod ({ cls := "java/lang/String", name := "<init>", desc := "(Ljava/lang/AbstractStringBuilder;Ljava/lang/Void;)V" } : Jvm.MethodName)) ∈ lw_all := lw_g (lw_at lw_m4 40 rfl) rfl
theorem q851 : (Jvm.Cond.code ({ cls := "java/lang/String", name := "<init>", desc := "(Ljava/lang/AbstractStringBuilder;Ljava/lang/Void;)V" } : Jvm.MethodName) prog_46_method_150_code (5 : Nat) (Option.none : Option Jvm.ClassFile.FieldType)) ∈ lw_all := lw_g (lw_at lw_m4 41 rfl) rfl
theorem q852 : (Jvm.Cond.methodLink "java/lang/String" (1 : Nat) ({ cls := "java/lang/Object", name := "<init>", desc := "()V" } : Jvm.MethodName)) ∈ lw_all := lw_g (lw_at lw_m4 42 rfl) rfl
theorem q853 : (Jvm.Cond.methodLink "java/lang/String" (552 : Nat) ({ cls := "java/lang/AbstractStringBuilder", name := "getValue", desc := "()[B" } : Jvm.MethodName)) ∈ lw_all := lw_g (lw_at lw_m4 43 rfl) rfl
theorem q858 : (Jvm.Cond.methodLink "java/lang/String" (549 : Nat) ({ cls := "java/lang/AbstractStringBuilder", name := "length", desc := "()I" } : Jvm.MethodName)) ∈ lw_all := lw_g (lw_at lw_m4 48 rfl) rfl
theorem q866 : (Jvm.Cond.methodLink "java/lang/String" (1047 : Nat) ({ cls := "java/lang/AbstractStringBuilder", name := "isLatin1", desc := "()Z" } : Jvm.MethodName)) ∈ lw_all := lw_g (lw_at lw_m4 56 rfl) rfl
theorem q867 : (Jvm.Cond.methodLink "java/lang/String" (54 : Nat) ({ cls := "java/util/Arrays", name := "copyOfRange", desc := "([BII)[B" } : Jvm.MethodName)) ∈ lw_all := lw_g (lw_at lw_m4 57 rfl) rfl
theorem q876 : (Jvm.Cond.methodLink "java/lang/String" (1051 : Nat) ({ cls := "java/lang/StringUTF16", name := "compress", desc := "([BII)[B" } : Jvm.MethodName)) ∈ lw_all := lw_g (lw_at lw_m4 66 rfl) rfl
theorem q886 : (Jvm.Cond.methodLink "java/lang/String" (47 : Nat) ({ cls := "java/lang/StringUTF16", name := "coderFromArrayLen", desc := "([BI)B" } : Jvm.MethodName)) ∈ lw_all := lw_g (lw_at lw_m4 76 rfl) rfl
theorem q889 : (Jvm.Cond.fieldLink "java/lang/String" (9 : Nat) "java/lang/String" "value" "[B") ∈ lw_all := lw_g (lw_at lw_m4 79 rfl) rfl
theorem q890 : (Jvm.Cond.fieldLink "java/lang/String" (15 : Nat) "java/lang/String" "coder" "B") ∈ lw_all := lw_g (lw_at lw_m4 80 rfl) rfl
theorem q891 : (Jvm.Cond.laysFinal "java/lang/String" "java/lang/String" "value" "[B") ∈ lw_all := lw_g (lw_at lw_m4 81 rfl) rfl
theorem q892 : (Jvm.Cond.soleField "java/lang/String" "value") ∈ lw_all := lw_g (lw_at lw_m4 82 rfl) rfl
theorem q893 : (Jvm.Cond.laysFinal "java/lang/String" "java/lang/String" "coder" "B") ∈ lw_all := lw_g (lw_at lw_m4 83 rfl) rfl
theorem q894 : (Jvm.Cond.soleField "java/lang/String" "coder") ∈ lw_all := lw_g (lw_at lw_m4 84 rfl) rfl
theorem q895 : (Jvm.Cond.lays "java/lang/String" "java/lang/String" "hash" "I") ∈ lw_all := lw_g (lw_at lw_m4 85 rfl) rfl
theorem q896 : (Jvm.Cond.soleField "java/lang/String" "hash") ∈ lw_all := lw_g (lw_at lw_m4 86 rfl) rfl
theorem q897 : (Jvm.Cond.lays "java/lang/String" "java/lang/String" "hashIsZero" "Z") ∈ lw_all := lw_g (lw_at lw_m4 87 rfl) rfl
theorem q898 : (Jvm.Cond.soleField "java/lang/String" "hashIsZero") ∈ lw_all := lw_g (lw_at lw_m4 88 rfl) rfl
theorem q899 : (Jvm.Cond.superclass "java/lang/String" "java/lang/Object") ∈ lw_all := lw_g (lw_at lw_m4 89 rfl) rfl
theorem q970 : (Jvm.Cond.instanceMethod ({ cls := "java/lang/String", name := "indexOf", desc := "(I)I" } : Jvm.MethodName)) ∈ lw_all := lw_g (lw_at lw_m4 160 rfl) rfl
theorem q971 : (Jvm.Cond.selects "java/lang/String" ({ cls := "java/lang/String", name := "indexOf", desc := "(I)I" } : Jvm.MethodName) ({ cls := "java/lang/String", name := "indexOf", desc := "(I)I" } : Jvm.MethodName)) ∈ lw_all := lw_g (lw_at lw_m4 161 rfl) rfl
theorem q972 : (Jvm.Cond.code ({ cls := "java/lang/String", name := "indexOf", desc := "(I)I" } : Jvm.MethodName) prog_46_method_79_code (2 : Nat) (Option.some Jvm.ClassFile.FieldType.int)) ∈ lw_all := lw_g (lw_at lw_m4 162 rfl) rfl
theorem q973 : (Jvm.Cond.methodLink "java/lang/String" (633 : Nat) ({ cls := "java/lang/String", name := "indexOf", desc := "(II)I" } : Jvm.MethodName)) ∈ lw_all := lw_g (lw_at lw_m4 163 rfl) rfl
theorem q974 : (Jvm.Cond.instanceMethod ({ cls := "java/lang/String", name := "indexOf", desc := "(II)I" } : Jvm.MethodName)) ∈ lw_all := lw_g (lw_at lw_m4 164 rfl) rfl
theorem q975 : (Jvm.Cond.selects "java/lang/String" ({ cls := "java/lang/String", name := "indexOf", desc := "(II)I" } : Jvm.MethodName) ({ cls := "java/lang/String", name := "indexOf", desc := "(II)I" } : Jvm.MethodName)) ∈ lw_all := lw_g (lw_at lw_m4 165 rfl) rfl
theorem q976 : (Jvm.Cond.code ({ cls := "java/lang/String", name := "indexOf", desc := "(II)I" } : Jvm.MethodName) prog_46_method_80_code (3 : Nat) (Option.some Jvm.ClassFile.FieldType.int)) ∈ lw_all := lw_g (lw_at lw_m4 166 rfl) rfl
theorem q977 : (Jvm.Cond.methodLink "java/lang/String" (492 : Nat) ({ cls := "java/lang/String", name := "isLatin1", desc := "()Z" } : Jvm.MethodName)) ∈ lw_all := lw_g (lw_at lw_m4 167 rfl) rfl
theorem q978 : (Jvm.Cond.instanceMethod ({ cls := "java/lang/String", name := "isLatin1", desc := "()Z" } : Jvm.MethodName)) ∈ lw_all := lw_g (lw_at lw_m4 168 rfl) rfl
theorem q979 : (Jvm.Cond.selects "java/lang/String" ({ cls := "java/lang/String", name := "isLatin1", desc := "()Z" } : Jvm.MethodName) ({ cls := "java/lang/String", name := "isLatin1", desc := "()Z" } : Jvm.MethodName)) ∈ lw_all := lw_g (lw_at lw_m4 169 rfl) rfl
theorem q980 : (Jvm.Cond.code ({ cls := "java/lang/String", name := "isLatin1", desc := "()Z" } : Jvm.MethodName) prog_46_method_154_code (1 : Nat) (Option.some Jvm.ClassFile.FieldType.boolean)) ∈ lw_all := lw_g (lw_at lw_m4 170 rfl) rfl
theorem q981 : (Jvm.Cond.methodLink "java/lang/String" (505 : Nat) ({ cls := "java/lang/String", name := "length", desc := "()I" } : Jvm.MethodName)) ∈ lw_all := lw_g (lw_at lw_m4 171 rfl) rfl
theorem q982 : (Jvm.Cond.methodLink "java/lang/String" (637 : Nat) ({ cls := "java/lang/StringLatin1", name := "indexOf", desc := "([BIII)I" } : Jvm.MethodName)) ∈ lw_all := lw_g (lw_at lw_m4 172 rfl) rfl
theorem q993 : (Jvm.Cond.methodLink "java/lang/String" (640 : Nat) ({ cls := "java/lang/StringUTF16", name := "indexOf", desc := "([BIII)I" } : Jvm.MethodName)) ∈ lw_all := lw_g (lw_at lw_m4 183 rfl) rfl
theorem q1309 : (Jvm.Cond.selects "java/lang/String" ({ cls := "java/lang/Object", name := "getClass", desc := "()Ljava/lang/Class;" } : Jvm.MethodName) ({ cls := "java/lang/Object", name := "getClass", desc := "()Ljava/lang/Class;" } : Jvm.MethodName)) ∈ lw_all := lw_g (lw_at lw_m6 19 rfl) rfl
theorem q2541 : (Jvm.Cond.castable "java/lang/String" "java/lang/Object") ∈ lw_tbl := lw_at lw_m11 51 rfl
theorem in_J9 : ∀ w ∈ wsJ90, w ∈ lw_all := lw_in wsJ90 [891, 893, 895, 897] (by decide +kernel) (by decide +kernel)
/-! java/lang/StringUTF16 -/
set_option maxRecDepth 100000
def RJ10 : String := "java/lang/StringUTF16"
abbrev cJ10_newBytesFor : ByteArray := prog_49_method_2_code
def yJ10_newBytesFor : MethodName := ⟨RJ10, "newBytesFor", "(I)[B"⟩
def dkwJ10_newBytesFor_0 : List UInt8 := [26, 184, 0, 11, 188, 8, 176]
abbrev dktJ10_newBytesFor_0 : List UInt8 := dkwJ10_newBytesFor_0 ++ []
theorem dksJ10_newBytesFor_0 : cJ10_newBytesFor.data.toList.drop 0 = dktJ10_newBytesFor_0 := by decide +kernel
theorem dJ10_newBytesFor_0 : decode cJ10_newBytesFor 0 = .ok (.iload_n 0, 1) := dk_26 (dk_at dksJ10_newBytesFor_0 0 rfl rfl)
theorem dJ10_newBytesFor_1 : decode cJ10_newBytesFor 1 = .ok (.invokestatic 11, 3) := dk_184 0 11 (dk_at dksJ10_newBytesFor_0 1 rfl rfl)
theorem dJ10_newBytesFor_4 : decode cJ10_newBytesFor 4 = .ok (.newarray .byte, 2) := dk_188_8 (dk_at dksJ10_newBytesFor_0 4 rfl rfl)
theorem dJ10_newBytesFor_6 : decode cJ10_newBytesFor 6 = .ok (.areturn, 1) := dk_176 (dk_at dksJ10_newBytesFor_0 6 rfl rfl)
abbrev cJ10_newBytesLength : ByteArray := prog_49_method_3_code
def yJ10_newBytesLength : MethodName := ⟨RJ10, "newBytesLength", "(I)I"⟩
def dkwJ10_newBytesLength_2 : List UInt8 := [182, 0, 32, 182, 0, 37, 183, 0, 41, 191, 26, 4, 120, 172]
abbrev dktJ10_newBytesLength_2 : List UInt8 := dkwJ10_newBytesLength_2 ++ []
def dkwJ10_newBytesLength_1 : List UInt8 := [187, 0, 23, 89, 183, 0, 25, 18, 26, 182, 0, 28, 26, 182, 0, 32, 18, 35, 182, 0, 28, 18, 20]
abbrev dktJ10_newBytesLength_1 : List UInt8 := dkwJ10_newBytesLength_1 ++ dktJ10_newBytesLength_2
def dkwJ10_newBytesLength_0 : List UInt8 := [26, 156, 0, 11, 187, 0, 17, 89, 183, 0, 19, 191, 26, 18, 20, 161, 0, 40, 187, 0, 21, 89]
abbrev dktJ10_newBytesLength_0 : List UInt8 := dkwJ10_newBytesLength_0 ++ dktJ10_newBytesLength_1
theorem dksJ10_newBytesLength_0 : cJ10_newBytesLength.data.toList.drop 0 = dktJ10_newBytesLength_0 := by decide +kernel
theorem dksJ10_newBytesLength_1 : cJ10_newBytesLength.data.toList.drop 22 = dktJ10_newBytesLength_1 := dk_seg dksJ10_newBytesLength_0 22 rfl rfl
theorem dksJ10_newBytesLength_2 : cJ10_newBytesLength.data.toList.drop 45 = dktJ10_newBytesLength_2 := dk_seg dksJ10_newBytesLength_1 23 rfl rfl
theorem dJ10_newBytesLength_0 : decode cJ10_newBytesLength 0 = .ok (.iload_n 0, 1) := dk_26 (dk_at dksJ10_newBytesLength_0 0 rfl rfl)
theorem dJ10_newBytesLength_1 : decode cJ10_newBytesLength 1 = .ok (.ifCond .ge 11, 3) := dk_156 0 11 (dk_at dksJ10_newBytesLength_0 1 rfl rfl)
theorem dJ10_newBytesLength_4 : decode cJ10_newBytesLength 4 = .ok (.new 17, 3) := dk_187 0 17 (dk_at dksJ10_newBytesLength_0 4 rfl rfl)
theorem dJ10_newBytesLength_7 : decode cJ10_newBytesLength 7 = .ok (.dup, 1) := dk_89 (dk_at dksJ10_newBytesLength_0 7 rfl rfl)
theorem dJ10_newBytesLength_8 : decode cJ10_newBytesLength 8 = .ok (.invokespecial 19, 3) := dk_183 0 19 (dk_at dksJ10_newBytesLength_0 8 rfl rfl)
theorem dJ10_newBytesLength_11 : decode cJ10_newBytesLength 11 = .ok (.athrow, 1) := dk_191 (dk_at dksJ10_newBytesLength_0 11 rfl rfl)
theorem dJ10_newBytesLength_12 : decode cJ10_newBytesLength 12 = .ok (.iload_n 0, 1) := dk_26 (dk_at dksJ10_newBytesLength_0 12 rfl rfl)
theorem dJ10_newBytesLength_13 : decode cJ10_newBytesLength 13 = .ok (.ldc 20, 2) := dk_18 20 (dk_at dksJ10_newBytesLength_0 13 rfl rfl)
theorem dJ10_newBytesLength_15 : decode cJ10_newBytesLength 15 = .ok (.if_icmp .lt 40, 3) := dk_161 0 40 (dk_at dksJ10_newBytesLength_0 15 rfl rfl)
theorem dJ10_newBytesLength_18 : decode cJ10_newBytesLength 18 = .ok (.new 21, 3) := dk_187 0 21 (dk_at dksJ10_newBytesLength_0 18 rfl rfl)
theorem dJ10_newBytesLength_21 : decode cJ10_newBytesLength 21 = .ok (.dup, 1) := dk_89 (dk_at dksJ10_newBytesLength_0 21 rfl rfl)
theorem dJ10_newBytesLength_22 : decode cJ10_newBytesLength 22 = .ok (.new 23, 3) := dk_187 0 23 (dk_at dksJ10_newBytesLength_1 0 rfl rfl)
theorem dJ10_newBytesLength_25 : decode cJ10_newBytesLength 25 = .ok (.dup, 1) := dk_89 (dk_at dksJ10_newBytesLength_1 3 rfl rfl)
theorem dJ10_newBytesLength_26 : decode cJ10_newBytesLength 26 = .ok (.invokespecial 25, 3) := dk_183 0 25 (dk_at dksJ10_newBytesLength_1 4 rfl rfl)
theorem dJ10_newBytesLength_29 : decode cJ10_newBytesLength 29 = .ok (.ldc 26, 2) := dk_18 26 (dk_at dksJ10_newBytesLength_1 7 rfl rfl)
theorem dJ10_newBytesLength_31 : decode cJ10_newBytesLength 31 = .ok (.invokevirtual 28, 3) := dk_182 0 28 (dk_at dksJ10_newBytesLength_1 9 rfl rfl)
theorem dJ10_newBytesLength_34 : decode cJ10_newBytesLength 34 = .ok (.iload_n 0, 1) := dk_26 (dk_at dksJ10_newBytesLength_1 12 rfl rfl)
theorem dJ10_newBytesLength_35 : decode cJ10_newBytesLength 35 = .ok (.invokevirtual 32, 3) := dk_182 0 32 (dk_at dksJ10_newBytesLength_1 13 rfl rfl)
theorem dJ10_newBytesLength_38 : decode cJ10_newBytesLength 38 = .ok (.ldc 35, 2) := dk_18 35 (dk_at dksJ10_newBytesLength_1 16 rfl rfl)
theorem dJ10_newBytesLength_40 : decode cJ10_newBytesLength 40 = .ok (.invokevirtual 28, 3) := dk_182 0 28 (dk_at dksJ10_newBytesLength_1 18 rfl rfl)
theorem dJ10_newBytesLength_43 : decode cJ10_newBytesLength 43 = .ok (.ldc 20, 2) := dk_18 20 (dk_at dksJ10_newBytesLength_1 21 rfl rfl)
theorem dJ10_newBytesLength_45 : decode cJ10_newBytesLength 45 = .ok (.invokevirtual 32, 3) := dk_182 0 32 (dk_at dksJ10_newBytesLength_2 0 rfl rfl)
theorem dJ10_newBytesLength_48 : decode cJ10_newBytesLength 48 = .ok (.invokevirtual 37, 3) := dk_182 0 37 (dk_at dksJ10_newBytesLength_2 3 rfl rfl)
theorem dJ10_newBytesLength_51 : decode cJ10_newBytesLength 51 = .ok (.invokespecial 41, 3) := dk_183 0 41 (dk_at dksJ10_newBytesLength_2 6 rfl rfl)
theorem dJ10_newBytesLength_54 : decode cJ10_newBytesLength 54 = .ok (.athrow, 1) := dk_191 (dk_at dksJ10_newBytesLength_2 9 rfl rfl)
theorem dJ10_newBytesLength_55 : decode cJ10_newBytesLength 55 = .ok (.iload_n 0, 1) := dk_26 (dk_at dksJ10_newBytesLength_2 10 rfl rfl)
theorem dJ10_newBytesLength_56 : decode cJ10_newBytesLength 56 = .ok (.iconst 1, 1) := dk_4 (dk_at dksJ10_newBytesLength_2 11 rfl rfl)
theorem dJ10_newBytesLength_57 : decode cJ10_newBytesLength 57 = .ok (.ishl, 1) := dk_120 (dk_at dksJ10_newBytesLength_2 12 rfl rfl)
theorem dJ10_newBytesLength_58 : decode cJ10_newBytesLength 58 = .ok (.ireturn, 1) := dk_172 (dk_at dksJ10_newBytesLength_2 13 rfl rfl)
abbrev cJ10_putCharsAt : ByteArray := prog_49_method_81_code
def yJ10_putCharsAt : MethodName := ⟨RJ10, "putCharsAt", "([BICCCC)I"⟩
def dkwJ10_putCharsAt_3 : List UInt8 := [21, 6, 172]
abbrev dktJ10_putCharsAt_3 : List UInt8 := dkwJ10_putCharsAt_3 ++ []
def dkwJ10_putCharsAt_2 : List UInt8 := [184, 0, 111, 178, 0, 44, 154, 0, 17, 27, 21, 6, 159, 0, 11, 187, 0, 52, 89, 183, 0, 66, 191]
abbrev dktJ10_putCharsAt_2 : List UInt8 := dkwJ10_putCharsAt_2 ++ dktJ10_putCharsAt_3
def dkwJ10_putCharsAt_1 : List UInt8 := [132, 1, 1, 29, 184, 0, 111, 42, 27, 132, 1, 1, 21, 4, 184, 0, 111, 42, 27, 132, 1, 1, 21, 5]
abbrev dktJ10_putCharsAt_1 : List UInt8 := dkwJ10_putCharsAt_1 ++ dktJ10_putCharsAt_2
def dkwJ10_putCharsAt_0 : List UInt8 := [27, 7, 96, 54, 6, 27, 21, 6, 42, 184, 0, 96, 42, 27, 132, 1, 1, 28, 184, 0, 111, 42, 27]
abbrev dktJ10_putCharsAt_0 : List UInt8 := dkwJ10_putCharsAt_0 ++ dktJ10_putCharsAt_1
theorem dksJ10_putCharsAt_0 : cJ10_putCharsAt.data.toList.drop 0 = dktJ10_putCharsAt_0 := by decide +kernel
theorem dksJ10_putCharsAt_1 : cJ10_putCharsAt.data.toList.drop 23 = dktJ10_putCharsAt_1 := dk_seg dksJ10_putCharsAt_0 23 rfl rfl
theorem dksJ10_putCharsAt_2 : cJ10_putCharsAt.data.toList.drop 47 = dktJ10_putCharsAt_2 := dk_seg dksJ10_putCharsAt_1 24 rfl rfl
theorem dksJ10_putCharsAt_3 : cJ10_putCharsAt.data.toList.drop 70 = dktJ10_putCharsAt_3 := dk_seg dksJ10_putCharsAt_2 23 rfl rfl
theorem dJ10_putCharsAt_0 : decode cJ10_putCharsAt 0 = .ok (.iload_n 1, 1) := dk_27 (dk_at dksJ10_putCharsAt_0 0 rfl rfl)
theorem dJ10_putCharsAt_1 : decode cJ10_putCharsAt 1 = .ok (.iconst 4, 1) := dk_7 (dk_at dksJ10_putCharsAt_0 1 rfl rfl)
theorem dJ10_putCharsAt_2 : decode cJ10_putCharsAt 2 = .ok (.iadd, 1) := dk_96 (dk_at dksJ10_putCharsAt_0 2 rfl rfl)
theorem dJ10_putCharsAt_3 : decode cJ10_putCharsAt 3 = .ok (.istore 6, 2) := dk_54 6 (dk_at dksJ10_putCharsAt_0 3 rfl rfl)
theorem dJ10_putCharsAt_5 : decode cJ10_putCharsAt 5 = .ok (.iload_n 1, 1) := dk_27 (dk_at dksJ10_putCharsAt_0 5 rfl rfl)
theorem dJ10_putCharsAt_6 : decode cJ10_putCharsAt 6 = .ok (.iload 6, 2) := dk_21 6 (dk_at dksJ10_putCharsAt_0 6 rfl rfl)
theorem dJ10_putCharsAt_8 : decode cJ10_putCharsAt 8 = .ok (.aload_n 0, 1) := dk_42 (dk_at dksJ10_putCharsAt_0 8 rfl rfl)
theorem dJ10_putCharsAt_9 : decode cJ10_putCharsAt 9 = .ok (.invokestatic 96, 3) := dk_184 0 96 (dk_at dksJ10_putCharsAt_0 9 rfl rfl)
theorem dJ10_putCharsAt_12 : decode cJ10_putCharsAt 12 = .ok (.aload_n 0, 1) := dk_42 (dk_at dksJ10_putCharsAt_0 12 rfl rfl)
theorem dJ10_putCharsAt_13 : decode cJ10_putCharsAt 13 = .ok (.iload_n 1, 1) := dk_27 (dk_at dksJ10_putCharsAt_0 13 rfl rfl)
theorem dJ10_putCharsAt_14 : decode cJ10_putCharsAt 14 = .ok (.iinc 1 1, 3) := dk_132 1 1 (dk_at dksJ10_putCharsAt_0 14 rfl rfl)
theorem dJ10_putCharsAt_17 : decode cJ10_putCharsAt 17 = .ok (.iload_n 2, 1) := dk_28 (dk_at dksJ10_putCharsAt_0 17 rfl rfl)
theorem dJ10_putCharsAt_18 : decode cJ10_putCharsAt 18 = .ok (.invokestatic 111, 3) := dk_184 0 111 (dk_at dksJ10_putCharsAt_0 18 rfl rfl)
theorem dJ10_putCharsAt_21 : decode cJ10_putCharsAt 21 = .ok (.aload_n 0, 1) := dk_42 (dk_at dksJ10_putCharsAt_0 21 rfl rfl)
theorem dJ10_putCharsAt_22 : decode cJ10_putCharsAt 22 = .ok (.iload_n 1, 1) := dk_27 (dk_at dksJ10_putCharsAt_0 22 rfl rfl)
theorem dJ10_putCharsAt_23 : decode cJ10_putCharsAt 23 = .ok (.iinc 1 1, 3) := dk_132 1 1 (dk_at dksJ10_putCharsAt_1 0 rfl rfl)
theorem dJ10_putCharsAt_26 : decode cJ10_putCharsAt 26 = .ok (.iload_n 3, 1) := dk_29 (dk_at dksJ10_putCharsAt_1 3 rfl rfl)
theorem dJ10_putCharsAt_27 : decode cJ10_putCharsAt 27 = .ok (.invokestatic 111, 3) := dk_184 0 111 (dk_at dksJ10_putCharsAt_1 4 rfl rfl)
theorem dJ10_putCharsAt_30 : decode cJ10_putCharsAt 30 = .ok (.aload_n 0, 1) := dk_42 (dk_at dksJ10_putCharsAt_1 7 rfl rfl)
theorem dJ10_putCharsAt_31 : decode cJ10_putCharsAt 31 = .ok (.iload_n 1, 1) := dk_27 (dk_at dksJ10_putCharsAt_1 8 rfl rfl)
theorem dJ10_putCharsAt_32 : decode cJ10_putCharsAt 32 = .ok (.iinc 1 1, 3) := dk_132 1 1 (dk_at dksJ10_putCharsAt_1 9 rfl rfl)
theorem dJ10_putCharsAt_35 : decode cJ10_putCharsAt 35 = .ok (.iload 4, 2) := dk_21 4 (dk_at dksJ10_putCharsAt_1 12 rfl rfl)
theorem dJ10_putCharsAt_37 : decode cJ10_putCharsAt 37 = .ok (.invokestatic 111, 3) := dk_184 0 111 (dk_at dksJ10_putCharsAt_1 14 rfl rfl)
theorem dJ10_putCharsAt_40 : decode cJ10_putCharsAt 40 = .ok (.aload_n 0, 1) := dk_42 (dk_at dksJ10_putCharsAt_1 17 rfl rfl)
theorem dJ10_putCharsAt_41 : decode cJ10_putCharsAt 41 = .ok (.iload_n 1, 1) := dk_27 (dk_at dksJ10_putCharsAt_1 18 rfl rfl)
theorem dJ10_putCharsAt_42 : decode cJ10_putCharsAt 42 = .ok (.iinc 1 1, 3) := dk_132 1 1 (dk_at dksJ10_putCharsAt_1 19 rfl rfl)
theorem dJ10_putCharsAt_45 : decode cJ10_putCharsAt 45 = .ok (.iload 5, 2) := dk_21 5 (dk_at dksJ10_putCharsAt_1 22 rfl rfl)
theorem dJ10_putCharsAt_47 : decode cJ10_putCharsAt 47 = .ok (.invokestatic 111, 3) := dk_184 0 111 (dk_at dksJ10_putCharsAt_2 0 rfl rfl)
theorem dJ10_putCharsAt_50 : decode cJ10_putCharsAt 50 = .ok (.getstatic 44, 3) := dk_178 0 44 (dk_at dksJ10_putCharsAt_2 3 rfl rfl)
theorem dJ10_putCharsAt_53 : decode cJ10_putCharsAt 53 = .ok (.ifCond .ne 17, 3) := dk_154 0 17 (dk_at dksJ10_putCharsAt_2 6 rfl rfl)
theorem dJ10_putCharsAt_56 : decode cJ10_putCharsAt 56 = .ok (.iload_n 1, 1) := dk_27 (dk_at dksJ10_putCharsAt_2 9 rfl rfl)
theorem dJ10_putCharsAt_57 : decode cJ10_putCharsAt 57 = .ok (.iload 6, 2) := dk_21 6 (dk_at dksJ10_putCharsAt_2 10 rfl rfl)
theorem dJ10_putCharsAt_59 : decode cJ10_putCharsAt 59 = .ok (.if_icmp .eq 11, 3) := dk_159 0 11 (dk_at dksJ10_putCharsAt_2 12 rfl rfl)
theorem dJ10_putCharsAt_62 : decode cJ10_putCharsAt 62 = .ok (.new 52, 3) := dk_187 0 52 (dk_at dksJ10_putCharsAt_2 15 rfl rfl)
theorem dJ10_putCharsAt_65 : decode cJ10_putCharsAt 65 = .ok (.dup, 1) := dk_89 (dk_at dksJ10_putCharsAt_2 18 rfl rfl)
theorem dJ10_putCharsAt_66 : decode cJ10_putCharsAt 66 = .ok (.invokespecial 66, 3) := dk_183 0 66 (dk_at dksJ10_putCharsAt_2 19 rfl rfl)
theorem dJ10_putCharsAt_69 : decode cJ10_putCharsAt 69 = .ok (.athrow, 1) := dk_191 (dk_at dksJ10_putCharsAt_2 22 rfl rfl)
theorem dJ10_putCharsAt_70 : decode cJ10_putCharsAt 70 = .ok (.iload 6, 2) := dk_21 6 (dk_at dksJ10_putCharsAt_3 0 rfl rfl)
theorem dJ10_putCharsAt_72 : decode cJ10_putCharsAt 72 = .ok (.ireturn, 1) := dk_172 (dk_at dksJ10_putCharsAt_3 2 rfl rfl)
abbrev cJ10_checkBoundsBeginEnd : ByteArray := prog_49_method_93_code
def yJ10_checkBoundsBeginEnd : MethodName := ⟨RJ10, "checkBoundsBeginEnd", "(II[B)V"⟩
def dkwJ10_checkBoundsBeginEnd_0 : List UInt8 := [26, 27, 44, 184, 0, 48, 184, 0, 241, 177]
abbrev dktJ10_checkBoundsBeginEnd_0 : List UInt8 := dkwJ10_checkBoundsBeginEnd_0 ++ []
theorem dksJ10_checkBoundsBeginEnd_0 : cJ10_checkBoundsBeginEnd.data.toList.drop 0 = dktJ10_checkBoundsBeginEnd_0 := by decide +kernel
theorem dJ10_checkBoundsBeginEnd_0 : decode cJ10_checkBoundsBeginEnd 0 = .ok (.iload_n 0, 1) := dk_26 (dk_at dksJ10_checkBoundsBeginEnd_0 0 rfl rfl)
theorem dJ10_checkBoundsBeginEnd_1 : decode cJ10_checkBoundsBeginEnd 1 = .ok (.iload_n 1, 1) := dk_27 (dk_at dksJ10_checkBoundsBeginEnd_0 1 rfl rfl)
theorem dJ10_checkBoundsBeginEnd_2 : decode cJ10_checkBoundsBeginEnd 2 = .ok (.aload_n 2, 1) := dk_44 (dk_at dksJ10_checkBoundsBeginEnd_0 2 rfl rfl)
theorem dJ10_checkBoundsBeginEnd_3 : decode cJ10_checkBoundsBeginEnd 3 = .ok (.invokestatic 48, 3) := dk_184 0 48 (dk_at dksJ10_checkBoundsBeginEnd_0 3 rfl rfl)
theorem dJ10_checkBoundsBeginEnd_6 : decode cJ10_checkBoundsBeginEnd 6 = .ok (.invokestatic 241, 3) := dk_184 0 241 (dk_at dksJ10_checkBoundsBeginEnd_0 6 rfl rfl)
theorem dJ10_checkBoundsBeginEnd_9 : decode cJ10_checkBoundsBeginEnd 9 = .ok (.return_, 1) := dk_177 (dk_at dksJ10_checkBoundsBeginEnd_0 9 rfl rfl)
abbrev cJ10_length : ByteArray := prog_49_method_6_code
def yJ10_length : MethodName := ⟨RJ10, "length", "([B)I"⟩
def dkwJ10_length_0 : List UInt8 := [42, 190, 4, 122, 172]
abbrev dktJ10_length_0 : List UInt8 := dkwJ10_length_0 ++ []
theorem dksJ10_length_0 : cJ10_length.data.toList.drop 0 = dktJ10_length_0 := by decide +kernel
theorem dJ10_length_0 : decode cJ10_length 0 = .ok (.aload_n 0, 1) := dk_42 (dk_at dksJ10_length_0 0 rfl rfl)
theorem dJ10_length_1 : decode cJ10_length 1 = .ok (.arraylength, 1) := dk_190 (dk_at dksJ10_length_0 1 rfl rfl)
theorem dJ10_length_2 : decode cJ10_length 2 = .ok (.iconst 1, 1) := dk_4 (dk_at dksJ10_length_0 2 rfl rfl)
theorem dJ10_length_3 : decode cJ10_length 3 = .ok (.ishr, 1) := dk_122 (dk_at dksJ10_length_0 3 rfl rfl)
theorem dJ10_length_4 : decode cJ10_length 4 = .ok (.ireturn, 1) := dk_172 (dk_at dksJ10_length_0 4 rfl rfl)
abbrev cJ10_putChar : ByteArray := prog_49_method_4_code
def yJ10_putChar : MethodName := ⟨RJ10, "putChar", "([BII)V"⟩
def dkwJ10_putChar_2 : List UInt8 := [178, 0, 63, 122, 145, 84, 177]
abbrev dktJ10_putChar_2 : List UInt8 := dkwJ10_putChar_2 ++ []
def dkwJ10_putChar_1 : List UInt8 := [183, 0, 56, 191, 27, 4, 120, 60, 42, 27, 132, 1, 1, 28, 178, 0, 59, 122, 145, 84, 42, 27, 28]
abbrev dktJ10_putChar_1 : List UInt8 := dkwJ10_putChar_1 ++ dktJ10_putChar_2
def dkwJ10_putChar_0 : List UInt8 := [178, 0, 44, 154, 0, 25, 27, 155, 0, 11, 27, 42, 184, 0, 48, 161, 0, 13, 187, 0, 52, 89, 18, 54]
abbrev dktJ10_putChar_0 : List UInt8 := dkwJ10_putChar_0 ++ dktJ10_putChar_1
theorem dksJ10_putChar_0 : cJ10_putChar.data.toList.drop 0 = dktJ10_putChar_0 := by decide +kernel
theorem dksJ10_putChar_1 : cJ10_putChar.data.toList.drop 24 = dktJ10_putChar_1 := dk_seg dksJ10_putChar_0 24 rfl rfl
theorem dksJ10_putChar_2 : cJ10_putChar.data.toList.drop 47 = dktJ10_putChar_2 := dk_seg dksJ10_putChar_1 23 rfl rfl
theorem dJ10_putChar_0 : decode cJ10_putChar 0 = .ok (.getstatic 44, 3) := dk_178 0 44 (dk_at dksJ10_putChar_0 0 rfl rfl)
theorem dJ10_putChar_3 : decode cJ10_putChar 3 = .ok (.ifCond .ne 25, 3) := dk_154 0 25 (dk_at dksJ10_putChar_0 3 rfl rfl)
theorem dJ10_putChar_6 : decode cJ10_putChar 6 = .ok (.iload_n 1, 1) := dk_27 (dk_at dksJ10_putChar_0 6 rfl rfl)
theorem dJ10_putChar_7 : decode cJ10_putChar 7 = .ok (.ifCond .lt 11, 3) := dk_155 0 11 (dk_at dksJ10_putChar_0 7 rfl rfl)
theorem dJ10_putChar_10 : decode cJ10_putChar 10 = .ok (.iload_n 1, 1) := dk_27 (dk_at dksJ10_putChar_0 10 rfl rfl)
theorem dJ10_putChar_11 : decode cJ10_putChar 11 = .ok (.aload_n 0, 1) := dk_42 (dk_at dksJ10_putChar_0 11 rfl rfl)
theorem dJ10_putChar_12 : decode cJ10_putChar 12 = .ok (.invokestatic 48, 3) := dk_184 0 48 (dk_at dksJ10_putChar_0 12 rfl rfl)
theorem dJ10_putChar_15 : decode cJ10_putChar 15 = .ok (.if_icmp .lt 13, 3) := dk_161 0 13 (dk_at dksJ10_putChar_0 15 rfl rfl)
theorem dJ10_putChar_18 : decode cJ10_putChar 18 = .ok (.new 52, 3) := dk_187 0 52 (dk_at dksJ10_putChar_0 18 rfl rfl)
theorem dJ10_putChar_21 : decode cJ10_putChar 21 = .ok (.dup, 1) := dk_89 (dk_at dksJ10_putChar_0 21 rfl rfl)
theorem dJ10_putChar_22 : decode cJ10_putChar 22 = .ok (.ldc 54, 2) := dk_18 54 (dk_at dksJ10_putChar_0 22 rfl rfl)
theorem dJ10_putChar_24 : decode cJ10_putChar 24 = .ok (.invokespecial 56, 3) := dk_183 0 56 (dk_at dksJ10_putChar_1 0 rfl rfl)
theorem dJ10_putChar_27 : decode cJ10_putChar 27 = .ok (.athrow, 1) := dk_191 (dk_at dksJ10_putChar_1 3 rfl rfl)
theorem dJ10_putChar_28 : decode cJ10_putChar 28 = .ok (.iload_n 1, 1) := dk_27 (dk_at dksJ10_putChar_1 4 rfl rfl)
theorem dJ10_putChar_29 : decode cJ10_putChar 29 = .ok (.iconst 1, 1) := dk_4 (dk_at dksJ10_putChar_1 5 rfl rfl)
theorem dJ10_putChar_30 : decode cJ10_putChar 30 = .ok (.ishl, 1) := dk_120 (dk_at dksJ10_putChar_1 6 rfl rfl)
theorem dJ10_putChar_31 : decode cJ10_putChar 31 = .ok (.istore_n 1, 1) := dk_60 (dk_at dksJ10_putChar_1 7 rfl rfl)
theorem dJ10_putChar_32 : decode cJ10_putChar 32 = .ok (.aload_n 0, 1) := dk_42 (dk_at dksJ10_putChar_1 8 rfl rfl)
theorem dJ10_putChar_33 : decode cJ10_putChar 33 = .ok (.iload_n 1, 1) := dk_27 (dk_at dksJ10_putChar_1 9 rfl rfl)
theorem dJ10_putChar_34 : decode cJ10_putChar 34 = .ok (.iinc 1 1, 3) := dk_132 1 1 (dk_at dksJ10_putChar_1 10 rfl rfl)
theorem dJ10_putChar_37 : decode cJ10_putChar 37 = .ok (.iload_n 2, 1) := dk_28 (dk_at dksJ10_putChar_1 13 rfl rfl)
theorem dJ10_putChar_38 : decode cJ10_putChar 38 = .ok (.getstatic 59, 3) := dk_178 0 59 (dk_at dksJ10_putChar_1 14 rfl rfl)
theorem dJ10_putChar_41 : decode cJ10_putChar 41 = .ok (.ishr, 1) := dk_122 (dk_at dksJ10_putChar_1 17 rfl rfl)
theorem dJ10_putChar_42 : decode cJ10_putChar 42 = .ok (.i2b, 1) := dk_145 (dk_at dksJ10_putChar_1 18 rfl rfl)
theorem dJ10_putChar_43 : decode cJ10_putChar 43 = .ok (.bastore, 1) := dk_84 (dk_at dksJ10_putChar_1 19 rfl rfl)
theorem dJ10_putChar_44 : decode cJ10_putChar 44 = .ok (.aload_n 0, 1) := dk_42 (dk_at dksJ10_putChar_1 20 rfl rfl)
theorem dJ10_putChar_45 : decode cJ10_putChar 45 = .ok (.iload_n 1, 1) := dk_27 (dk_at dksJ10_putChar_1 21 rfl rfl)
theorem dJ10_putChar_46 : decode cJ10_putChar 46 = .ok (.iload_n 2, 1) := dk_28 (dk_at dksJ10_putChar_1 22 rfl rfl)
theorem dJ10_putChar_47 : decode cJ10_putChar 47 = .ok (.getstatic 63, 3) := dk_178 0 63 (dk_at dksJ10_putChar_2 0 rfl rfl)
theorem dJ10_putChar_50 : decode cJ10_putChar 50 = .ok (.ishr, 1) := dk_122 (dk_at dksJ10_putChar_2 3 rfl rfl)
theorem dJ10_putChar_51 : decode cJ10_putChar 51 = .ok (.i2b, 1) := dk_145 (dk_at dksJ10_putChar_2 4 rfl rfl)
theorem dJ10_putChar_52 : decode cJ10_putChar 52 = .ok (.bastore, 1) := dk_84 (dk_at dksJ10_putChar_2 5 rfl rfl)
theorem dJ10_putChar_53 : decode cJ10_putChar 53 = .ok (.return_, 1) := dk_177 (dk_at dksJ10_putChar_2 6 rfl rfl)
abbrev cJ10_inflate : ByteArray := prog_49_method_86_code
def yJ10_inflate : MethodName := ⟨RJ10, "inflate", "([BI[BII)V"⟩
def dkwJ10_inflate_1 : List UInt8 := [132, 1, 1, 51, 17, 0, 255, 126, 184, 0, 111, 132, 5, 1, 167, 255, 228, 177]
abbrev dktJ10_inflate_1 : List UInt8 := dkwJ10_inflate_1 ++ []
def dkwJ10_inflate_0 : List UInt8 := [29, 21, 4, 44, 184, 0, 173, 3, 54, 5, 21, 5, 21, 4, 162, 0, 27, 44, 29, 132, 3, 1, 42, 27]
abbrev dktJ10_inflate_0 : List UInt8 := dkwJ10_inflate_0 ++ dktJ10_inflate_1
theorem dksJ10_inflate_0 : cJ10_inflate.data.toList.drop 0 = dktJ10_inflate_0 := by decide +kernel
theorem dksJ10_inflate_1 : cJ10_inflate.data.toList.drop 24 = dktJ10_inflate_1 := dk_seg dksJ10_inflate_0 24 rfl rfl
theorem dJ10_inflate_0 : decode cJ10_inflate 0 = .ok (.iload_n 3, 1) := dk_29 (dk_at dksJ10_inflate_0 0 rfl rfl)
theorem dJ10_inflate_1 : decode cJ10_inflate 1 = .ok (.iload 4, 2) := dk_21 4 (dk_at dksJ10_inflate_0 1 rfl rfl)
theorem dJ10_inflate_3 : decode cJ10_inflate 3 = .ok (.aload_n 2, 1) := dk_44 (dk_at dksJ10_inflate_0 3 rfl rfl)
theorem dJ10_inflate_4 : decode cJ10_inflate 4 = .ok (.invokestatic 173, 3) := dk_184 0 173 (dk_at dksJ10_inflate_0 4 rfl rfl)
theorem dJ10_inflate_7 : decode cJ10_inflate 7 = .ok (.iconst 0, 1) := dk_3 (dk_at dksJ10_inflate_0 7 rfl rfl)
theorem dJ10_inflate_8 : decode cJ10_inflate 8 = .ok (.istore 5, 2) := dk_54 5 (dk_at dksJ10_inflate_0 8 rfl rfl)
theorem dJ10_inflate_10 : decode cJ10_inflate 10 = .ok (.iload 5, 2) := dk_21 5 (dk_at dksJ10_inflate_0 10 rfl rfl)
theorem dJ10_inflate_12 : decode cJ10_inflate 12 = .ok (.iload 4, 2) := dk_21 4 (dk_at dksJ10_inflate_0 12 rfl rfl)
theorem dJ10_inflate_14 : decode cJ10_inflate 14 = .ok (.if_icmp .ge 27, 3) := dk_162 0 27 (dk_at dksJ10_inflate_0 14 rfl rfl)
theorem dJ10_inflate_17 : decode cJ10_inflate 17 = .ok (.aload_n 2, 1) := dk_44 (dk_at dksJ10_inflate_0 17 rfl rfl)
theorem dJ10_inflate_18 : decode cJ10_inflate 18 = .ok (.iload_n 3, 1) := dk_29 (dk_at dksJ10_inflate_0 18 rfl rfl)
theorem dJ10_inflate_19 : decode cJ10_inflate 19 = .ok (.iinc 3 1, 3) := dk_132 3 1 (dk_at dksJ10_inflate_0 19 rfl rfl)
theorem dJ10_inflate_22 : decode cJ10_inflate 22 = .ok (.aload_n 0, 1) := dk_42 (dk_at dksJ10_inflate_0 22 rfl rfl)
theorem dJ10_inflate_23 : decode cJ10_inflate 23 = .ok (.iload_n 1, 1) := dk_27 (dk_at dksJ10_inflate_0 23 rfl rfl)
theorem dJ10_inflate_24 : decode cJ10_inflate 24 = .ok (.iinc 1 1, 3) := dk_132 1 1 (dk_at dksJ10_inflate_1 0 rfl rfl)
theorem dJ10_inflate_27 : decode cJ10_inflate 27 = .ok (.baload, 1) := dk_51 (dk_at dksJ10_inflate_1 3 rfl rfl)
theorem dJ10_inflate_28 : decode cJ10_inflate 28 = .ok (.sipush 255, 3) := dk_17 0 255 (dk_at dksJ10_inflate_1 4 rfl rfl)
theorem dJ10_inflate_31 : decode cJ10_inflate 31 = .ok (.iand, 1) := dk_126 (dk_at dksJ10_inflate_1 7 rfl rfl)
theorem dJ10_inflate_32 : decode cJ10_inflate 32 = .ok (.invokestatic 111, 3) := dk_184 0 111 (dk_at dksJ10_inflate_1 8 rfl rfl)
theorem dJ10_inflate_35 : decode cJ10_inflate 35 = .ok (.iinc 5 1, 3) := dk_132 5 1 (dk_at dksJ10_inflate_1 11 rfl rfl)
theorem dJ10_inflate_38 : decode cJ10_inflate 38 = .ok (.goto (-28), 3) := dk_167 255 228 (dk_at dksJ10_inflate_1 14 rfl rfl)
theorem dJ10_inflate_41 : decode cJ10_inflate 41 = .ok (.return_, 1) := dk_177 (dk_at dksJ10_inflate_1 17 rfl rfl)
abbrev cJ10_checkBoundsOffCount : ByteArray := prog_49_method_94_code
def yJ10_checkBoundsOffCount : MethodName := ⟨RJ10, "checkBoundsOffCount", "(II[B)V"⟩
def dkwJ10_checkBoundsOffCount_0 : List UInt8 := [26, 27, 44, 184, 0, 48, 184, 1, 163, 87, 177]
abbrev dktJ10_checkBoundsOffCount_0 : List UInt8 := dkwJ10_checkBoundsOffCount_0 ++ []
theorem dksJ10_checkBoundsOffCount_0 : cJ10_checkBoundsOffCount.data.toList.drop 0 = dktJ10_checkBoundsOffCount_0 := by decide +kernel
theorem dJ10_checkBoundsOffCount_0 : decode cJ10_checkBoundsOffCount 0 = .ok (.iload_n 0, 1) := dk_26 (dk_at dksJ10_checkBoundsOffCount_0 0 rfl rfl)
theorem dJ10_checkBoundsOffCount_1 : decode cJ10_checkBoundsOffCount 1 = .ok (.iload_n 1, 1) := dk_27 (dk_at dksJ10_checkBoundsOffCount_0 1 rfl rfl)
theorem dJ10_checkBoundsOffCount_2 : decode cJ10_checkBoundsOffCount 2 = .ok (.aload_n 2, 1) := dk_44 (dk_at dksJ10_checkBoundsOffCount_0 2 rfl rfl)
theorem dJ10_checkBoundsOffCount_3 : decode cJ10_checkBoundsOffCount 3 = .ok (.invokestatic 48, 3) := dk_184 0 48 (dk_at dksJ10_checkBoundsOffCount_0 3 rfl rfl)
theorem dJ10_checkBoundsOffCount_6 : decode cJ10_checkBoundsOffCount 6 = .ok (.invokestatic 419, 3) := dk_184 1 163 (dk_at dksJ10_checkBoundsOffCount_0 6 rfl rfl)
theorem dJ10_checkBoundsOffCount_9 : decode cJ10_checkBoundsOffCount 9 = .ok (.pop, 1) := dk_87 (dk_at dksJ10_checkBoundsOffCount_0 9 rfl rfl)
theorem dJ10_checkBoundsOffCount_10 : decode cJ10_checkBoundsOffCount 10 = .ok (.return_, 1) := dk_177 (dk_at dksJ10_checkBoundsOffCount_0 10 rfl rfl)
abbrev cJ10_compress : ByteArray := prog_49_method_17_code
def yJ10_compress : MethodName := ⟨RJ10, "compress", "([BII)[B"⟩
def dkwJ10_compress_2 : List UInt8 := [25, 5, 3, 45, 3, 28, 184, 0, 123, 28, 159, 0, 6, 25, 5, 176, 45, 176]
abbrev dktJ10_compress_2 : List UInt8 := dkwJ10_compress_2 ++ []
def dkwJ10_compress_1 : List UInt8 := [27, 28, 96, 184, 0, 11, 184, 0, 126, 58, 5, 25, 5, 21, 4, 184, 0, 71, 17, 0, 255, 163, 0, 16]
abbrev dktJ10_compress_1 : List UInt8 := dkwJ10_compress_1 ++ dktJ10_compress_2
def dkwJ10_compress_0 : List UInt8 := [28, 188, 8, 78, 42, 27, 45, 3, 28, 184, 0, 123, 54, 4, 21, 4, 28, 159, 0, 47, 42, 27, 4, 120]
abbrev dktJ10_compress_0 : List UInt8 := dkwJ10_compress_0 ++ dktJ10_compress_1
theorem dksJ10_compress_0 : cJ10_compress.data.toList.drop 0 = dktJ10_compress_0 := by decide +kernel
theorem dksJ10_compress_1 : cJ10_compress.data.toList.drop 24 = dktJ10_compress_1 := dk_seg dksJ10_compress_0 24 rfl rfl
theorem dksJ10_compress_2 : cJ10_compress.data.toList.drop 48 = dktJ10_compress_2 := dk_seg dksJ10_compress_1 24 rfl rfl
theorem dJ10_compress_0 : decode cJ10_compress 0 = .ok (.iload_n 2, 1) := dk_28 (dk_at dksJ10_compress_0 0 rfl rfl)
theorem dJ10_compress_1 : decode cJ10_compress 1 = .ok (.newarray .byte, 2) := dk_188_8 (dk_at dksJ10_compress_0 1 rfl rfl)
theorem dJ10_compress_3 : decode cJ10_compress 3 = .ok (.astore_n 3, 1) := dk_78 (dk_at dksJ10_compress_0 3 rfl rfl)
theorem dJ10_compress_4 : decode cJ10_compress 4 = .ok (.aload_n 0, 1) := dk_42 (dk_at dksJ10_compress_0 4 rfl rfl)
theorem dJ10_compress_5 : decode cJ10_compress 5 = .ok (.iload_n 1, 1) := dk_27 (dk_at dksJ10_compress_0 5 rfl rfl)
theorem dJ10_compress_6 : decode cJ10_compress 6 = .ok (.aload_n 3, 1) := dk_45 (dk_at dksJ10_compress_0 6 rfl rfl)
theorem dJ10_compress_7 : decode cJ10_compress 7 = .ok (.iconst 0, 1) := dk_3 (dk_at dksJ10_compress_0 7 rfl rfl)
theorem dJ10_compress_8 : decode cJ10_compress 8 = .ok (.iload_n 2, 1) := dk_28 (dk_at dksJ10_compress_0 8 rfl rfl)
theorem dJ10_compress_9 : decode cJ10_compress 9 = .ok (.invokestatic 123, 3) := dk_184 0 123 (dk_at dksJ10_compress_0 9 rfl rfl)
theorem dJ10_compress_12 : decode cJ10_compress 12 = .ok (.istore 4, 2) := dk_54 4 (dk_at dksJ10_compress_0 12 rfl rfl)
theorem dJ10_compress_14 : decode cJ10_compress 14 = .ok (.iload 4, 2) := dk_21 4 (dk_at dksJ10_compress_0 14 rfl rfl)
theorem dJ10_compress_16 : decode cJ10_compress 16 = .ok (.iload_n 2, 1) := dk_28 (dk_at dksJ10_compress_0 16 rfl rfl)
theorem dJ10_compress_17 : decode cJ10_compress 17 = .ok (.if_icmp .eq 47, 3) := dk_159 0 47 (dk_at dksJ10_compress_0 17 rfl rfl)
theorem dJ10_compress_20 : decode cJ10_compress 20 = .ok (.aload_n 0, 1) := dk_42 (dk_at dksJ10_compress_0 20 rfl rfl)
theorem dJ10_compress_21 : decode cJ10_compress 21 = .ok (.iload_n 1, 1) := dk_27 (dk_at dksJ10_compress_0 21 rfl rfl)
theorem dJ10_compress_22 : decode cJ10_compress 22 = .ok (.iconst 1, 1) := dk_4 (dk_at dksJ10_compress_0 22 rfl rfl)
theorem dJ10_compress_23 : decode cJ10_compress 23 = .ok (.ishl, 1) := dk_120 (dk_at dksJ10_compress_0 23 rfl rfl)
theorem dJ10_compress_24 : decode cJ10_compress 24 = .ok (.iload_n 1, 1) := dk_27 (dk_at dksJ10_compress_1 0 rfl rfl)
theorem dJ10_compress_25 : decode cJ10_compress 25 = .ok (.iload_n 2, 1) := dk_28 (dk_at dksJ10_compress_1 1 rfl rfl)
theorem dJ10_compress_26 : decode cJ10_compress 26 = .ok (.iadd, 1) := dk_96 (dk_at dksJ10_compress_1 2 rfl rfl)
theorem dJ10_compress_27 : decode cJ10_compress 27 = .ok (.invokestatic 11, 3) := dk_184 0 11 (dk_at dksJ10_compress_1 3 rfl rfl)
theorem dJ10_compress_30 : decode cJ10_compress 30 = .ok (.invokestatic 126, 3) := dk_184 0 126 (dk_at dksJ10_compress_1 6 rfl rfl)
theorem dJ10_compress_33 : decode cJ10_compress 33 = .ok (.astore 5, 2) := dk_58 5 (dk_at dksJ10_compress_1 9 rfl rfl)
theorem dJ10_compress_35 : decode cJ10_compress 35 = .ok (.aload 5, 2) := dk_25 5 (dk_at dksJ10_compress_1 11 rfl rfl)
theorem dJ10_compress_37 : decode cJ10_compress 37 = .ok (.iload 4, 2) := dk_21 4 (dk_at dksJ10_compress_1 13 rfl rfl)
theorem dJ10_compress_39 : decode cJ10_compress 39 = .ok (.invokestatic 71, 3) := dk_184 0 71 (dk_at dksJ10_compress_1 15 rfl rfl)
theorem dJ10_compress_42 : decode cJ10_compress 42 = .ok (.sipush 255, 3) := dk_17 0 255 (dk_at dksJ10_compress_1 18 rfl rfl)
theorem dJ10_compress_45 : decode cJ10_compress 45 = .ok (.if_icmp .gt 16, 3) := dk_163 0 16 (dk_at dksJ10_compress_1 21 rfl rfl)
theorem dJ10_compress_48 : decode cJ10_compress 48 = .ok (.aload 5, 2) := dk_25 5 (dk_at dksJ10_compress_2 0 rfl rfl)
theorem dJ10_compress_50 : decode cJ10_compress 50 = .ok (.iconst 0, 1) := dk_3 (dk_at dksJ10_compress_2 2 rfl rfl)
theorem dJ10_compress_51 : decode cJ10_compress 51 = .ok (.aload_n 3, 1) := dk_45 (dk_at dksJ10_compress_2 3 rfl rfl)
theorem dJ10_compress_52 : decode cJ10_compress 52 = .ok (.iconst 0, 1) := dk_3 (dk_at dksJ10_compress_2 4 rfl rfl)
theorem dJ10_compress_53 : decode cJ10_compress 53 = .ok (.iload_n 2, 1) := dk_28 (dk_at dksJ10_compress_2 5 rfl rfl)
theorem dJ10_compress_54 : decode cJ10_compress 54 = .ok (.invokestatic 123, 3) := dk_184 0 123 (dk_at dksJ10_compress_2 6 rfl rfl)
theorem dJ10_compress_57 : decode cJ10_compress 57 = .ok (.iload_n 2, 1) := dk_28 (dk_at dksJ10_compress_2 9 rfl rfl)
theorem dJ10_compress_58 : decode cJ10_compress 58 = .ok (.if_icmp .eq 6, 3) := dk_159 0 6 (dk_at dksJ10_compress_2 10 rfl rfl)
theorem dJ10_compress_61 : decode cJ10_compress 61 = .ok (.aload 5, 2) := dk_25 5 (dk_at dksJ10_compress_2 13 rfl rfl)
theorem dJ10_compress_63 : decode cJ10_compress 63 = .ok (.areturn, 1) := dk_176 (dk_at dksJ10_compress_2 15 rfl rfl)
theorem dJ10_compress_64 : decode cJ10_compress 64 = .ok (.aload_n 3, 1) := dk_45 (dk_at dksJ10_compress_2 16 rfl rfl)
theorem dJ10_compress_65 : decode cJ10_compress 65 = .ok (.areturn, 1) := dk_176 (dk_at dksJ10_compress_2 17 rfl rfl)
abbrev cJ10_compress_2 : ByteArray := prog_49_method_22_code
def yJ10_compress_2 : MethodName := ⟨RJ10, "compress", "([BI[BII)I"⟩
def dkwJ10_compress_2_2 : List UInt8 := [132, 5, 1, 167, 255, 216, 21, 4, 172]
abbrev dktJ10_compress_2_2 : List UInt8 := dkwJ10_compress_2_2 ++ []
def dkwJ10_compress_2_1 : List UInt8 := [21, 6, 17, 0, 255, 164, 0, 6, 21, 5, 172, 44, 29, 21, 6, 145, 84, 132, 1, 1, 132, 3, 1]
abbrev dktJ10_compress_2_1 : List UInt8 := dkwJ10_compress_2_1 ++ dktJ10_compress_2_2
def dkwJ10_compress_2_0 : List UInt8 := [27, 21, 4, 42, 184, 0, 173, 3, 54, 5, 21, 5, 21, 4, 162, 0, 39, 42, 27, 184, 0, 71, 54, 6]
abbrev dktJ10_compress_2_0 : List UInt8 := dkwJ10_compress_2_0 ++ dktJ10_compress_2_1
theorem dksJ10_compress_2_0 : cJ10_compress_2.data.toList.drop 0 = dktJ10_compress_2_0 := by decide +kernel
theorem dksJ10_compress_2_1 : cJ10_compress_2.data.toList.drop 24 = dktJ10_compress_2_1 := dk_seg dksJ10_compress_2_0 24 rfl rfl
theorem dksJ10_compress_2_2 : cJ10_compress_2.data.toList.drop 47 = dktJ10_compress_2_2 := dk_seg dksJ10_compress_2_1 23 rfl rfl
theorem dJ10_compress_2_0 : decode cJ10_compress_2 0 = .ok (.iload_n 1, 1) := dk_27 (dk_at dksJ10_compress_2_0 0 rfl rfl)
theorem dJ10_compress_2_1 : decode cJ10_compress_2 1 = .ok (.iload 4, 2) := dk_21 4 (dk_at dksJ10_compress_2_0 1 rfl rfl)
theorem dJ10_compress_2_3 : decode cJ10_compress_2 3 = .ok (.aload_n 0, 1) := dk_42 (dk_at dksJ10_compress_2_0 3 rfl rfl)
theorem dJ10_compress_2_4 : decode cJ10_compress_2 4 = .ok (.invokestatic 173, 3) := dk_184 0 173 (dk_at dksJ10_compress_2_0 4 rfl rfl)
theorem dJ10_compress_2_7 : decode cJ10_compress_2 7 = .ok (.iconst 0, 1) := dk_3 (dk_at dksJ10_compress_2_0 7 rfl rfl)
theorem dJ10_compress_2_8 : decode cJ10_compress_2 8 = .ok (.istore 5, 2) := dk_54 5 (dk_at dksJ10_compress_2_0 8 rfl rfl)
theorem dJ10_compress_2_10 : decode cJ10_compress_2 10 = .ok (.iload 5, 2) := dk_21 5 (dk_at dksJ10_compress_2_0 10 rfl rfl)
theorem dJ10_compress_2_12 : decode cJ10_compress_2 12 = .ok (.iload 4, 2) := dk_21 4 (dk_at dksJ10_compress_2_0 12 rfl rfl)
theorem dJ10_compress_2_14 : decode cJ10_compress_2 14 = .ok (.if_icmp .ge 39, 3) := dk_162 0 39 (dk_at dksJ10_compress_2_0 14 rfl rfl)
theorem dJ10_compress_2_17 : decode cJ10_compress_2 17 = .ok (.aload_n 0, 1) := dk_42 (dk_at dksJ10_compress_2_0 17 rfl rfl)
theorem dJ10_compress_2_18 : decode cJ10_compress_2 18 = .ok (.iload_n 1, 1) := dk_27 (dk_at dksJ10_compress_2_0 18 rfl rfl)
theorem dJ10_compress_2_19 : decode cJ10_compress_2 19 = .ok (.invokestatic 71, 3) := dk_184 0 71 (dk_at dksJ10_compress_2_0 19 rfl rfl)
theorem dJ10_compress_2_22 : decode cJ10_compress_2 22 = .ok (.istore 6, 2) := dk_54 6 (dk_at dksJ10_compress_2_0 22 rfl rfl)
theorem dJ10_compress_2_24 : decode cJ10_compress_2 24 = .ok (.iload 6, 2) := dk_21 6 (dk_at dksJ10_compress_2_1 0 rfl rfl)
theorem dJ10_compress_2_26 : decode cJ10_compress_2 26 = .ok (.sipush 255, 3) := dk_17 0 255 (dk_at dksJ10_compress_2_1 2 rfl rfl)
theorem dJ10_compress_2_29 : decode cJ10_compress_2 29 = .ok (.if_icmp .le 6, 3) := dk_164 0 6 (dk_at dksJ10_compress_2_1 5 rfl rfl)
theorem dJ10_compress_2_32 : decode cJ10_compress_2 32 = .ok (.iload 5, 2) := dk_21 5 (dk_at dksJ10_compress_2_1 8 rfl rfl)
theorem dJ10_compress_2_34 : decode cJ10_compress_2 34 = .ok (.ireturn, 1) := dk_172 (dk_at dksJ10_compress_2_1 10 rfl rfl)
theorem dJ10_compress_2_35 : decode cJ10_compress_2 35 = .ok (.aload_n 2, 1) := dk_44 (dk_at dksJ10_compress_2_1 11 rfl rfl)
theorem dJ10_compress_2_36 : decode cJ10_compress_2 36 = .ok (.iload_n 3, 1) := dk_29 (dk_at dksJ10_compress_2_1 12 rfl rfl)
theorem dJ10_compress_2_37 : decode cJ10_compress_2 37 = .ok (.iload 6, 2) := dk_21 6 (dk_at dksJ10_compress_2_1 13 rfl rfl)
theorem dJ10_compress_2_39 : decode cJ10_compress_2 39 = .ok (.i2b, 1) := dk_145 (dk_at dksJ10_compress_2_1 15 rfl rfl)
theorem dJ10_compress_2_40 : decode cJ10_compress_2 40 = .ok (.bastore, 1) := dk_84 (dk_at dksJ10_compress_2_1 16 rfl rfl)
theorem dJ10_compress_2_41 : decode cJ10_compress_2 41 = .ok (.iinc 1 1, 3) := dk_132 1 1 (dk_at dksJ10_compress_2_1 17 rfl rfl)
theorem dJ10_compress_2_44 : decode cJ10_compress_2 44 = .ok (.iinc 3 1, 3) := dk_132 3 1 (dk_at dksJ10_compress_2_1 20 rfl rfl)
theorem dJ10_compress_2_47 : decode cJ10_compress_2 47 = .ok (.iinc 5 1, 3) := dk_132 5 1 (dk_at dksJ10_compress_2_2 0 rfl rfl)
theorem dJ10_compress_2_50 : decode cJ10_compress_2 50 = .ok (.goto (-40), 3) := dk_167 255 216 (dk_at dksJ10_compress_2_2 3 rfl rfl)
theorem dJ10_compress_2_53 : decode cJ10_compress_2 53 = .ok (.iload 4, 2) := dk_21 4 (dk_at dksJ10_compress_2_2 6 rfl rfl)
theorem dJ10_compress_2_55 : decode cJ10_compress_2 55 = .ok (.ireturn, 1) := dk_172 (dk_at dksJ10_compress_2_2 8 rfl rfl)
abbrev cJ10_getChar : ByteArray := prog_49_method_5_code
def yJ10_getChar : MethodName := ⟨RJ10, "getChar", "([BI)C"⟩
def dkwJ10_getChar_2 : List UInt8 := [51, 17, 0, 255, 126, 178, 0, 63, 120, 128, 146, 172]
abbrev dktJ10_getChar_2 : List UInt8 := dkwJ10_getChar_2 ++ []
def dkwJ10_getChar_1 : List UInt8 := [183, 0, 56, 191, 27, 4, 120, 60, 42, 27, 132, 1, 1, 51, 17, 0, 255, 126, 178, 0, 59, 120, 42, 27]
abbrev dktJ10_getChar_1 : List UInt8 := dkwJ10_getChar_1 ++ dktJ10_getChar_2
def dkwJ10_getChar_0 : List UInt8 := [178, 0, 44, 154, 0, 25, 27, 155, 0, 11, 27, 42, 184, 0, 48, 161, 0, 13, 187, 0, 52, 89, 18, 54]
abbrev dktJ10_getChar_0 : List UInt8 := dkwJ10_getChar_0 ++ dktJ10_getChar_1
theorem dksJ10_getChar_0 : cJ10_getChar.data.toList.drop 0 = dktJ10_getChar_0 := by decide +kernel
theorem dksJ10_getChar_1 : cJ10_getChar.data.toList.drop 24 = dktJ10_getChar_1 := dk_seg dksJ10_getChar_0 24 rfl rfl
theorem dksJ10_getChar_2 : cJ10_getChar.data.toList.drop 48 = dktJ10_getChar_2 := dk_seg dksJ10_getChar_1 24 rfl rfl
theorem dJ10_getChar_0 : decode cJ10_getChar 0 = .ok (.getstatic 44, 3) := dk_178 0 44 (dk_at dksJ10_getChar_0 0 rfl rfl)
theorem dJ10_getChar_3 : decode cJ10_getChar 3 = .ok (.ifCond .ne 25, 3) := dk_154 0 25 (dk_at dksJ10_getChar_0 3 rfl rfl)
theorem dJ10_getChar_6 : decode cJ10_getChar 6 = .ok (.iload_n 1, 1) := dk_27 (dk_at dksJ10_getChar_0 6 rfl rfl)
theorem dJ10_getChar_7 : decode cJ10_getChar 7 = .ok (.ifCond .lt 11, 3) := dk_155 0 11 (dk_at dksJ10_getChar_0 7 rfl rfl)
theorem dJ10_getChar_10 : decode cJ10_getChar 10 = .ok (.iload_n 1, 1) := dk_27 (dk_at dksJ10_getChar_0 10 rfl rfl)
theorem dJ10_getChar_11 : decode cJ10_getChar 11 = .ok (.aload_n 0, 1) := dk_42 (dk_at dksJ10_getChar_0 11 rfl rfl)
theorem dJ10_getChar_12 : decode cJ10_getChar 12 = .ok (.invokestatic 48, 3) := dk_184 0 48 (dk_at dksJ10_getChar_0 12 rfl rfl)
theorem dJ10_getChar_15 : decode cJ10_getChar 15 = .ok (.if_icmp .lt 13, 3) := dk_161 0 13 (dk_at dksJ10_getChar_0 15 rfl rfl)
theorem dJ10_getChar_18 : decode cJ10_getChar 18 = .ok (.new 52, 3) := dk_187 0 52 (dk_at dksJ10_getChar_0 18 rfl rfl)
theorem dJ10_getChar_21 : decode cJ10_getChar 21 = .ok (.dup, 1) := dk_89 (dk_at dksJ10_getChar_0 21 rfl rfl)
theorem dJ10_getChar_22 : decode cJ10_getChar 22 = .ok (.ldc 54, 2) := dk_18 54 (dk_at dksJ10_getChar_0 22 rfl rfl)
theorem dJ10_getChar_24 : decode cJ10_getChar 24 = .ok (.invokespecial 56, 3) := dk_183 0 56 (dk_at dksJ10_getChar_1 0 rfl rfl)
theorem dJ10_getChar_27 : decode cJ10_getChar 27 = .ok (.athrow, 1) := dk_191 (dk_at dksJ10_getChar_1 3 rfl rfl)
theorem dJ10_getChar_28 : decode cJ10_getChar 28 = .ok (.iload_n 1, 1) := dk_27 (dk_at dksJ10_getChar_1 4 rfl rfl)
theorem dJ10_getChar_29 : decode cJ10_getChar 29 = .ok (.iconst 1, 1) := dk_4 (dk_at dksJ10_getChar_1 5 rfl rfl)
theorem dJ10_getChar_30 : decode cJ10_getChar 30 = .ok (.ishl, 1) := dk_120 (dk_at dksJ10_getChar_1 6 rfl rfl)
theorem dJ10_getChar_31 : decode cJ10_getChar 31 = .ok (.istore_n 1, 1) := dk_60 (dk_at dksJ10_getChar_1 7 rfl rfl)
theorem dJ10_getChar_32 : decode cJ10_getChar 32 = .ok (.aload_n 0, 1) := dk_42 (dk_at dksJ10_getChar_1 8 rfl rfl)
theorem dJ10_getChar_33 : decode cJ10_getChar 33 = .ok (.iload_n 1, 1) := dk_27 (dk_at dksJ10_getChar_1 9 rfl rfl)
theorem dJ10_getChar_34 : decode cJ10_getChar 34 = .ok (.iinc 1 1, 3) := dk_132 1 1 (dk_at dksJ10_getChar_1 10 rfl rfl)
theorem dJ10_getChar_37 : decode cJ10_getChar 37 = .ok (.baload, 1) := dk_51 (dk_at dksJ10_getChar_1 13 rfl rfl)
theorem dJ10_getChar_38 : decode cJ10_getChar 38 = .ok (.sipush 255, 3) := dk_17 0 255 (dk_at dksJ10_getChar_1 14 rfl rfl)
theorem dJ10_getChar_41 : decode cJ10_getChar 41 = .ok (.iand, 1) := dk_126 (dk_at dksJ10_getChar_1 17 rfl rfl)
theorem dJ10_getChar_42 : decode cJ10_getChar 42 = .ok (.getstatic 59, 3) := dk_178 0 59 (dk_at dksJ10_getChar_1 18 rfl rfl)
theorem dJ10_getChar_45 : decode cJ10_getChar 45 = .ok (.ishl, 1) := dk_120 (dk_at dksJ10_getChar_1 21 rfl rfl)
theorem dJ10_getChar_46 : decode cJ10_getChar 46 = .ok (.aload_n 0, 1) := dk_42 (dk_at dksJ10_getChar_1 22 rfl rfl)
theorem dJ10_getChar_47 : decode cJ10_getChar 47 = .ok (.iload_n 1, 1) := dk_27 (dk_at dksJ10_getChar_1 23 rfl rfl)
theorem dJ10_getChar_48 : decode cJ10_getChar 48 = .ok (.baload, 1) := dk_51 (dk_at dksJ10_getChar_2 0 rfl rfl)
theorem dJ10_getChar_49 : decode cJ10_getChar 49 = .ok (.sipush 255, 3) := dk_17 0 255 (dk_at dksJ10_getChar_2 1 rfl rfl)
theorem dJ10_getChar_52 : decode cJ10_getChar 52 = .ok (.iand, 1) := dk_126 (dk_at dksJ10_getChar_2 4 rfl rfl)
theorem dJ10_getChar_53 : decode cJ10_getChar 53 = .ok (.getstatic 63, 3) := dk_178 0 63 (dk_at dksJ10_getChar_2 5 rfl rfl)
theorem dJ10_getChar_56 : decode cJ10_getChar 56 = .ok (.ishl, 1) := dk_120 (dk_at dksJ10_getChar_2 8 rfl rfl)
theorem dJ10_getChar_57 : decode cJ10_getChar 57 = .ok (.ior, 1) := dk_128 (dk_at dksJ10_getChar_2 9 rfl rfl)
theorem dJ10_getChar_58 : decode cJ10_getChar 58 = .ok (.i2c, 1) := dk_146 (dk_at dksJ10_getChar_2 10 rfl rfl)
theorem dJ10_getChar_59 : decode cJ10_getChar 59 = .ok (.ireturn, 1) := dk_172 (dk_at dksJ10_getChar_2 11 rfl rfl)
abbrev cJ10_coderFromArrayLen : ByteArray := prog_49_method_15_code
def yJ10_coderFromArrayLen : MethodName := ⟨RJ10, "coderFromArrayLen", "([BI)B"⟩
def dkwJ10_coderFromArrayLen_0 : List UInt8 := [27, 42, 190, 100, 16, 31, 124, 145, 172]
abbrev dktJ10_coderFromArrayLen_0 : List UInt8 := dkwJ10_coderFromArrayLen_0 ++ []
theorem dksJ10_coderFromArrayLen_0 : cJ10_coderFromArrayLen.data.toList.drop 0 = dktJ10_coderFromArrayLen_0 := by decide +kernel
theorem dJ10_coderFromArrayLen_0 : decode cJ10_coderFromArrayLen 0 = .ok (.iload_n 1, 1) := dk_27 (dk_at dksJ10_coderFromArrayLen_0 0 rfl rfl)
theorem dJ10_coderFromArrayLen_1 : decode cJ10_coderFromArrayLen 1 = .ok (.aload_n 0, 1) := dk_42 (dk_at dksJ10_coderFromArrayLen_0 1 rfl rfl)
theorem dJ10_coderFromArrayLen_2 : decode cJ10_coderFromArrayLen 2 = .ok (.arraylength, 1) := dk_190 (dk_at dksJ10_coderFromArrayLen_0 2 rfl rfl)
theorem dJ10_coderFromArrayLen_3 : decode cJ10_coderFromArrayLen 3 = .ok (.isub, 1) := dk_100 (dk_at dksJ10_coderFromArrayLen_0 3 rfl rfl)
theorem dJ10_coderFromArrayLen_4 : decode cJ10_coderFromArrayLen 4 = .ok (.bipush 31, 2) := dk_16 31 (dk_at dksJ10_coderFromArrayLen_0 4 rfl rfl)
theorem dJ10_coderFromArrayLen_6 : decode cJ10_coderFromArrayLen 6 = .ok (.iushr, 1) := dk_124 (dk_at dksJ10_coderFromArrayLen_0 6 rfl rfl)
theorem dJ10_coderFromArrayLen_7 : decode cJ10_coderFromArrayLen 7 = .ok (.i2b, 1) := dk_145 (dk_at dksJ10_coderFromArrayLen_0 7 rfl rfl)
theorem dJ10_coderFromArrayLen_8 : decode cJ10_coderFromArrayLen 8 = .ok (.ireturn, 1) := dk_172 (dk_at dksJ10_coderFromArrayLen_0 8 rfl rfl)
abbrev cJ10_indexOf : ByteArray := prog_49_method_40_code
def yJ10_indexOf : MethodName := ⟨RJ10, "indexOf", "([BIII)I"⟩
def dkwJ10_indexOf_1 : List UInt8 := [18, 227, 162, 0, 11, 42, 27, 28, 29, 184, 0, 228, 172, 42, 27, 28, 29, 184, 0, 232, 172]
abbrev dktJ10_indexOf_1 : List UInt8 := dkwJ10_indexOf_1 ++ []
def dkwJ10_indexOf_0 : List UInt8 := [28, 3, 184, 0, 224, 61, 29, 42, 190, 4, 122, 184, 0, 183, 62, 28, 29, 161, 0, 5, 2, 172, 27]
abbrev dktJ10_indexOf_0 : List UInt8 := dkwJ10_indexOf_0 ++ dktJ10_indexOf_1
theorem dksJ10_indexOf_0 : cJ10_indexOf.data.toList.drop 0 = dktJ10_indexOf_0 := by decide +kernel
theorem dksJ10_indexOf_1 : cJ10_indexOf.data.toList.drop 23 = dktJ10_indexOf_1 := dk_seg dksJ10_indexOf_0 23 rfl rfl
theorem dJ10_indexOf_0 : decode cJ10_indexOf 0 = .ok (.iload_n 2, 1) := dk_28 (dk_at dksJ10_indexOf_0 0 rfl rfl)
theorem dJ10_indexOf_1 : decode cJ10_indexOf 1 = .ok (.iconst 0, 1) := dk_3 (dk_at dksJ10_indexOf_0 1 rfl rfl)
theorem dJ10_indexOf_2 : decode cJ10_indexOf 2 = .ok (.invokestatic 224, 3) := dk_184 0 224 (dk_at dksJ10_indexOf_0 2 rfl rfl)
theorem dJ10_indexOf_5 : decode cJ10_indexOf 5 = .ok (.istore_n 2, 1) := dk_61 (dk_at dksJ10_indexOf_0 5 rfl rfl)
theorem dJ10_indexOf_6 : decode cJ10_indexOf 6 = .ok (.iload_n 3, 1) := dk_29 (dk_at dksJ10_indexOf_0 6 rfl rfl)
theorem dJ10_indexOf_7 : decode cJ10_indexOf 7 = .ok (.aload_n 0, 1) := dk_42 (dk_at dksJ10_indexOf_0 7 rfl rfl)
theorem dJ10_indexOf_8 : decode cJ10_indexOf 8 = .ok (.arraylength, 1) := dk_190 (dk_at dksJ10_indexOf_0 8 rfl rfl)
theorem dJ10_indexOf_9 : decode cJ10_indexOf 9 = .ok (.iconst 1, 1) := dk_4 (dk_at dksJ10_indexOf_0 9 rfl rfl)
theorem dJ10_indexOf_10 : decode cJ10_indexOf 10 = .ok (.ishr, 1) := dk_122 (dk_at dksJ10_indexOf_0 10 rfl rfl)
theorem dJ10_indexOf_11 : decode cJ10_indexOf 11 = .ok (.invokestatic 183, 3) := dk_184 0 183 (dk_at dksJ10_indexOf_0 11 rfl rfl)
theorem dJ10_indexOf_14 : decode cJ10_indexOf 14 = .ok (.istore_n 3, 1) := dk_62 (dk_at dksJ10_indexOf_0 14 rfl rfl)
theorem dJ10_indexOf_15 : decode cJ10_indexOf 15 = .ok (.iload_n 2, 1) := dk_28 (dk_at dksJ10_indexOf_0 15 rfl rfl)
theorem dJ10_indexOf_16 : decode cJ10_indexOf 16 = .ok (.iload_n 3, 1) := dk_29 (dk_at dksJ10_indexOf_0 16 rfl rfl)
theorem dJ10_indexOf_17 : decode cJ10_indexOf 17 = .ok (.if_icmp .lt 5, 3) := dk_161 0 5 (dk_at dksJ10_indexOf_0 17 rfl rfl)
theorem dJ10_indexOf_20 : decode cJ10_indexOf 20 = .ok (.iconst (-1), 1) := dk_2 (dk_at dksJ10_indexOf_0 20 rfl rfl)
theorem dJ10_indexOf_21 : decode cJ10_indexOf 21 = .ok (.ireturn, 1) := dk_172 (dk_at dksJ10_indexOf_0 21 rfl rfl)
theorem dJ10_indexOf_22 : decode cJ10_indexOf 22 = .ok (.iload_n 1, 1) := dk_27 (dk_at dksJ10_indexOf_0 22 rfl rfl)
theorem dJ10_indexOf_23 : decode cJ10_indexOf 23 = .ok (.ldc 227, 2) := dk_18 227 (dk_at dksJ10_indexOf_1 0 rfl rfl)
theorem dJ10_indexOf_25 : decode cJ10_indexOf 25 = .ok (.if_icmp .ge 11, 3) := dk_162 0 11 (dk_at dksJ10_indexOf_1 2 rfl rfl)
theorem dJ10_indexOf_28 : decode cJ10_indexOf 28 = .ok (.aload_n 0, 1) := dk_42 (dk_at dksJ10_indexOf_1 5 rfl rfl)
theorem dJ10_indexOf_29 : decode cJ10_indexOf 29 = .ok (.iload_n 1, 1) := dk_27 (dk_at dksJ10_indexOf_1 6 rfl rfl)
theorem dJ10_indexOf_30 : decode cJ10_indexOf 30 = .ok (.iload_n 2, 1) := dk_28 (dk_at dksJ10_indexOf_1 7 rfl rfl)
theorem dJ10_indexOf_31 : decode cJ10_indexOf 31 = .ok (.iload_n 3, 1) := dk_29 (dk_at dksJ10_indexOf_1 8 rfl rfl)
theorem dJ10_indexOf_32 : decode cJ10_indexOf 32 = .ok (.invokestatic 228, 3) := dk_184 0 228 (dk_at dksJ10_indexOf_1 9 rfl rfl)
theorem dJ10_indexOf_35 : decode cJ10_indexOf 35 = .ok (.ireturn, 1) := dk_172 (dk_at dksJ10_indexOf_1 12 rfl rfl)
theorem dJ10_indexOf_36 : decode cJ10_indexOf 36 = .ok (.aload_n 0, 1) := dk_42 (dk_at dksJ10_indexOf_1 13 rfl rfl)
theorem dJ10_indexOf_37 : decode cJ10_indexOf 37 = .ok (.iload_n 1, 1) := dk_27 (dk_at dksJ10_indexOf_1 14 rfl rfl)
theorem dJ10_indexOf_38 : decode cJ10_indexOf 38 = .ok (.iload_n 2, 1) := dk_28 (dk_at dksJ10_indexOf_1 15 rfl rfl)
theorem dJ10_indexOf_39 : decode cJ10_indexOf 39 = .ok (.iload_n 3, 1) := dk_29 (dk_at dksJ10_indexOf_1 16 rfl rfl)
theorem dJ10_indexOf_40 : decode cJ10_indexOf 40 = .ok (.invokestatic 232, 3) := dk_184 0 232 (dk_at dksJ10_indexOf_1 17 rfl rfl)
theorem dJ10_indexOf_43 : decode cJ10_indexOf 43 = .ok (.ireturn, 1) := dk_172 (dk_at dksJ10_indexOf_1 20 rfl rfl)
abbrev cJ10_indexOfChar : ByteArray := prog_49_method_47_code
def yJ10_indexOfChar : MethodName := ⟨RJ10, "indexOfChar", "([BIII)I"⟩
def dkwJ10_indexOfChar_0 : List UInt8 := [28, 29, 42, 184, 0, 96, 42, 27, 28, 29, 184, 0, 244, 172]
abbrev dktJ10_indexOfChar_0 : List UInt8 := dkwJ10_indexOfChar_0 ++ []
theorem dksJ10_indexOfChar_0 : cJ10_indexOfChar.data.toList.drop 0 = dktJ10_indexOfChar_0 := by decide +kernel
theorem dJ10_indexOfChar_0 : decode cJ10_indexOfChar 0 = .ok (.iload_n 2, 1) := dk_28 (dk_at dksJ10_indexOfChar_0 0 rfl rfl)
theorem dJ10_indexOfChar_1 : decode cJ10_indexOfChar 1 = .ok (.iload_n 3, 1) := dk_29 (dk_at dksJ10_indexOfChar_0 1 rfl rfl)
theorem dJ10_indexOfChar_2 : decode cJ10_indexOfChar 2 = .ok (.aload_n 0, 1) := dk_42 (dk_at dksJ10_indexOfChar_0 2 rfl rfl)
theorem dJ10_indexOfChar_3 : decode cJ10_indexOfChar 3 = .ok (.invokestatic 96, 3) := dk_184 0 96 (dk_at dksJ10_indexOfChar_0 3 rfl rfl)
theorem dJ10_indexOfChar_6 : decode cJ10_indexOfChar 6 = .ok (.aload_n 0, 1) := dk_42 (dk_at dksJ10_indexOfChar_0 6 rfl rfl)
theorem dJ10_indexOfChar_7 : decode cJ10_indexOfChar 7 = .ok (.iload_n 1, 1) := dk_27 (dk_at dksJ10_indexOfChar_0 7 rfl rfl)
theorem dJ10_indexOfChar_8 : decode cJ10_indexOfChar 8 = .ok (.iload_n 2, 1) := dk_28 (dk_at dksJ10_indexOfChar_0 8 rfl rfl)
theorem dJ10_indexOfChar_9 : decode cJ10_indexOfChar 9 = .ok (.iload_n 3, 1) := dk_29 (dk_at dksJ10_indexOfChar_0 9 rfl rfl)
theorem dJ10_indexOfChar_10 : decode cJ10_indexOfChar 10 = .ok (.invokestatic 244, 3) := dk_184 0 244 (dk_at dksJ10_indexOfChar_0 10 rfl rfl)
theorem dJ10_indexOfChar_13 : decode cJ10_indexOfChar 13 = .ok (.ireturn, 1) := dk_172 (dk_at dksJ10_indexOfChar_0 13 rfl rfl)
abbrev cJ10_indexOfCharUnsafe : ByteArray := prog_49_method_48_code
def yJ10_indexOfCharUnsafe : MethodName := ⟨RJ10, "indexOfCharUnsafe", "([BIII)I"⟩
def dkwJ10_indexOfCharUnsafe_1 : List UInt8 := [132, 4, 1, 167, 255, 234, 2, 172]
abbrev dktJ10_indexOfCharUnsafe_1 : List UInt8 := dkwJ10_indexOfCharUnsafe_1 ++ []
def dkwJ10_indexOfCharUnsafe_0 : List UInt8 := [28, 54, 4, 21, 4, 29, 162, 0, 22, 42, 21, 4, 184, 0, 71, 27, 160, 0, 6, 21, 4, 172]
abbrev dktJ10_indexOfCharUnsafe_0 : List UInt8 := dkwJ10_indexOfCharUnsafe_0 ++ dktJ10_indexOfCharUnsafe_1
theorem dksJ10_indexOfCharUnsafe_0 : cJ10_indexOfCharUnsafe.data.toList.drop 0 = dktJ10_indexOfCharUnsafe_0 := by decide +kernel
theorem dksJ10_indexOfCharUnsafe_1 : cJ10_indexOfCharUnsafe.data.toList.drop 22 = dktJ10_indexOfCharUnsafe_1 := dk_seg dksJ10_indexOfCharUnsafe_0 22 rfl rfl
theorem dJ10_indexOfCharUnsafe_0 : decode cJ10_indexOfCharUnsafe 0 = .ok (.iload_n 2, 1) := dk_28 (dk_at dksJ10_indexOfCharUnsafe_0 0 rfl rfl)
theorem dJ10_indexOfCharUnsafe_1 : decode cJ10_indexOfCharUnsafe 1 = .ok (.istore 4, 2) := dk_54 4 (dk_at dksJ10_indexOfCharUnsafe_0 1 rfl rfl)
theorem dJ10_indexOfCharUnsafe_3 : decode cJ10_indexOfCharUnsafe 3 = .ok (.iload 4, 2) := dk_21 4 (dk_at dksJ10_indexOfCharUnsafe_0 3 rfl rfl)
theorem dJ10_indexOfCharUnsafe_5 : decode cJ10_indexOfCharUnsafe 5 = .ok (.iload_n 3, 1) := dk_29 (dk_at dksJ10_indexOfCharUnsafe_0 5 rfl rfl)
theorem dJ10_indexOfCharUnsafe_6 : decode cJ10_indexOfCharUnsafe 6 = .ok (.if_icmp .ge 22, 3) := dk_162 0 22 (dk_at dksJ10_indexOfCharUnsafe_0 6 rfl rfl)
theorem dJ10_indexOfCharUnsafe_9 : decode cJ10_indexOfCharUnsafe 9 = .ok (.aload_n 0, 1) := dk_42 (dk_at dksJ10_indexOfCharUnsafe_0 9 rfl rfl)
theorem dJ10_indexOfCharUnsafe_10 : decode cJ10_indexOfCharUnsafe 10 = .ok (.iload 4, 2) := dk_21 4 (dk_at dksJ10_indexOfCharUnsafe_0 10 rfl rfl)
theorem dJ10_indexOfCharUnsafe_12 : decode cJ10_indexOfCharUnsafe 12 = .ok (.invokestatic 71, 3) := dk_184 0 71 (dk_at dksJ10_indexOfCharUnsafe_0 12 rfl rfl)
theorem dJ10_indexOfCharUnsafe_15 : decode cJ10_indexOfCharUnsafe 15 = .ok (.iload_n 1, 1) := dk_27 (dk_at dksJ10_indexOfCharUnsafe_0 15 rfl rfl)
theorem dJ10_indexOfCharUnsafe_16 : decode cJ10_indexOfCharUnsafe 16 = .ok (.if_icmp .ne 6, 3) := dk_160 0 6 (dk_at dksJ10_indexOfCharUnsafe_0 16 rfl rfl)
theorem dJ10_indexOfCharUnsafe_19 : decode cJ10_indexOfCharUnsafe 19 = .ok (.iload 4, 2) := dk_21 4 (dk_at dksJ10_indexOfCharUnsafe_0 19 rfl rfl)
theorem dJ10_indexOfCharUnsafe_21 : decode cJ10_indexOfCharUnsafe 21 = .ok (.ireturn, 1) := dk_172 (dk_at dksJ10_indexOfCharUnsafe_0 21 rfl rfl)
theorem dJ10_indexOfCharUnsafe_22 : decode cJ10_indexOfCharUnsafe 22 = .ok (.iinc 4 1, 3) := dk_132 4 1 (dk_at dksJ10_indexOfCharUnsafe_1 0 rfl rfl)
theorem dJ10_indexOfCharUnsafe_25 : decode cJ10_indexOfCharUnsafe 25 = .ok (.goto (-22), 3) := dk_167 255 234 (dk_at dksJ10_indexOfCharUnsafe_1 3 rfl rfl)
theorem dJ10_indexOfCharUnsafe_28 : decode cJ10_indexOfCharUnsafe 28 = .ok (.iconst (-1), 1) := dk_2 (dk_at dksJ10_indexOfCharUnsafe_1 6 rfl rfl)
theorem dJ10_indexOfCharUnsafe_29 : decode cJ10_indexOfCharUnsafe 29 = .ok (.ireturn, 1) := dk_172 (dk_at dksJ10_indexOfCharUnsafe_1 7 rfl rfl)
abbrev cJ10_indexOfSupplementary : ByteArray := prog_49_method_49_code
def yJ10_indexOfSupplementary : MethodName := ⟨RJ10, "indexOfSupplementary", "([BIII)I"⟩
def dkwJ10_indexOfSupplementary_3 : List UInt8 := [167, 255, 218, 2, 172]
abbrev dktJ10_indexOfSupplementary_3 : List UInt8 := dkwJ10_indexOfSupplementary_3 ++ []
def dkwJ10_indexOfSupplementary_2 : List UInt8 := [160, 0, 19, 42, 21, 6, 4, 96, 184, 0, 71, 21, 5, 160, 0, 6, 21, 6, 172, 132, 6, 1]
abbrev dktJ10_indexOfSupplementary_2 : List UInt8 := dkwJ10_indexOfSupplementary_2 ++ dktJ10_indexOfSupplementary_3
def dkwJ10_indexOfSupplementary_1 : List UInt8 := [184, 0, 96, 28, 54, 6, 21, 6, 29, 4, 100, 162, 0, 36, 42, 21, 6, 184, 0, 71, 21, 4]
abbrev dktJ10_indexOfSupplementary_1 : List UInt8 := dkwJ10_indexOfSupplementary_1 ++ dktJ10_indexOfSupplementary_2
def dkwJ10_indexOfSupplementary_0 : List UInt8 := [27, 184, 0, 164, 153, 0, 65, 27, 184, 0, 157, 54, 4, 27, 184, 0, 161, 54, 5, 28, 29, 42]
abbrev dktJ10_indexOfSupplementary_0 : List UInt8 := dkwJ10_indexOfSupplementary_0 ++ dktJ10_indexOfSupplementary_1
theorem dksJ10_indexOfSupplementary_0 : cJ10_indexOfSupplementary.data.toList.drop 0 = dktJ10_indexOfSupplementary_0 := by decide +kernel
theorem dksJ10_indexOfSupplementary_1 : cJ10_indexOfSupplementary.data.toList.drop 22 = dktJ10_indexOfSupplementary_1 := dk_seg dksJ10_indexOfSupplementary_0 22 rfl rfl
theorem dksJ10_indexOfSupplementary_2 : cJ10_indexOfSupplementary.data.toList.drop 44 = dktJ10_indexOfSupplementary_2 := dk_seg dksJ10_indexOfSupplementary_1 22 rfl rfl
theorem dksJ10_indexOfSupplementary_3 : cJ10_indexOfSupplementary.data.toList.drop 66 = dktJ10_indexOfSupplementary_3 := dk_seg dksJ10_indexOfSupplementary_2 22 rfl rfl
theorem dJ10_indexOfSupplementary_0 : decode cJ10_indexOfSupplementary 0 = .ok (.iload_n 1, 1) := dk_27 (dk_at dksJ10_indexOfSupplementary_0 0 rfl rfl)
theorem dJ10_indexOfSupplementary_1 : decode cJ10_indexOfSupplementary 1 = .ok (.invokestatic 164, 3) := dk_184 0 164 (dk_at dksJ10_indexOfSupplementary_0 1 rfl rfl)
theorem dJ10_indexOfSupplementary_4 : decode cJ10_indexOfSupplementary 4 = .ok (.ifCond .eq 65, 3) := dk_153 0 65 (dk_at dksJ10_indexOfSupplementary_0 4 rfl rfl)
theorem dJ10_indexOfSupplementary_7 : decode cJ10_indexOfSupplementary 7 = .ok (.iload_n 1, 1) := dk_27 (dk_at dksJ10_indexOfSupplementary_0 7 rfl rfl)
theorem dJ10_indexOfSupplementary_8 : decode cJ10_indexOfSupplementary 8 = .ok (.invokestatic 157, 3) := dk_184 0 157 (dk_at dksJ10_indexOfSupplementary_0 8 rfl rfl)
theorem dJ10_indexOfSupplementary_11 : decode cJ10_indexOfSupplementary 11 = .ok (.istore 4, 2) := dk_54 4 (dk_at dksJ10_indexOfSupplementary_0 11 rfl rfl)
theorem dJ10_indexOfSupplementary_13 : decode cJ10_indexOfSupplementary 13 = .ok (.iload_n 1, 1) := dk_27 (dk_at dksJ10_indexOfSupplementary_0 13 rfl rfl)
theorem dJ10_indexOfSupplementary_14 : decode cJ10_indexOfSupplementary 14 = .ok (.invokestatic 161, 3) := dk_184 0 161 (dk_at dksJ10_indexOfSupplementary_0 14 rfl rfl)
theorem dJ10_indexOfSupplementary_17 : decode cJ10_indexOfSupplementary 17 = .ok (.istore 5, 2) := dk_54 5 (dk_at dksJ10_indexOfSupplementary_0 17 rfl rfl)
theorem dJ10_indexOfSupplementary_19 : decode cJ10_indexOfSupplementary 19 = .ok (.iload_n 2, 1) := dk_28 (dk_at dksJ10_indexOfSupplementary_0 19 rfl rfl)
theorem dJ10_indexOfSupplementary_20 : decode cJ10_indexOfSupplementary 20 = .ok (.iload_n 3, 1) := dk_29 (dk_at dksJ10_indexOfSupplementary_0 20 rfl rfl)
theorem dJ10_indexOfSupplementary_21 : decode cJ10_indexOfSupplementary 21 = .ok (.aload_n 0, 1) := dk_42 (dk_at dksJ10_indexOfSupplementary_0 21 rfl rfl)
theorem dJ10_indexOfSupplementary_22 : decode cJ10_indexOfSupplementary 22 = .ok (.invokestatic 96, 3) := dk_184 0 96 (dk_at dksJ10_indexOfSupplementary_1 0 rfl rfl)
theorem dJ10_indexOfSupplementary_25 : decode cJ10_indexOfSupplementary 25 = .ok (.iload_n 2, 1) := dk_28 (dk_at dksJ10_indexOfSupplementary_1 3 rfl rfl)
theorem dJ10_indexOfSupplementary_26 : decode cJ10_indexOfSupplementary 26 = .ok (.istore 6, 2) := dk_54 6 (dk_at dksJ10_indexOfSupplementary_1 4 rfl rfl)
theorem dJ10_indexOfSupplementary_28 : decode cJ10_indexOfSupplementary 28 = .ok (.iload 6, 2) := dk_21 6 (dk_at dksJ10_indexOfSupplementary_1 6 rfl rfl)
theorem dJ10_indexOfSupplementary_30 : decode cJ10_indexOfSupplementary 30 = .ok (.iload_n 3, 1) := dk_29 (dk_at dksJ10_indexOfSupplementary_1 8 rfl rfl)
theorem dJ10_indexOfSupplementary_31 : decode cJ10_indexOfSupplementary 31 = .ok (.iconst 1, 1) := dk_4 (dk_at dksJ10_indexOfSupplementary_1 9 rfl rfl)
theorem dJ10_indexOfSupplementary_32 : decode cJ10_indexOfSupplementary 32 = .ok (.isub, 1) := dk_100 (dk_at dksJ10_indexOfSupplementary_1 10 rfl rfl)
theorem dJ10_indexOfSupplementary_33 : decode cJ10_indexOfSupplementary 33 = .ok (.if_icmp .ge 36, 3) := dk_162 0 36 (dk_at dksJ10_indexOfSupplementary_1 11 rfl rfl)
theorem dJ10_indexOfSupplementary_36 : decode cJ10_indexOfSupplementary 36 = .ok (.aload_n 0, 1) := dk_42 (dk_at dksJ10_indexOfSupplementary_1 14 rfl rfl)
theorem dJ10_indexOfSupplementary_37 : decode cJ10_indexOfSupplementary 37 = .ok (.iload 6, 2) := dk_21 6 (dk_at dksJ10_indexOfSupplementary_1 15 rfl rfl)
theorem dJ10_indexOfSupplementary_39 : decode cJ10_indexOfSupplementary 39 = .ok (.invokestatic 71, 3) := dk_184 0 71 (dk_at dksJ10_indexOfSupplementary_1 17 rfl rfl)
theorem dJ10_indexOfSupplementary_42 : decode cJ10_indexOfSupplementary 42 = .ok (.iload 4, 2) := dk_21 4 (dk_at dksJ10_indexOfSupplementary_1 20 rfl rfl)
theorem dJ10_indexOfSupplementary_44 : decode cJ10_indexOfSupplementary 44 = .ok (.if_icmp .ne 19, 3) := dk_160 0 19 (dk_at dksJ10_indexOfSupplementary_2 0 rfl rfl)
theorem dJ10_indexOfSupplementary_47 : decode cJ10_indexOfSupplementary 47 = .ok (.aload_n 0, 1) := dk_42 (dk_at dksJ10_indexOfSupplementary_2 3 rfl rfl)
theorem dJ10_indexOfSupplementary_48 : decode cJ10_indexOfSupplementary 48 = .ok (.iload 6, 2) := dk_21 6 (dk_at dksJ10_indexOfSupplementary_2 4 rfl rfl)
theorem dJ10_indexOfSupplementary_50 : decode cJ10_indexOfSupplementary 50 = .ok (.iconst 1, 1) := dk_4 (dk_at dksJ10_indexOfSupplementary_2 6 rfl rfl)
theorem dJ10_indexOfSupplementary_51 : decode cJ10_indexOfSupplementary 51 = .ok (.iadd, 1) := dk_96 (dk_at dksJ10_indexOfSupplementary_2 7 rfl rfl)
theorem dJ10_indexOfSupplementary_52 : decode cJ10_indexOfSupplementary 52 = .ok (.invokestatic 71, 3) := dk_184 0 71 (dk_at dksJ10_indexOfSupplementary_2 8 rfl rfl)
theorem dJ10_indexOfSupplementary_55 : decode cJ10_indexOfSupplementary 55 = .ok (.iload 5, 2) := dk_21 5 (dk_at dksJ10_indexOfSupplementary_2 11 rfl rfl)
theorem dJ10_indexOfSupplementary_57 : decode cJ10_indexOfSupplementary 57 = .ok (.if_icmp .ne 6, 3) := dk_160 0 6 (dk_at dksJ10_indexOfSupplementary_2 13 rfl rfl)
theorem dJ10_indexOfSupplementary_60 : decode cJ10_indexOfSupplementary 60 = .ok (.iload 6, 2) := dk_21 6 (dk_at dksJ10_indexOfSupplementary_2 16 rfl rfl)
theorem dJ10_indexOfSupplementary_62 : decode cJ10_indexOfSupplementary 62 = .ok (.ireturn, 1) := dk_172 (dk_at dksJ10_indexOfSupplementary_2 18 rfl rfl)
theorem dJ10_indexOfSupplementary_63 : decode cJ10_indexOfSupplementary 63 = .ok (.iinc 6 1, 3) := dk_132 6 1 (dk_at dksJ10_indexOfSupplementary_2 19 rfl rfl)
theorem dJ10_indexOfSupplementary_66 : decode cJ10_indexOfSupplementary 66 = .ok (.goto (-38), 3) := dk_167 255 218 (dk_at dksJ10_indexOfSupplementary_3 0 rfl rfl)
theorem dJ10_indexOfSupplementary_69 : decode cJ10_indexOfSupplementary 69 = .ok (.iconst (-1), 1) := dk_2 (dk_at dksJ10_indexOfSupplementary_3 3 rfl rfl)
theorem dJ10_indexOfSupplementary_70 : decode cJ10_indexOfSupplementary 70 = .ok (.ireturn, 1) := dk_172 (dk_at dksJ10_indexOfSupplementary_3 4 rfl rfl)
theorem q118 : (Jvm.Cond.initialized "java/lang/StringUTF16") ∈ lw_all := lw_g (lw_at lw_m1 28 rfl) rfl
theorem q693 : (Jvm.Cond.static ({ cls := "java/lang/StringUTF16", name := "newBytesFor", desc := "(I)[B" } : Jvm.MethodName)) ∈ lw_all := lw_g (lw_at lw_m3 123 rfl) rfl
theorem q694 : (Jvm.Cond.code ({ cls := "java/lang/StringUTF16", name := "newBytesFor", desc := "(I)[B" } : Jvm.MethodName) prog_49_method_2_code (1 : Nat) (Option.some (Jvm.ClassFile.FieldType.array Jvm.ClassFile.FieldType.byte))) ∈ lw_all := lw_g (lw_at lw_m3 124 rfl) rfl
theorem q695 : (Jvm.Cond.methodLink "java/lang/StringUTF16" (11 : Nat) ({ cls := "java/lang/StringUTF16", name := "newBytesLength", desc := "(I)I" } : Jvm.MethodName)) ∈ lw_all := lw_g (lw_at lw_m3 125 rfl) rfl
theorem q696 : (Jvm.Cond.static ({ cls := "java/lang/StringUTF16", name := "newBytesLength", desc := "(I)I" } : Jvm.MethodName)) ∈ lw_all := lw_g (lw_at lw_m3 126 rfl) rfl
theorem q697 : (Jvm.Cond.code ({ cls := "java/lang/StringUTF16", name := "newBytesLength", desc := "(I)I" } : Jvm.MethodName) prog_49_method_3_code (1 : Nat) (Option.some Jvm.ClassFile.FieldType.int)) ∈ lw_all := lw_g (lw_at lw_m3 127 rfl) rfl
theorem q698 : (Jvm.Cond.constant "java/lang/StringUTF16" (20 : Nat) (1073741823 : Int32)) ∈ lw_all := lw_g (lw_at lw_m3 128 rfl) rfl
theorem q771 : (Jvm.Cond.static ({ cls := "java/lang/StringUTF16", name := "putCharsAt", desc := "([BICCCC)I" } : Jvm.MethodName)) ∈ lw_all := lw_g (lw_at lw_m3 201 rfl) rfl
theorem q772 : (Jvm.Cond.code ({ cls := "java/lang/StringUTF16", name := "putCharsAt", desc := "([BICCCC)I" } : Jvm.MethodName) prog_49_method_81_code (7 : Nat) (Option.some Jvm.ClassFile.FieldType.int)) ∈ lw_all := lw_g (lw_at lw_m3 202 rfl) rfl
theorem q773 : (Jvm.Cond.methodLink "java/lang/StringUTF16" (96 : Nat) ({ cls := "java/lang/StringUTF16", name := "checkBoundsBeginEnd", desc := "(II[B)V" } : Jvm.MethodName)) ∈ lw_all := lw_g (lw_at lw_m3 203 rfl) rfl
theorem q774 : (Jvm.Cond.static ({ cls := "java/lang/StringUTF16", name := "checkBoundsBeginEnd", desc := "(II[B)V" } : Jvm.MethodName)) ∈ lw_all := lw_g (lw_at lw_m3 204 rfl) rfl
theorem q775 : (Jvm.Cond.code ({ cls := "java/lang/StringUTF16", name := "checkBoundsBeginEnd", desc := "(II[B)V" } : Jvm.MethodName) prog_49_method_93_code (3 : Nat) (Option.none : Option Jvm.ClassFile.FieldType)) ∈ lw_all := lw_g (lw_at lw_m3 205 rfl) rfl
theorem q776 : (Jvm.Cond.methodLink "java/lang/StringUTF16" (48 : Nat) ({ cls := "java/lang/StringUTF16", name := "length", desc := "([B)I" } : Jvm.MethodName)) ∈ lw_all := lw_g (lw_at lw_m3 206 rfl) rfl
theorem q777 : (Jvm.Cond.static ({ cls := "java/lang/StringUTF16", name := "length", desc := "([B)I" } : Jvm.MethodName)) ∈ lw_all := lw_g (lw_at lw_m3 207 rfl) rfl
theorem q778 : (Jvm.Cond.code ({ cls := "java/lang/StringUTF16", name := "length", desc := "([B)I" } : Jvm.MethodName) prog_49_method_6_code (1 : Nat) (Option.some Jvm.ClassFile.FieldType.int)) ∈ lw_all := lw_g (lw_at lw_m3 208 rfl) rfl
theorem q779 : (Jvm.Cond.methodLink "java/lang/StringUTF16" (241 : Nat) ({ cls := "java/lang/String", name := "checkBoundsBeginEnd", desc := "(III)V" } : Jvm.MethodName)) ∈ lw_all := lw_g (lw_at lw_m3 209 rfl) rfl
theorem q787 : (Jvm.Cond.methodLink "java/lang/StringUTF16" (111 : Nat) ({ cls := "java/lang/StringUTF16", name := "putChar", desc := "([BII)V" } : Jvm.MethodName)) ∈ lw_all := lw_g (lw_at lw_m3 217 rfl) rfl
theorem q788 : (Jvm.Cond.static ({ cls := "java/lang/StringUTF16", name := "putChar", desc := "([BII)V" } : Jvm.MethodName)) ∈ lw_all := lw_g (lw_at lw_m3 218 rfl) rfl
theorem q789 : (Jvm.Cond.code ({ cls := "java/lang/StringUTF16", name := "putChar", desc := "([BII)V" } : Jvm.MethodName) prog_49_method_4_code (3 : Nat) (Option.none : Option Jvm.ClassFile.FieldType)) ∈ lw_all := lw_g (lw_at lw_m3 219 rfl) rfl
theorem q790 : (Jvm.Cond.fieldLink "java/lang/StringUTF16" (44 : Nat) "java/lang/StringUTF16" "$assertionsDisabled" "Z") ∈ lw_all := lw_g (lw_at lw_m3 220 rfl) rfl
theorem q791 : (Jvm.Cond.laysStatic "java/lang/StringUTF16" "$assertionsDisabled" "Z") ∈ lw_tbl := lw_at lw_m3 221 rfl
theorem q792 : (Jvm.Cond.fieldLink "java/lang/StringUTF16" (59 : Nat) "java/lang/StringUTF16" "HI_BYTE_SHIFT" "I") ∈ lw_all := lw_g (lw_at lw_m3 222 rfl) rfl
theorem q793 : (Jvm.Cond.laysStatic "java/lang/StringUTF16" "HI_BYTE_SHIFT" "I") ∈ lw_tbl := lw_at lw_m3 223 rfl
theorem q794 : (Jvm.Cond.fieldLink "java/lang/StringUTF16" (63 : Nat) "java/lang/StringUTF16" "LO_BYTE_SHIFT" "I") ∈ lw_all := lw_g (lw_at lw_m3 224 rfl) rfl
theorem q795 : (Jvm.Cond.laysStatic "java/lang/StringUTF16" "LO_BYTE_SHIFT" "I") ∈ lw_tbl := lw_at lw_m3 225 rfl
theorem q822 : (Jvm.Cond.static ({ cls := "java/lang/StringUTF16", name := "inflate", desc := "([BI[BII)V" } : Jvm.MethodName)) ∈ lw_all := lw_g (lw_at lw_m4 12 rfl) rfl
theorem q823 : (Jvm.Cond.code ({ cls := "java/lang/StringUTF16", name := "inflate", desc := "([BI[BII)V" } : Jvm.MethodName) prog_49_method_86_code (6 : Nat) (Option.none : Option Jvm.ClassFile.FieldType)) ∈ lw_all := lw_g (lw_at lw_m4 13 rfl) rfl
theorem q824 : (Jvm.Cond.methodLink "java/lang/StringUTF16" (173 : Nat) ({ cls := "java/lang/StringUTF16", name := "checkBoundsOffCount", desc := "(II[B)V" } : Jvm.MethodName)) ∈ lw_all := lw_g (lw_at lw_m4 14 rfl) rfl
theorem q825 : (Jvm.Cond.static ({ cls := "java/lang/StringUTF16", name := "checkBoundsOffCount", desc := "(II[B)V" } : Jvm.MethodName)) ∈ lw_all := lw_g (lw_at lw_m4 15 rfl) rfl
theorem q826 : (Jvm.Cond.code ({ cls := "java/lang/StringUTF16", name := "checkBoundsOffCount", desc := "(II[B)V" } : Jvm.MethodName) prog_49_method_94_code (3 : Nat) (Option.none : Option Jvm.ClassFile.FieldType)) ∈ lw_all := lw_g (lw_at lw_m4 16 rfl) rfl
theorem q827 : (Jvm.Cond.methodLink "java/lang/StringUTF16" (419 : Nat) ({ cls := "java/lang/String", name := "checkBoundsOffCount", desc := "(III)I" } : Jvm.MethodName)) ∈ lw_all := lw_g (lw_at lw_m4 17 rfl) rfl
theorem q877 : (Jvm.Cond.static ({ cls := "java/lang/StringUTF16", name := "compress", desc := "([BII)[B" } : Jvm.MethodName)) ∈ lw_all := lw_g (lw_at lw_m4 67 rfl) rfl
theorem q878 : (Jvm.Cond.code ({ cls := "java/lang/StringUTF16", name := "compress", desc := "([BII)[B" } : Jvm.MethodName) prog_49_method_17_code (6 : Nat) (Option.some (Jvm.ClassFile.FieldType.array Jvm.ClassFile.FieldType.byte))) ∈ lw_all := lw_g (lw_at lw_m4 68 rfl) rfl
theorem q879 : (Jvm.Cond.methodLink "java/lang/StringUTF16" (123 : Nat) ({ cls := "java/lang/StringUTF16", name := "compress", desc := "([BI[BII)I" } : Jvm.MethodName)) ∈ lw_all := lw_g (lw_at lw_m4 69 rfl) rfl
theorem q880 : (Jvm.Cond.static ({ cls := "java/lang/StringUTF16", name := "compress", desc := "([BI[BII)I" } : Jvm.MethodName)) ∈ lw_all := lw_g (lw_at lw_m4 70 rfl) rfl
theorem q881 : (Jvm.Cond.code ({ cls := "java/lang/StringUTF16", name := "compress", desc := "([BI[BII)I" } : Jvm.MethodName) prog_49_method_22_code (7 : Nat) (Option.some Jvm.ClassFile.FieldType.int)) ∈ lw_all := lw_g (lw_at lw_m4 71 rfl) rfl
theorem q882 : (Jvm.Cond.methodLink "java/lang/StringUTF16" (71 : Nat) ({ cls := "java/lang/StringUTF16", name := "getChar", desc := "([BI)C" } : Jvm.MethodName)) ∈ lw_all := lw_g (lw_at lw_m4 72 rfl) rfl
theorem q883 : (Jvm.Cond.static ({ cls := "java/lang/StringUTF16", name := "getChar", desc := "([BI)C" } : Jvm.MethodName)) ∈ lw_all := lw_g (lw_at lw_m4 73 rfl) rfl
theorem q884 : (Jvm.Cond.code ({ cls := "java/lang/StringUTF16", name := "getChar", desc := "([BI)C" } : Jvm.MethodName) prog_49_method_5_code (2 : Nat) (Option.some Jvm.ClassFile.FieldType.char)) ∈ lw_all := lw_g (lw_at lw_m4 74 rfl) rfl
theorem q885 : (Jvm.Cond.methodLink "java/lang/StringUTF16" (126 : Nat) ({ cls := "java/util/Arrays", name := "copyOfRange", desc := "([BII)[B" } : Jvm.MethodName)) ∈ lw_all := lw_g (lw_at lw_m4 75 rfl) rfl
theorem q887 : (Jvm.Cond.static ({ cls := "java/lang/StringUTF16", name := "coderFromArrayLen", desc := "([BI)B" } : Jvm.MethodName)) ∈ lw_all := lw_g (lw_at lw_m4 77 rfl) rfl
theorem q888 : (Jvm.Cond.code ({ cls := "java/lang/StringUTF16", name := "coderFromArrayLen", desc := "([BI)B" } : Jvm.MethodName) prog_49_method_15_code (2 : Nat) (Option.some Jvm.ClassFile.FieldType.byte)) ∈ lw_all := lw_g (lw_at lw_m4 78 rfl) rfl
theorem q994 : (Jvm.Cond.static ({ cls := "java/lang/StringUTF16", name := "indexOf", desc := "([BIII)I" } : Jvm.MethodName)) ∈ lw_all := lw_g (lw_at lw_m4 184 rfl) rfl
theorem q995 : (Jvm.Cond.code ({ cls := "java/lang/StringUTF16", name := "indexOf", desc := "([BIII)I" } : Jvm.MethodName) prog_49_method_40_code (4 : Nat) (Option.some Jvm.ClassFile.FieldType.int)) ∈ lw_all := lw_g (lw_at lw_m4 185 rfl) rfl
theorem q996 : (Jvm.Cond.methodLink "java/lang/StringUTF16" (224 : Nat) ({ cls := "java/lang/Math", name := "max", desc := "(II)I" } : Jvm.MethodName)) ∈ lw_all := lw_g (lw_at lw_m4 186 rfl) rfl
theorem q997 : (Jvm.Cond.methodLink "java/lang/StringUTF16" (183 : Nat) ({ cls := "java/lang/Math", name := "min", desc := "(II)I" } : Jvm.MethodName)) ∈ lw_all := lw_g (lw_at lw_m4 187 rfl) rfl
theorem q998 : (Jvm.Cond.constant "java/lang/StringUTF16" (227 : Nat) (65536 : Int32)) ∈ lw_all := lw_g (lw_at lw_m4 188 rfl) rfl
theorem q999 : (Jvm.Cond.methodLink "java/lang/StringUTF16" (228 : Nat) ({ cls := "java/lang/StringUTF16", name := "indexOfChar", desc := "([BIII)I" } : Jvm.MethodName)) ∈ lw_all := lw_g (lw_at lw_m4 189 rfl) rfl
theorem q1000 : (Jvm.Cond.static ({ cls := "java/lang/StringUTF16", name := "indexOfChar", desc := "([BIII)I" } : Jvm.MethodName)) ∈ lw_all := lw_g (lw_at lw_m4 190 rfl) rfl
theorem q1001 : (Jvm.Cond.code ({ cls := "java/lang/StringUTF16", name := "indexOfChar", desc := "([BIII)I" } : Jvm.MethodName) prog_49_method_47_code (4 : Nat) (Option.some Jvm.ClassFile.FieldType.int)) ∈ lw_all := lw_g (lw_at lw_m4 191 rfl) rfl
theorem q1002 : (Jvm.Cond.methodLink "java/lang/StringUTF16" (244 : Nat) ({ cls := "java/lang/StringUTF16", name := "indexOfCharUnsafe", desc := "([BIII)I" } : Jvm.MethodName)) ∈ lw_all := lw_g (lw_at lw_m4 192 rfl) rfl
theorem q1003 : (Jvm.Cond.static ({ cls := "java/lang/StringUTF16", name := "indexOfCharUnsafe", desc := "([BIII)I" } : Jvm.MethodName)) ∈ lw_all := lw_g (lw_at lw_m4 193 rfl) rfl
theorem q1004 : (Jvm.Cond.code ({ cls := "java/lang/StringUTF16", name := "indexOfCharUnsafe", desc := "([BIII)I" } : Jvm.MethodName) prog_49_method_48_code (5 : Nat) (Option.some Jvm.ClassFile.FieldType.int)) ∈ lw_all := lw_g (lw_at lw_m4 194 rfl) rfl
theorem q1005 : (Jvm.Cond.methodLink "java/lang/StringUTF16" (232 : Nat) ({ cls := "java/lang/StringUTF16", name := "indexOfSupplementary", desc := "([BIII)I" } : Jvm.MethodName)) ∈ lw_all := lw_g (lw_at lw_m4 195 rfl) rfl
theorem q1006 : (Jvm.Cond.static ({ cls := "java/lang/StringUTF16", name := "indexOfSupplementary", desc := "([BIII)I" } : Jvm.MethodName)) ∈ lw_all := lw_g (lw_at lw_m4 196 rfl) rfl
theorem q1007 : (Jvm.Cond.code ({ cls := "java/lang/StringUTF16", name := "indexOfSupplementary", desc := "([BIII)I" } : Jvm.MethodName) prog_49_method_49_code (7 : Nat) (Option.some Jvm.ClassFile.FieldType.int)) ∈ lw_all := lw_g (lw_at lw_m4 197 rfl) rfl
theorem q1008 : (Jvm.Cond.methodLink "java/lang/StringUTF16" (164 : Nat) ({ cls := "java/lang/Character", name := "isValidCodePoint", desc := "(I)Z" } : Jvm.MethodName)) ∈ lw_all := lw_g (lw_at lw_m4 198 rfl) rfl
theorem q1011 : (Jvm.Cond.methodLink "java/lang/StringUTF16" (157 : Nat) ({ cls := "java/lang/Character", name := "highSurrogate", desc := "(I)C" } : Jvm.MethodName)) ∈ lw_all := lw_g (lw_at lw_m4 201 rfl) rfl
theorem q1015 : (Jvm.Cond.methodLink "java/lang/StringUTF16" (161 : Nat) ({ cls := "java/lang/Character", name := "lowSurrogate", desc := "(I)C" } : Jvm.MethodName)) ∈ lw_all := lw_g (lw_at lw_m4 205 rfl) rfl
/-! jdk/internal/util/ArraysSupport -/
set_option maxRecDepth 100000
def RJ11 : String := "jdk/internal/util/ArraysSupport"
abbrev cJ11_newLength : ByteArray := prog_63_method_27_code
def yJ11_newLength : MethodName := ⟨RJ11, "newLength", "(III)I"⟩
def dkwJ11_newLength_1 : List UInt8 := [184, 0, 201, 172]
abbrev dktJ11_newLength_1 : List UInt8 := dkwJ11_newLength_1 ++ []
def dkwJ11_newLength_0 : List UInt8 := [26, 27, 28, 184, 0, 194, 96, 62, 3, 29, 162, 0, 11, 29, 18, 200, 163, 0, 5, 29, 172, 26, 27]
abbrev dktJ11_newLength_0 : List UInt8 := dkwJ11_newLength_0 ++ dktJ11_newLength_1
theorem dksJ11_newLength_0 : cJ11_newLength.data.toList.drop 0 = dktJ11_newLength_0 := by decide +kernel
theorem dksJ11_newLength_1 : cJ11_newLength.data.toList.drop 23 = dktJ11_newLength_1 := dk_seg dksJ11_newLength_0 23 rfl rfl
theorem dJ11_newLength_0 : decode cJ11_newLength 0 = .ok (.iload_n 0, 1) := dk_26 (dk_at dksJ11_newLength_0 0 rfl rfl)
theorem dJ11_newLength_1 : decode cJ11_newLength 1 = .ok (.iload_n 1, 1) := dk_27 (dk_at dksJ11_newLength_0 1 rfl rfl)
theorem dJ11_newLength_2 : decode cJ11_newLength 2 = .ok (.iload_n 2, 1) := dk_28 (dk_at dksJ11_newLength_0 2 rfl rfl)
theorem dJ11_newLength_3 : decode cJ11_newLength 3 = .ok (.invokestatic 194, 3) := dk_184 0 194 (dk_at dksJ11_newLength_0 3 rfl rfl)
theorem dJ11_newLength_6 : decode cJ11_newLength 6 = .ok (.iadd, 1) := dk_96 (dk_at dksJ11_newLength_0 6 rfl rfl)
theorem dJ11_newLength_7 : decode cJ11_newLength 7 = .ok (.istore_n 3, 1) := dk_62 (dk_at dksJ11_newLength_0 7 rfl rfl)
theorem dJ11_newLength_8 : decode cJ11_newLength 8 = .ok (.iconst 0, 1) := dk_3 (dk_at dksJ11_newLength_0 8 rfl rfl)
theorem dJ11_newLength_9 : decode cJ11_newLength 9 = .ok (.iload_n 3, 1) := dk_29 (dk_at dksJ11_newLength_0 9 rfl rfl)
theorem dJ11_newLength_10 : decode cJ11_newLength 10 = .ok (.if_icmp .ge 11, 3) := dk_162 0 11 (dk_at dksJ11_newLength_0 10 rfl rfl)
theorem dJ11_newLength_13 : decode cJ11_newLength 13 = .ok (.iload_n 3, 1) := dk_29 (dk_at dksJ11_newLength_0 13 rfl rfl)
theorem dJ11_newLength_14 : decode cJ11_newLength 14 = .ok (.ldc 200, 2) := dk_18 200 (dk_at dksJ11_newLength_0 14 rfl rfl)
theorem dJ11_newLength_16 : decode cJ11_newLength 16 = .ok (.if_icmp .gt 5, 3) := dk_163 0 5 (dk_at dksJ11_newLength_0 16 rfl rfl)
theorem dJ11_newLength_19 : decode cJ11_newLength 19 = .ok (.iload_n 3, 1) := dk_29 (dk_at dksJ11_newLength_0 19 rfl rfl)
theorem dJ11_newLength_20 : decode cJ11_newLength 20 = .ok (.ireturn, 1) := dk_172 (dk_at dksJ11_newLength_0 20 rfl rfl)
theorem dJ11_newLength_21 : decode cJ11_newLength 21 = .ok (.iload_n 0, 1) := dk_26 (dk_at dksJ11_newLength_0 21 rfl rfl)
theorem dJ11_newLength_22 : decode cJ11_newLength 22 = .ok (.iload_n 1, 1) := dk_27 (dk_at dksJ11_newLength_0 22 rfl rfl)
theorem dJ11_newLength_23 : decode cJ11_newLength 23 = .ok (.invokestatic 201, 3) := dk_184 0 201 (dk_at dksJ11_newLength_1 0 rfl rfl)
theorem dJ11_newLength_26 : decode cJ11_newLength 26 = .ok (.ireturn, 1) := dk_172 (dk_at dksJ11_newLength_1 3 rfl rfl)
abbrev cJ11_hugeLength : ByteArray := prog_63_method_28_code
def yJ11_hugeLength : MethodName := ⟨RJ11, "hugeLength", "(II)I"⟩
def dkwJ11_hugeLength_2 : List UInt8 := [191, 28, 18, 200, 163, 0, 6, 18, 200, 172, 28, 172]
abbrev dktJ11_hugeLength_2 : List UInt8 := dkwJ11_hugeLength_2 ++ []
def dkwJ11_hugeLength_1 : List UInt8 := [26, 182, 0, 98, 18, 208, 182, 0, 94, 27, 182, 0, 98, 18, 210, 182, 0, 94, 182, 0, 101, 183, 0, 212]
abbrev dktJ11_hugeLength_1 : List UInt8 := dkwJ11_hugeLength_1 ++ dktJ11_hugeLength_2
def dkwJ11_hugeLength_0 : List UInt8 := [26, 27, 96, 61, 28, 156, 0, 44, 187, 0, 204, 89, 187, 0, 89, 89, 183, 0, 91, 18, 206, 182, 0, 94]
abbrev dktJ11_hugeLength_0 : List UInt8 := dkwJ11_hugeLength_0 ++ dktJ11_hugeLength_1
theorem dksJ11_hugeLength_0 : cJ11_hugeLength.data.toList.drop 0 = dktJ11_hugeLength_0 := by decide +kernel
theorem dksJ11_hugeLength_1 : cJ11_hugeLength.data.toList.drop 24 = dktJ11_hugeLength_1 := dk_seg dksJ11_hugeLength_0 24 rfl rfl
theorem dksJ11_hugeLength_2 : cJ11_hugeLength.data.toList.drop 48 = dktJ11_hugeLength_2 := dk_seg dksJ11_hugeLength_1 24 rfl rfl
theorem dJ11_hugeLength_0 : decode cJ11_hugeLength 0 = .ok (.iload_n 0, 1) := dk_26 (dk_at dksJ11_hugeLength_0 0 rfl rfl)
theorem dJ11_hugeLength_1 : decode cJ11_hugeLength 1 = .ok (.iload_n 1, 1) := dk_27 (dk_at dksJ11_hugeLength_0 1 rfl rfl)
theorem dJ11_hugeLength_2 : decode cJ11_hugeLength 2 = .ok (.iadd, 1) := dk_96 (dk_at dksJ11_hugeLength_0 2 rfl rfl)
theorem dJ11_hugeLength_3 : decode cJ11_hugeLength 3 = .ok (.istore_n 2, 1) := dk_61 (dk_at dksJ11_hugeLength_0 3 rfl rfl)
theorem dJ11_hugeLength_4 : decode cJ11_hugeLength 4 = .ok (.iload_n 2, 1) := dk_28 (dk_at dksJ11_hugeLength_0 4 rfl rfl)
theorem dJ11_hugeLength_5 : decode cJ11_hugeLength 5 = .ok (.ifCond .ge 44, 3) := dk_156 0 44 (dk_at dksJ11_hugeLength_0 5 rfl rfl)
theorem dJ11_hugeLength_8 : decode cJ11_hugeLength 8 = .ok (.new 204, 3) := dk_187 0 204 (dk_at dksJ11_hugeLength_0 8 rfl rfl)
theorem dJ11_hugeLength_11 : decode cJ11_hugeLength 11 = .ok (.dup, 1) := dk_89 (dk_at dksJ11_hugeLength_0 11 rfl rfl)
theorem dJ11_hugeLength_12 : decode cJ11_hugeLength 12 = .ok (.new 89, 3) := dk_187 0 89 (dk_at dksJ11_hugeLength_0 12 rfl rfl)
theorem dJ11_hugeLength_15 : decode cJ11_hugeLength 15 = .ok (.dup, 1) := dk_89 (dk_at dksJ11_hugeLength_0 15 rfl rfl)
theorem dJ11_hugeLength_16 : decode cJ11_hugeLength 16 = .ok (.invokespecial 91, 3) := dk_183 0 91 (dk_at dksJ11_hugeLength_0 16 rfl rfl)
theorem dJ11_hugeLength_19 : decode cJ11_hugeLength 19 = .ok (.ldc 206, 2) := dk_18 206 (dk_at dksJ11_hugeLength_0 19 rfl rfl)
theorem dJ11_hugeLength_21 : decode cJ11_hugeLength 21 = .ok (.invokevirtual 94, 3) := dk_182 0 94 (dk_at dksJ11_hugeLength_0 21 rfl rfl)
theorem dJ11_hugeLength_24 : decode cJ11_hugeLength 24 = .ok (.iload_n 0, 1) := dk_26 (dk_at dksJ11_hugeLength_1 0 rfl rfl)
theorem dJ11_hugeLength_25 : decode cJ11_hugeLength 25 = .ok (.invokevirtual 98, 3) := dk_182 0 98 (dk_at dksJ11_hugeLength_1 1 rfl rfl)
theorem dJ11_hugeLength_28 : decode cJ11_hugeLength 28 = .ok (.ldc 208, 2) := dk_18 208 (dk_at dksJ11_hugeLength_1 4 rfl rfl)
theorem dJ11_hugeLength_30 : decode cJ11_hugeLength 30 = .ok (.invokevirtual 94, 3) := dk_182 0 94 (dk_at dksJ11_hugeLength_1 6 rfl rfl)
theorem dJ11_hugeLength_33 : decode cJ11_hugeLength 33 = .ok (.iload_n 1, 1) := dk_27 (dk_at dksJ11_hugeLength_1 9 rfl rfl)
theorem dJ11_hugeLength_34 : decode cJ11_hugeLength 34 = .ok (.invokevirtual 98, 3) := dk_182 0 98 (dk_at dksJ11_hugeLength_1 10 rfl rfl)
theorem dJ11_hugeLength_37 : decode cJ11_hugeLength 37 = .ok (.ldc 210, 2) := dk_18 210 (dk_at dksJ11_hugeLength_1 13 rfl rfl)
theorem dJ11_hugeLength_39 : decode cJ11_hugeLength 39 = .ok (.invokevirtual 94, 3) := dk_182 0 94 (dk_at dksJ11_hugeLength_1 15 rfl rfl)
theorem dJ11_hugeLength_42 : decode cJ11_hugeLength 42 = .ok (.invokevirtual 101, 3) := dk_182 0 101 (dk_at dksJ11_hugeLength_1 18 rfl rfl)
theorem dJ11_hugeLength_45 : decode cJ11_hugeLength 45 = .ok (.invokespecial 212, 3) := dk_183 0 212 (dk_at dksJ11_hugeLength_1 21 rfl rfl)
theorem dJ11_hugeLength_48 : decode cJ11_hugeLength 48 = .ok (.athrow, 1) := dk_191 (dk_at dksJ11_hugeLength_2 0 rfl rfl)
theorem dJ11_hugeLength_49 : decode cJ11_hugeLength 49 = .ok (.iload_n 2, 1) := dk_28 (dk_at dksJ11_hugeLength_2 1 rfl rfl)
theorem dJ11_hugeLength_50 : decode cJ11_hugeLength 50 = .ok (.ldc 200, 2) := dk_18 200 (dk_at dksJ11_hugeLength_2 2 rfl rfl)
theorem dJ11_hugeLength_52 : decode cJ11_hugeLength 52 = .ok (.if_icmp .gt 6, 3) := dk_163 0 6 (dk_at dksJ11_hugeLength_2 4 rfl rfl)
theorem dJ11_hugeLength_55 : decode cJ11_hugeLength 55 = .ok (.ldc 200, 2) := dk_18 200 (dk_at dksJ11_hugeLength_2 7 rfl rfl)
theorem dJ11_hugeLength_57 : decode cJ11_hugeLength 57 = .ok (.ireturn, 1) := dk_172 (dk_at dksJ11_hugeLength_2 9 rfl rfl)
theorem dJ11_hugeLength_58 : decode cJ11_hugeLength 58 = .ok (.iload_n 2, 1) := dk_28 (dk_at dksJ11_hugeLength_2 10 rfl rfl)
theorem dJ11_hugeLength_59 : decode cJ11_hugeLength 59 = .ok (.ireturn, 1) := dk_172 (dk_at dksJ11_hugeLength_2 11 rfl rfl)
theorem q119 : (Jvm.Cond.initialized "jdk/internal/util/ArraysSupport") ∈ lw_all := lw_g (lw_at lw_m1 29 rfl) rfl
theorem q741 : (Jvm.Cond.static ({ cls := "jdk/internal/util/ArraysSupport", name := "newLength", desc := "(III)I" } : Jvm.MethodName)) ∈ lw_all := lw_g (lw_at lw_m3 171 rfl) rfl
theorem q742 : (Jvm.Cond.code ({ cls := "jdk/internal/util/ArraysSupport", name := "newLength", desc := "(III)I" } : Jvm.MethodName) prog_63_method_27_code (4 : Nat) (Option.some Jvm.ClassFile.FieldType.int)) ∈ lw_all := lw_g (lw_at lw_m3 172 rfl) rfl
theorem q743 : (Jvm.Cond.methodLink "jdk/internal/util/ArraysSupport" (194 : Nat) ({ cls := "java/lang/Math", name := "max", desc := "(II)I" } : Jvm.MethodName)) ∈ lw_all := lw_g (lw_at lw_m3 173 rfl) rfl
theorem q746 : (Jvm.Cond.constant "jdk/internal/util/ArraysSupport" (200 : Nat) (2147483639 : Int32)) ∈ lw_all := lw_g (lw_at lw_m3 176 rfl) rfl
theorem q747 : (Jvm.Cond.methodLink "jdk/internal/util/ArraysSupport" (201 : Nat) ({ cls := "jdk/internal/util/ArraysSupport", name := "hugeLength", desc := "(II)I" } : Jvm.MethodName)) ∈ lw_all := lw_g (lw_at lw_m3 177 rfl) rfl
theorem q748 : (Jvm.Cond.static ({ cls := "jdk/internal/util/ArraysSupport", name := "hugeLength", desc := "(II)I" } : Jvm.MethodName)) ∈ lw_all := lw_g (lw_at lw_m3 178 rfl) rfl
theorem q749 : (Jvm.Cond.code ({ cls := "jdk/internal/util/ArraysSupport", name := "hugeLength", desc := "(II)I" } : Jvm.MethodName) prog_63_method_28_code (3 : Nat) (Option.some Jvm.ClassFile.FieldType.int)) ∈ lw_all := lw_g (lw_at lw_m3 179 rfl) rfl
/-! java/util/Arrays -/
set_option maxRecDepth 100000
def RJ12 : String := "java/util/Arrays"
abbrev cJ12_copyOf : ByteArray := prog_57_method_121_code
def yJ12_copyOf : MethodName := ⟨RJ12, "copyOf", "([BI)[B"⟩
def dkwJ12_copyOf_1 : List UInt8 := [27, 184, 1, 48, 184, 0, 150, 44, 176]
abbrev dktJ12_copyOf_1 : List UInt8 := dkwJ12_copyOf_1 ++ []
def dkwJ12_copyOf_0 : List UInt8 := [27, 42, 190, 160, 0, 11, 42, 182, 1, 54, 192, 1, 55, 176, 27, 188, 8, 77, 42, 3, 44, 3, 42, 190]
abbrev dktJ12_copyOf_0 : List UInt8 := dkwJ12_copyOf_0 ++ dktJ12_copyOf_1
theorem dksJ12_copyOf_0 : cJ12_copyOf.data.toList.drop 0 = dktJ12_copyOf_0 := by decide +kernel
theorem dksJ12_copyOf_1 : cJ12_copyOf.data.toList.drop 24 = dktJ12_copyOf_1 := dk_seg dksJ12_copyOf_0 24 rfl rfl
theorem dJ12_copyOf_0 : decode cJ12_copyOf 0 = .ok (.iload_n 1, 1) := dk_27 (dk_at dksJ12_copyOf_0 0 rfl rfl)
theorem dJ12_copyOf_1 : decode cJ12_copyOf 1 = .ok (.aload_n 0, 1) := dk_42 (dk_at dksJ12_copyOf_0 1 rfl rfl)
theorem dJ12_copyOf_2 : decode cJ12_copyOf 2 = .ok (.arraylength, 1) := dk_190 (dk_at dksJ12_copyOf_0 2 rfl rfl)
theorem dJ12_copyOf_3 : decode cJ12_copyOf 3 = .ok (.if_icmp .ne 11, 3) := dk_160 0 11 (dk_at dksJ12_copyOf_0 3 rfl rfl)
theorem dJ12_copyOf_6 : decode cJ12_copyOf 6 = .ok (.aload_n 0, 1) := dk_42 (dk_at dksJ12_copyOf_0 6 rfl rfl)
theorem dJ12_copyOf_7 : decode cJ12_copyOf 7 = .ok (.invokevirtual 310, 3) := dk_182 1 54 (dk_at dksJ12_copyOf_0 7 rfl rfl)
theorem dJ12_copyOf_10 : decode cJ12_copyOf 10 = .ok (.checkcast 311, 3) := dk_192 1 55 (dk_at dksJ12_copyOf_0 10 rfl rfl)
theorem dJ12_copyOf_13 : decode cJ12_copyOf 13 = .ok (.areturn, 1) := dk_176 (dk_at dksJ12_copyOf_0 13 rfl rfl)
theorem dJ12_copyOf_14 : decode cJ12_copyOf 14 = .ok (.iload_n 1, 1) := dk_27 (dk_at dksJ12_copyOf_0 14 rfl rfl)
theorem dJ12_copyOf_15 : decode cJ12_copyOf 15 = .ok (.newarray .byte, 2) := dk_188_8 (dk_at dksJ12_copyOf_0 15 rfl rfl)
theorem dJ12_copyOf_17 : decode cJ12_copyOf 17 = .ok (.astore_n 2, 1) := dk_77 (dk_at dksJ12_copyOf_0 17 rfl rfl)
theorem dJ12_copyOf_18 : decode cJ12_copyOf 18 = .ok (.aload_n 0, 1) := dk_42 (dk_at dksJ12_copyOf_0 18 rfl rfl)
theorem dJ12_copyOf_19 : decode cJ12_copyOf 19 = .ok (.iconst 0, 1) := dk_3 (dk_at dksJ12_copyOf_0 19 rfl rfl)
theorem dJ12_copyOf_20 : decode cJ12_copyOf 20 = .ok (.aload_n 2, 1) := dk_44 (dk_at dksJ12_copyOf_0 20 rfl rfl)
theorem dJ12_copyOf_21 : decode cJ12_copyOf 21 = .ok (.iconst 0, 1) := dk_3 (dk_at dksJ12_copyOf_0 21 rfl rfl)
theorem dJ12_copyOf_22 : decode cJ12_copyOf 22 = .ok (.aload_n 0, 1) := dk_42 (dk_at dksJ12_copyOf_0 22 rfl rfl)
theorem dJ12_copyOf_23 : decode cJ12_copyOf 23 = .ok (.arraylength, 1) := dk_190 (dk_at dksJ12_copyOf_0 23 rfl rfl)
theorem dJ12_copyOf_24 : decode cJ12_copyOf 24 = .ok (.iload_n 1, 1) := dk_27 (dk_at dksJ12_copyOf_1 0 rfl rfl)
theorem dJ12_copyOf_25 : decode cJ12_copyOf 25 = .ok (.invokestatic 304, 3) := dk_184 1 48 (dk_at dksJ12_copyOf_1 1 rfl rfl)
theorem dJ12_copyOf_28 : decode cJ12_copyOf 28 = .ok (.invokestatic 150, 3) := dk_184 0 150 (dk_at dksJ12_copyOf_1 4 rfl rfl)
theorem dJ12_copyOf_31 : decode cJ12_copyOf 31 = .ok (.aload_n 2, 1) := dk_44 (dk_at dksJ12_copyOf_1 7 rfl rfl)
theorem dJ12_copyOf_32 : decode cJ12_copyOf 32 = .ok (.areturn, 1) := dk_176 (dk_at dksJ12_copyOf_1 8 rfl rfl)
abbrev cJ12_copyOfRange : ByteArray := prog_57_method_132_code
def yJ12_copyOfRange : MethodName := ⟨RJ12, "copyOfRange", "([BII)[B"⟩
def dkwJ12_copyOfRange_1 : List UInt8 := [176]
abbrev dktJ12_copyOfRange_1 : List UInt8 := dkwJ12_copyOfRange_1 ++ []
def dkwJ12_copyOfRange_0 : List UInt8 := [27, 154, 0, 9, 28, 42, 190, 159, 0, 10, 42, 27, 28, 184, 1, 83, 176, 42, 182, 1, 54, 192, 1, 55]
abbrev dktJ12_copyOfRange_0 : List UInt8 := dkwJ12_copyOfRange_0 ++ dktJ12_copyOfRange_1
theorem dksJ12_copyOfRange_0 : cJ12_copyOfRange.data.toList.drop 0 = dktJ12_copyOfRange_0 := by decide +kernel
theorem dksJ12_copyOfRange_1 : cJ12_copyOfRange.data.toList.drop 24 = dktJ12_copyOfRange_1 := dk_seg dksJ12_copyOfRange_0 24 rfl rfl
theorem dJ12_copyOfRange_0 : decode cJ12_copyOfRange 0 = .ok (.iload_n 1, 1) := dk_27 (dk_at dksJ12_copyOfRange_0 0 rfl rfl)
theorem dJ12_copyOfRange_1 : decode cJ12_copyOfRange 1 = .ok (.ifCond .ne 9, 3) := dk_154 0 9 (dk_at dksJ12_copyOfRange_0 1 rfl rfl)
theorem dJ12_copyOfRange_4 : decode cJ12_copyOfRange 4 = .ok (.iload_n 2, 1) := dk_28 (dk_at dksJ12_copyOfRange_0 4 rfl rfl)
theorem dJ12_copyOfRange_5 : decode cJ12_copyOfRange 5 = .ok (.aload_n 0, 1) := dk_42 (dk_at dksJ12_copyOfRange_0 5 rfl rfl)
theorem dJ12_copyOfRange_6 : decode cJ12_copyOfRange 6 = .ok (.arraylength, 1) := dk_190 (dk_at dksJ12_copyOfRange_0 6 rfl rfl)
theorem dJ12_copyOfRange_7 : decode cJ12_copyOfRange 7 = .ok (.if_icmp .eq 10, 3) := dk_159 0 10 (dk_at dksJ12_copyOfRange_0 7 rfl rfl)
theorem dJ12_copyOfRange_10 : decode cJ12_copyOfRange 10 = .ok (.aload_n 0, 1) := dk_42 (dk_at dksJ12_copyOfRange_0 10 rfl rfl)
theorem dJ12_copyOfRange_11 : decode cJ12_copyOfRange 11 = .ok (.iload_n 1, 1) := dk_27 (dk_at dksJ12_copyOfRange_0 11 rfl rfl)
theorem dJ12_copyOfRange_12 : decode cJ12_copyOfRange 12 = .ok (.iload_n 2, 1) := dk_28 (dk_at dksJ12_copyOfRange_0 12 rfl rfl)
theorem dJ12_copyOfRange_13 : decode cJ12_copyOfRange 13 = .ok (.invokestatic 339, 3) := dk_184 1 83 (dk_at dksJ12_copyOfRange_0 13 rfl rfl)
theorem dJ12_copyOfRange_16 : decode cJ12_copyOfRange 16 = .ok (.areturn, 1) := dk_176 (dk_at dksJ12_copyOfRange_0 16 rfl rfl)
theorem dJ12_copyOfRange_17 : decode cJ12_copyOfRange 17 = .ok (.aload_n 0, 1) := dk_42 (dk_at dksJ12_copyOfRange_0 17 rfl rfl)
theorem dJ12_copyOfRange_18 : decode cJ12_copyOfRange 18 = .ok (.invokevirtual 310, 3) := dk_182 1 54 (dk_at dksJ12_copyOfRange_0 18 rfl rfl)
theorem dJ12_copyOfRange_21 : decode cJ12_copyOfRange 21 = .ok (.checkcast 311, 3) := dk_192 1 55 (dk_at dksJ12_copyOfRange_0 21 rfl rfl)
theorem dJ12_copyOfRange_24 : decode cJ12_copyOfRange 24 = .ok (.areturn, 1) := dk_176 (dk_at dksJ12_copyOfRange_1 0 rfl rfl)
abbrev cJ12_copyOfRangeByte : ByteArray := prog_57_method_133_code
def yJ12_copyOfRangeByte : MethodName := ⟨RJ12, "copyOfRangeByte", "([BII)[B"⟩
def dkwJ12_copyOfRangeByte_1 : List UInt8 := [184, 1, 48, 184, 0, 150, 25, 4, 176]
abbrev dktJ12_copyOfRangeByte_1 : List UInt8 := dkwJ12_copyOfRangeByte_1 ++ []
def dkwJ12_copyOfRangeByte_0 : List UInt8 := [27, 28, 184, 1, 87, 28, 27, 100, 62, 29, 188, 8, 58, 4, 42, 27, 25, 4, 3, 42, 190, 27, 100, 29]
abbrev dktJ12_copyOfRangeByte_0 : List UInt8 := dkwJ12_copyOfRangeByte_0 ++ dktJ12_copyOfRangeByte_1
theorem dksJ12_copyOfRangeByte_0 : cJ12_copyOfRangeByte.data.toList.drop 0 = dktJ12_copyOfRangeByte_0 := by decide +kernel
theorem dksJ12_copyOfRangeByte_1 : cJ12_copyOfRangeByte.data.toList.drop 24 = dktJ12_copyOfRangeByte_1 := dk_seg dksJ12_copyOfRangeByte_0 24 rfl rfl
theorem dJ12_copyOfRangeByte_0 : decode cJ12_copyOfRangeByte 0 = .ok (.iload_n 1, 1) := dk_27 (dk_at dksJ12_copyOfRangeByte_0 0 rfl rfl)
theorem dJ12_copyOfRangeByte_1 : decode cJ12_copyOfRangeByte 1 = .ok (.iload_n 2, 1) := dk_28 (dk_at dksJ12_copyOfRangeByte_0 1 rfl rfl)
theorem dJ12_copyOfRangeByte_2 : decode cJ12_copyOfRangeByte 2 = .ok (.invokestatic 343, 3) := dk_184 1 87 (dk_at dksJ12_copyOfRangeByte_0 2 rfl rfl)
theorem dJ12_copyOfRangeByte_5 : decode cJ12_copyOfRangeByte 5 = .ok (.iload_n 2, 1) := dk_28 (dk_at dksJ12_copyOfRangeByte_0 5 rfl rfl)
theorem dJ12_copyOfRangeByte_6 : decode cJ12_copyOfRangeByte 6 = .ok (.iload_n 1, 1) := dk_27 (dk_at dksJ12_copyOfRangeByte_0 6 rfl rfl)
theorem dJ12_copyOfRangeByte_7 : decode cJ12_copyOfRangeByte 7 = .ok (.isub, 1) := dk_100 (dk_at dksJ12_copyOfRangeByte_0 7 rfl rfl)
theorem dJ12_copyOfRangeByte_8 : decode cJ12_copyOfRangeByte 8 = .ok (.istore_n 3, 1) := dk_62 (dk_at dksJ12_copyOfRangeByte_0 8 rfl rfl)
theorem dJ12_copyOfRangeByte_9 : decode cJ12_copyOfRangeByte 9 = .ok (.iload_n 3, 1) := dk_29 (dk_at dksJ12_copyOfRangeByte_0 9 rfl rfl)
theorem dJ12_copyOfRangeByte_10 : decode cJ12_copyOfRangeByte 10 = .ok (.newarray .byte, 2) := dk_188_8 (dk_at dksJ12_copyOfRangeByte_0 10 rfl rfl)
theorem dJ12_copyOfRangeByte_12 : decode cJ12_copyOfRangeByte 12 = .ok (.astore 4, 2) := dk_58 4 (dk_at dksJ12_copyOfRangeByte_0 12 rfl rfl)
theorem dJ12_copyOfRangeByte_14 : decode cJ12_copyOfRangeByte 14 = .ok (.aload_n 0, 1) := dk_42 (dk_at dksJ12_copyOfRangeByte_0 14 rfl rfl)
theorem dJ12_copyOfRangeByte_15 : decode cJ12_copyOfRangeByte 15 = .ok (.iload_n 1, 1) := dk_27 (dk_at dksJ12_copyOfRangeByte_0 15 rfl rfl)
theorem dJ12_copyOfRangeByte_16 : decode cJ12_copyOfRangeByte 16 = .ok (.aload 4, 2) := dk_25 4 (dk_at dksJ12_copyOfRangeByte_0 16 rfl rfl)
theorem dJ12_copyOfRangeByte_18 : decode cJ12_copyOfRangeByte 18 = .ok (.iconst 0, 1) := dk_3 (dk_at dksJ12_copyOfRangeByte_0 18 rfl rfl)
theorem dJ12_copyOfRangeByte_19 : decode cJ12_copyOfRangeByte 19 = .ok (.aload_n 0, 1) := dk_42 (dk_at dksJ12_copyOfRangeByte_0 19 rfl rfl)
theorem dJ12_copyOfRangeByte_20 : decode cJ12_copyOfRangeByte 20 = .ok (.arraylength, 1) := dk_190 (dk_at dksJ12_copyOfRangeByte_0 20 rfl rfl)
theorem dJ12_copyOfRangeByte_21 : decode cJ12_copyOfRangeByte 21 = .ok (.iload_n 1, 1) := dk_27 (dk_at dksJ12_copyOfRangeByte_0 21 rfl rfl)
theorem dJ12_copyOfRangeByte_22 : decode cJ12_copyOfRangeByte 22 = .ok (.isub, 1) := dk_100 (dk_at dksJ12_copyOfRangeByte_0 22 rfl rfl)
theorem dJ12_copyOfRangeByte_23 : decode cJ12_copyOfRangeByte 23 = .ok (.iload_n 3, 1) := dk_29 (dk_at dksJ12_copyOfRangeByte_0 23 rfl rfl)
theorem dJ12_copyOfRangeByte_24 : decode cJ12_copyOfRangeByte 24 = .ok (.invokestatic 304, 3) := dk_184 1 48 (dk_at dksJ12_copyOfRangeByte_1 0 rfl rfl)
theorem dJ12_copyOfRangeByte_27 : decode cJ12_copyOfRangeByte 27 = .ok (.invokestatic 150, 3) := dk_184 0 150 (dk_at dksJ12_copyOfRangeByte_1 3 rfl rfl)
theorem dJ12_copyOfRangeByte_30 : decode cJ12_copyOfRangeByte 30 = .ok (.aload 4, 2) := dk_25 4 (dk_at dksJ12_copyOfRangeByte_1 6 rfl rfl)
theorem dJ12_copyOfRangeByte_32 : decode cJ12_copyOfRangeByte 32 = .ok (.areturn, 1) := dk_176 (dk_at dksJ12_copyOfRangeByte_1 8 rfl rfl)
abbrev cJ12_checkLength : ByteArray := prog_57_method_131_code
def yJ12_checkLength : MethodName := ⟨RJ12, "checkLength", "(II)V"⟩
def dkwJ12_checkLength_1 : List UInt8 := [182, 0, 50, 27, 182, 0, 54, 182, 0, 61, 183, 0, 65, 191, 177]
abbrev dktJ12_checkLength_1 : List UInt8 := dkwJ12_checkLength_1 ++ []
def dkwJ12_checkLength_0 : List UInt8 := [27, 26, 162, 0, 35, 187, 0, 43, 89, 187, 0, 45, 89, 183, 0, 47, 26, 182, 0, 54, 19, 1, 81]
abbrev dktJ12_checkLength_0 : List UInt8 := dkwJ12_checkLength_0 ++ dktJ12_checkLength_1
theorem dksJ12_checkLength_0 : cJ12_checkLength.data.toList.drop 0 = dktJ12_checkLength_0 := by decide +kernel
theorem dksJ12_checkLength_1 : cJ12_checkLength.data.toList.drop 23 = dktJ12_checkLength_1 := dk_seg dksJ12_checkLength_0 23 rfl rfl
theorem dJ12_checkLength_0 : decode cJ12_checkLength 0 = .ok (.iload_n 1, 1) := dk_27 (dk_at dksJ12_checkLength_0 0 rfl rfl)
theorem dJ12_checkLength_1 : decode cJ12_checkLength 1 = .ok (.iload_n 0, 1) := dk_26 (dk_at dksJ12_checkLength_0 1 rfl rfl)
theorem dJ12_checkLength_2 : decode cJ12_checkLength 2 = .ok (.if_icmp .ge 35, 3) := dk_162 0 35 (dk_at dksJ12_checkLength_0 2 rfl rfl)
theorem dJ12_checkLength_5 : decode cJ12_checkLength 5 = .ok (.new 43, 3) := dk_187 0 43 (dk_at dksJ12_checkLength_0 5 rfl rfl)
theorem dJ12_checkLength_8 : decode cJ12_checkLength 8 = .ok (.dup, 1) := dk_89 (dk_at dksJ12_checkLength_0 8 rfl rfl)
theorem dJ12_checkLength_9 : decode cJ12_checkLength 9 = .ok (.new 45, 3) := dk_187 0 45 (dk_at dksJ12_checkLength_0 9 rfl rfl)
theorem dJ12_checkLength_12 : decode cJ12_checkLength 12 = .ok (.dup, 1) := dk_89 (dk_at dksJ12_checkLength_0 12 rfl rfl)
theorem dJ12_checkLength_13 : decode cJ12_checkLength 13 = .ok (.invokespecial 47, 3) := dk_183 0 47 (dk_at dksJ12_checkLength_0 13 rfl rfl)
theorem dJ12_checkLength_16 : decode cJ12_checkLength 16 = .ok (.iload_n 0, 1) := dk_26 (dk_at dksJ12_checkLength_0 16 rfl rfl)
theorem dJ12_checkLength_17 : decode cJ12_checkLength 17 = .ok (.invokevirtual 54, 3) := dk_182 0 54 (dk_at dksJ12_checkLength_0 17 rfl rfl)
theorem dJ12_checkLength_20 : decode cJ12_checkLength 20 = .ok (.ldc_w 337, 3) := dk_19 1 81 (dk_at dksJ12_checkLength_0 20 rfl rfl)
theorem dJ12_checkLength_23 : decode cJ12_checkLength 23 = .ok (.invokevirtual 50, 3) := dk_182 0 50 (dk_at dksJ12_checkLength_1 0 rfl rfl)
theorem dJ12_checkLength_26 : decode cJ12_checkLength 26 = .ok (.iload_n 1, 1) := dk_27 (dk_at dksJ12_checkLength_1 3 rfl rfl)
theorem dJ12_checkLength_27 : decode cJ12_checkLength 27 = .ok (.invokevirtual 54, 3) := dk_182 0 54 (dk_at dksJ12_checkLength_1 4 rfl rfl)
theorem dJ12_checkLength_30 : decode cJ12_checkLength 30 = .ok (.invokevirtual 61, 3) := dk_182 0 61 (dk_at dksJ12_checkLength_1 7 rfl rfl)
theorem dJ12_checkLength_33 : decode cJ12_checkLength 33 = .ok (.invokespecial 65, 3) := dk_183 0 65 (dk_at dksJ12_checkLength_1 10 rfl rfl)
theorem dJ12_checkLength_36 : decode cJ12_checkLength 36 = .ok (.athrow, 1) := dk_191 (dk_at dksJ12_checkLength_1 13 rfl rfl)
theorem dJ12_checkLength_37 : decode cJ12_checkLength 37 = .ok (.return_, 1) := dk_177 (dk_at dksJ12_checkLength_1 14 rfl rfl)
abbrev cJ12_copyOf_2 : ByteArray := prog_57_method_119_code
def yJ12_copyOf_2 : MethodName := ⟨RJ12, "copyOf", "([Ljava/lang/Object;I)[Ljava/lang/Object;"⟩
def dkwJ12_copyOf_2_0 : List UInt8 := [42, 27, 42, 182, 0, 86, 184, 1, 44, 176]
abbrev dktJ12_copyOf_2_0 : List UInt8 := dkwJ12_copyOf_2_0 ++ []
theorem dksJ12_copyOf_2_0 : cJ12_copyOf_2.data.toList.drop 0 = dktJ12_copyOf_2_0 := by decide +kernel
theorem dJ12_copyOf_2_0 : decode cJ12_copyOf_2 0 = .ok (.aload_n 0, 1) := dk_42 (dk_at dksJ12_copyOf_2_0 0 rfl rfl)
theorem dJ12_copyOf_2_1 : decode cJ12_copyOf_2 1 = .ok (.iload_n 1, 1) := dk_27 (dk_at dksJ12_copyOf_2_0 1 rfl rfl)
theorem dJ12_copyOf_2_2 : decode cJ12_copyOf_2 2 = .ok (.aload_n 0, 1) := dk_42 (dk_at dksJ12_copyOf_2_0 2 rfl rfl)
theorem dJ12_copyOf_2_3 : decode cJ12_copyOf_2 3 = .ok (.invokevirtual 86, 3) := dk_182 0 86 (dk_at dksJ12_copyOf_2_0 3 rfl rfl)
theorem dJ12_copyOf_2_6 : decode cJ12_copyOf_2 6 = .ok (.invokestatic 300, 3) := dk_184 1 44 (dk_at dksJ12_copyOf_2_0 6 rfl rfl)
theorem dJ12_copyOf_2_9 : decode cJ12_copyOf_2 9 = .ok (.areturn, 1) := dk_176 (dk_at dksJ12_copyOf_2_0 9 rfl rfl)
abbrev cJ12_copyOf_3 : ByteArray := prog_57_method_120_code
def yJ12_copyOf_3 : MethodName := ⟨RJ12, "copyOf", "([Ljava/lang/Object;ILjava/lang/Class;)[Ljava/lang/Object;"⟩
def dkwJ12_copyOf_3_1 : List UInt8 := [78, 42, 3, 45, 3, 42, 190, 27, 184, 1, 48, 184, 0, 150, 45, 176]
abbrev dktJ12_copyOf_3_1 : List UInt8 := dkwJ12_copyOf_3_1 ++ []
def dkwJ12_copyOf_3_0 : List UInt8 := [44, 18, 110, 166, 0, 10, 27, 189, 0, 2, 167, 0, 14, 44, 182, 0, 90, 27, 184, 0, 95, 192, 0, 110]
abbrev dktJ12_copyOf_3_0 : List UInt8 := dkwJ12_copyOf_3_0 ++ dktJ12_copyOf_3_1
theorem dksJ12_copyOf_3_0 : cJ12_copyOf_3.data.toList.drop 0 = dktJ12_copyOf_3_0 := by decide +kernel
theorem dksJ12_copyOf_3_1 : cJ12_copyOf_3.data.toList.drop 24 = dktJ12_copyOf_3_1 := dk_seg dksJ12_copyOf_3_0 24 rfl rfl
theorem dJ12_copyOf_3_0 : decode cJ12_copyOf_3 0 = .ok (.aload_n 2, 1) := dk_44 (dk_at dksJ12_copyOf_3_0 0 rfl rfl)
theorem dJ12_copyOf_3_1 : decode cJ12_copyOf_3 1 = .ok (.ldc 110, 2) := dk_18 110 (dk_at dksJ12_copyOf_3_0 1 rfl rfl)
theorem dJ12_copyOf_3_3 : decode cJ12_copyOf_3 3 = .ok (.if_acmp .ne 10, 3) := dk_166 0 10 (dk_at dksJ12_copyOf_3_0 3 rfl rfl)
theorem dJ12_copyOf_3_6 : decode cJ12_copyOf_3 6 = .ok (.iload_n 1, 1) := dk_27 (dk_at dksJ12_copyOf_3_0 6 rfl rfl)
theorem dJ12_copyOf_3_7 : decode cJ12_copyOf_3 7 = .ok (.anewarray 2, 3) := dk_189 0 2 (dk_at dksJ12_copyOf_3_0 7 rfl rfl)
theorem dJ12_copyOf_3_10 : decode cJ12_copyOf_3 10 = .ok (.goto 14, 3) := dk_167 0 14 (dk_at dksJ12_copyOf_3_0 10 rfl rfl)
theorem dJ12_copyOf_3_13 : decode cJ12_copyOf_3 13 = .ok (.aload_n 2, 1) := dk_44 (dk_at dksJ12_copyOf_3_0 13 rfl rfl)
theorem dJ12_copyOf_3_14 : decode cJ12_copyOf_3 14 = .ok (.invokevirtual 90, 3) := dk_182 0 90 (dk_at dksJ12_copyOf_3_0 14 rfl rfl)
theorem dJ12_copyOf_3_17 : decode cJ12_copyOf_3 17 = .ok (.iload_n 1, 1) := dk_27 (dk_at dksJ12_copyOf_3_0 17 rfl rfl)
theorem dJ12_copyOf_3_18 : decode cJ12_copyOf_3 18 = .ok (.invokestatic 95, 3) := dk_184 0 95 (dk_at dksJ12_copyOf_3_0 18 rfl rfl)
theorem dJ12_copyOf_3_21 : decode cJ12_copyOf_3 21 = .ok (.checkcast 110, 3) := dk_192 0 110 (dk_at dksJ12_copyOf_3_0 21 rfl rfl)
theorem dJ12_copyOf_3_24 : decode cJ12_copyOf_3 24 = .ok (.astore_n 3, 1) := dk_78 (dk_at dksJ12_copyOf_3_1 0 rfl rfl)
theorem dJ12_copyOf_3_25 : decode cJ12_copyOf_3 25 = .ok (.aload_n 0, 1) := dk_42 (dk_at dksJ12_copyOf_3_1 1 rfl rfl)
theorem dJ12_copyOf_3_26 : decode cJ12_copyOf_3 26 = .ok (.iconst 0, 1) := dk_3 (dk_at dksJ12_copyOf_3_1 2 rfl rfl)
theorem dJ12_copyOf_3_27 : decode cJ12_copyOf_3 27 = .ok (.aload_n 3, 1) := dk_45 (dk_at dksJ12_copyOf_3_1 3 rfl rfl)
theorem dJ12_copyOf_3_28 : decode cJ12_copyOf_3 28 = .ok (.iconst 0, 1) := dk_3 (dk_at dksJ12_copyOf_3_1 4 rfl rfl)
theorem dJ12_copyOf_3_29 : decode cJ12_copyOf_3 29 = .ok (.aload_n 0, 1) := dk_42 (dk_at dksJ12_copyOf_3_1 5 rfl rfl)
theorem dJ12_copyOf_3_30 : decode cJ12_copyOf_3 30 = .ok (.arraylength, 1) := dk_190 (dk_at dksJ12_copyOf_3_1 6 rfl rfl)
theorem dJ12_copyOf_3_31 : decode cJ12_copyOf_3 31 = .ok (.iload_n 1, 1) := dk_27 (dk_at dksJ12_copyOf_3_1 7 rfl rfl)
theorem dJ12_copyOf_3_32 : decode cJ12_copyOf_3 32 = .ok (.invokestatic 304, 3) := dk_184 1 48 (dk_at dksJ12_copyOf_3_1 8 rfl rfl)
theorem dJ12_copyOf_3_35 : decode cJ12_copyOf_3 35 = .ok (.invokestatic 150, 3) := dk_184 0 150 (dk_at dksJ12_copyOf_3_1 11 rfl rfl)
theorem dJ12_copyOf_3_38 : decode cJ12_copyOf_3 38 = .ok (.aload_n 3, 1) := dk_45 (dk_at dksJ12_copyOf_3_1 14 rfl rfl)
theorem dJ12_copyOf_3_39 : decode cJ12_copyOf_3 39 = .ok (.areturn, 1) := dk_176 (dk_at dksJ12_copyOf_3_1 15 rfl rfl)
theorem q120 : (Jvm.Cond.initialized "java/util/Arrays") ∈ lw_all := lw_g (lw_at lw_m1 30 rfl) rfl
theorem q752 : (Jvm.Cond.static ({ cls := "java/util/Arrays", name := "copyOf", desc := "([BI)[B" } : Jvm.MethodName)) ∈ lw_all := lw_g (lw_at lw_m3 182 rfl) rfl
theorem q753 : (Jvm.Cond.code ({ cls := "java/util/Arrays", name := "copyOf", desc := "([BI)[B" } : Jvm.MethodName) prog_57_method_121_code (3 : Nat) (Option.some (Jvm.ClassFile.FieldType.array Jvm.ClassFile.FieldType.byte))) ∈ lw_all := lw_g (lw_at lw_m3 183 rfl) rfl
theorem q754 : (Jvm.Cond.methodLink "java/util/Arrays" (310 : Nat) ({ cls := "[B", name := "clone", desc := "()Ljava/lang/Object;" } : Jvm.MethodName)) ∈ lw_all := lw_g (lw_at lw_m3 184 rfl) rfl
theorem q760 : (Jvm.Cond.classLink "java/util/Arrays" (311 : Nat) "[B") ∈ lw_all := lw_g (lw_at lw_m3 190 rfl) rfl
theorem q761 : (Jvm.Cond.methodLink "java/util/Arrays" (304 : Nat) ({ cls := "java/lang/Math", name := "min", desc := "(II)I" } : Jvm.MethodName)) ∈ lw_all := lw_g (lw_at lw_m3 191 rfl) rfl
theorem q762 : (Jvm.Cond.methodLink "java/util/Arrays" (150 : Nat) ({ cls := "java/lang/System", name := "arraycopy", desc := "(Ljava/lang/Object;ILjava/lang/Object;II)V" } : Jvm.MethodName)) ∈ lw_all := lw_g (lw_at lw_m3 192 rfl) rfl
theorem q868 : (Jvm.Cond.static ({ cls := "java/util/Arrays", name := "copyOfRange", desc := "([BII)[B" } : Jvm.MethodName)) ∈ lw_all := lw_g (lw_at lw_m4 58 rfl) rfl
theorem q869 : (Jvm.Cond.code ({ cls := "java/util/Arrays", name := "copyOfRange", desc := "([BII)[B" } : Jvm.MethodName) prog_57_method_132_code (3 : Nat) (Option.some (Jvm.ClassFile.FieldType.array Jvm.ClassFile.FieldType.byte))) ∈ lw_all := lw_g (lw_at lw_m4 59 rfl) rfl
theorem q870 : (Jvm.Cond.methodLink "java/util/Arrays" (339 : Nat) ({ cls := "java/util/Arrays", name := "copyOfRangeByte", desc := "([BII)[B" } : Jvm.MethodName)) ∈ lw_all := lw_g (lw_at lw_m4 60 rfl) rfl
theorem q871 : (Jvm.Cond.static ({ cls := "java/util/Arrays", name := "copyOfRangeByte", desc := "([BII)[B" } : Jvm.MethodName)) ∈ lw_all := lw_g (lw_at lw_m4 61 rfl) rfl
theorem q872 : (Jvm.Cond.code ({ cls := "java/util/Arrays", name := "copyOfRangeByte", desc := "([BII)[B" } : Jvm.MethodName) prog_57_method_133_code (5 : Nat) (Option.some (Jvm.ClassFile.FieldType.array Jvm.ClassFile.FieldType.byte))) ∈ lw_all := lw_g (lw_at lw_m4 62 rfl) rfl
theorem q873 : (Jvm.Cond.methodLink "java/util/Arrays" (343 : Nat) ({ cls := "java/util/Arrays", name := "checkLength", desc := "(II)V" } : Jvm.MethodName)) ∈ lw_all := lw_g (lw_at lw_m4 63 rfl) rfl
theorem q874 : (Jvm.Cond.static ({ cls := "java/util/Arrays", name := "checkLength", desc := "(II)V" } : Jvm.MethodName)) ∈ lw_all := lw_g (lw_at lw_m4 64 rfl) rfl
theorem q875 : (Jvm.Cond.code ({ cls := "java/util/Arrays", name := "checkLength", desc := "(II)V" } : Jvm.MethodName) prog_57_method_131_code (2 : Nat) (Option.none : Option Jvm.ClassFile.FieldType)) ∈ lw_all := lw_g (lw_at lw_m4 65 rfl) rfl
theorem q1278 : (Jvm.Cond.static ({ cls := "java/util/Arrays", name := "copyOf", desc := "([Ljava/lang/Object;I)[Ljava/lang/Object;" } : Jvm.MethodName)) ∈ lw_all := lw_g (lw_at lw_m5 228 rfl) rfl
theorem q1279 : (Jvm.Cond.code ({ cls := "java/util/Arrays", name := "copyOf", desc := "([Ljava/lang/Object;I)[Ljava/lang/Object;" } : Jvm.MethodName) prog_57_method_119_code (2 : Nat) (Option.some (Jvm.ClassFile.FieldType.array (Jvm.ClassFile.FieldType.object "java/lang/Object")))) ∈ lw_all := lw_g (lw_at lw_m5 229 rfl) rfl
theorem q1280 : (Jvm.Cond.methodLink "java/util/Arrays" (86 : Nat) ({ cls := "java/lang/Object", name := "getClass", desc := "()Ljava/lang/Class;" } : Jvm.MethodName)) ∈ lw_all := lw_g (lw_at lw_m5 230 rfl) rfl
theorem q1313 : (Jvm.Cond.methodLink "java/util/Arrays" (300 : Nat) ({ cls := "java/util/Arrays", name := "copyOf", desc := "([Ljava/lang/Object;ILjava/lang/Class;)[Ljava/lang/Object;" } : Jvm.MethodName)) ∈ lw_all := lw_g (lw_at lw_m6 23 rfl) rfl
theorem q1314 : (Jvm.Cond.static ({ cls := "java/util/Arrays", name := "copyOf", desc := "([Ljava/lang/Object;ILjava/lang/Class;)[Ljava/lang/Object;" } : Jvm.MethodName)) ∈ lw_all := lw_g (lw_at lw_m6 24 rfl) rfl
theorem q1315 : (Jvm.Cond.code ({ cls := "java/util/Arrays", name := "copyOf", desc := "([Ljava/lang/Object;ILjava/lang/Class;)[Ljava/lang/Object;" } : Jvm.MethodName) prog_57_method_120_code (4 : Nat) (Option.some (Jvm.ClassFile.FieldType.array (Jvm.ClassFile.FieldType.object "java/lang/Object")))) ∈ lw_all := lw_g (lw_at lw_m6 25 rfl) rfl
theorem q1316 : (Jvm.Cond.classLink "java/util/Arrays" (110 : Nat) "[Ljava/lang/Object;") ∈ lw_all := lw_g (lw_at lw_m6 26 rfl) rfl
theorem q1318 : (Jvm.Cond.classLink "java/util/Arrays" (2 : Nat) "java/lang/Object") ∈ lw_all := lw_g (lw_at lw_m6 28 rfl) rfl
/-! jdk/internal/util/Preconditions -/
set_option maxRecDepth 100000
def RJ13 : String := "jdk/internal/util/Preconditions"
abbrev cJ13_checkFromToIndex : ByteArray := prog_64_method_12_code
def yJ13_checkFromToIndex : MethodName := ⟨RJ13, "checkFromToIndex", "(IIILjava/util/function/BiFunction;)I"⟩
def dkwJ13_checkFromToIndex_0 : List UInt8 := [26, 155, 0, 13, 26, 27, 163, 0, 8, 27, 28, 164, 0, 11, 45, 26, 27, 28, 184, 0, 99, 191, 26, 172]
abbrev dktJ13_checkFromToIndex_0 : List UInt8 := dkwJ13_checkFromToIndex_0 ++ []
theorem dksJ13_checkFromToIndex_0 : cJ13_checkFromToIndex.data.toList.drop 0 = dktJ13_checkFromToIndex_0 := by decide +kernel
theorem dJ13_checkFromToIndex_0 : decode cJ13_checkFromToIndex 0 = .ok (.iload_n 0, 1) := dk_26 (dk_at dksJ13_checkFromToIndex_0 0 rfl rfl)
theorem dJ13_checkFromToIndex_1 : decode cJ13_checkFromToIndex 1 = .ok (.ifCond .lt 13, 3) := dk_155 0 13 (dk_at dksJ13_checkFromToIndex_0 1 rfl rfl)
theorem dJ13_checkFromToIndex_4 : decode cJ13_checkFromToIndex 4 = .ok (.iload_n 0, 1) := dk_26 (dk_at dksJ13_checkFromToIndex_0 4 rfl rfl)
theorem dJ13_checkFromToIndex_5 : decode cJ13_checkFromToIndex 5 = .ok (.iload_n 1, 1) := dk_27 (dk_at dksJ13_checkFromToIndex_0 5 rfl rfl)
theorem dJ13_checkFromToIndex_6 : decode cJ13_checkFromToIndex 6 = .ok (.if_icmp .gt 8, 3) := dk_163 0 8 (dk_at dksJ13_checkFromToIndex_0 6 rfl rfl)
theorem dJ13_checkFromToIndex_9 : decode cJ13_checkFromToIndex 9 = .ok (.iload_n 1, 1) := dk_27 (dk_at dksJ13_checkFromToIndex_0 9 rfl rfl)
theorem dJ13_checkFromToIndex_10 : decode cJ13_checkFromToIndex 10 = .ok (.iload_n 2, 1) := dk_28 (dk_at dksJ13_checkFromToIndex_0 10 rfl rfl)
theorem dJ13_checkFromToIndex_11 : decode cJ13_checkFromToIndex 11 = .ok (.if_icmp .le 11, 3) := dk_164 0 11 (dk_at dksJ13_checkFromToIndex_0 11 rfl rfl)
theorem dJ13_checkFromToIndex_14 : decode cJ13_checkFromToIndex 14 = .ok (.aload_n 3, 1) := dk_45 (dk_at dksJ13_checkFromToIndex_0 14 rfl rfl)
theorem dJ13_checkFromToIndex_15 : decode cJ13_checkFromToIndex 15 = .ok (.iload_n 0, 1) := dk_26 (dk_at dksJ13_checkFromToIndex_0 15 rfl rfl)
theorem dJ13_checkFromToIndex_16 : decode cJ13_checkFromToIndex 16 = .ok (.iload_n 1, 1) := dk_27 (dk_at dksJ13_checkFromToIndex_0 16 rfl rfl)
theorem dJ13_checkFromToIndex_17 : decode cJ13_checkFromToIndex 17 = .ok (.iload_n 2, 1) := dk_28 (dk_at dksJ13_checkFromToIndex_0 17 rfl rfl)
theorem dJ13_checkFromToIndex_18 : decode cJ13_checkFromToIndex 18 = .ok (.invokestatic 99, 3) := dk_184 0 99 (dk_at dksJ13_checkFromToIndex_0 18 rfl rfl)
theorem dJ13_checkFromToIndex_21 : decode cJ13_checkFromToIndex 21 = .ok (.athrow, 1) := dk_191 (dk_at dksJ13_checkFromToIndex_0 21 rfl rfl)
theorem dJ13_checkFromToIndex_22 : decode cJ13_checkFromToIndex 22 = .ok (.iload_n 0, 1) := dk_26 (dk_at dksJ13_checkFromToIndex_0 22 rfl rfl)
theorem dJ13_checkFromToIndex_23 : decode cJ13_checkFromToIndex 23 = .ok (.ireturn, 1) := dk_172 (dk_at dksJ13_checkFromToIndex_0 23 rfl rfl)
abbrev cJ13_checkFromIndexSize : ByteArray := prog_64_method_13_code
def yJ13_checkFromIndexSize : MethodName := ⟨RJ13, "checkFromIndexSize", "(IIILjava/util/function/BiFunction;)I"⟩
def dkwJ13_checkFromIndexSize_1 : List UInt8 := [172]
abbrev dktJ13_checkFromIndexSize_1 : List UInt8 := dkwJ13_checkFromIndexSize_1 ++ []
def dkwJ13_checkFromIndexSize_0 : List UInt8 := [28, 26, 128, 27, 128, 155, 0, 10, 27, 28, 26, 100, 164, 0, 11, 45, 26, 27, 28, 184, 0, 103, 191, 26]
abbrev dktJ13_checkFromIndexSize_0 : List UInt8 := dkwJ13_checkFromIndexSize_0 ++ dktJ13_checkFromIndexSize_1
theorem dksJ13_checkFromIndexSize_0 : cJ13_checkFromIndexSize.data.toList.drop 0 = dktJ13_checkFromIndexSize_0 := by decide +kernel
theorem dksJ13_checkFromIndexSize_1 : cJ13_checkFromIndexSize.data.toList.drop 24 = dktJ13_checkFromIndexSize_1 := dk_seg dksJ13_checkFromIndexSize_0 24 rfl rfl
theorem dJ13_checkFromIndexSize_0 : decode cJ13_checkFromIndexSize 0 = .ok (.iload_n 2, 1) := dk_28 (dk_at dksJ13_checkFromIndexSize_0 0 rfl rfl)
theorem dJ13_checkFromIndexSize_1 : decode cJ13_checkFromIndexSize 1 = .ok (.iload_n 0, 1) := dk_26 (dk_at dksJ13_checkFromIndexSize_0 1 rfl rfl)
theorem dJ13_checkFromIndexSize_2 : decode cJ13_checkFromIndexSize 2 = .ok (.ior, 1) := dk_128 (dk_at dksJ13_checkFromIndexSize_0 2 rfl rfl)
theorem dJ13_checkFromIndexSize_3 : decode cJ13_checkFromIndexSize 3 = .ok (.iload_n 1, 1) := dk_27 (dk_at dksJ13_checkFromIndexSize_0 3 rfl rfl)
theorem dJ13_checkFromIndexSize_4 : decode cJ13_checkFromIndexSize 4 = .ok (.ior, 1) := dk_128 (dk_at dksJ13_checkFromIndexSize_0 4 rfl rfl)
theorem dJ13_checkFromIndexSize_5 : decode cJ13_checkFromIndexSize 5 = .ok (.ifCond .lt 10, 3) := dk_155 0 10 (dk_at dksJ13_checkFromIndexSize_0 5 rfl rfl)
theorem dJ13_checkFromIndexSize_8 : decode cJ13_checkFromIndexSize 8 = .ok (.iload_n 1, 1) := dk_27 (dk_at dksJ13_checkFromIndexSize_0 8 rfl rfl)
theorem dJ13_checkFromIndexSize_9 : decode cJ13_checkFromIndexSize 9 = .ok (.iload_n 2, 1) := dk_28 (dk_at dksJ13_checkFromIndexSize_0 9 rfl rfl)
theorem dJ13_checkFromIndexSize_10 : decode cJ13_checkFromIndexSize 10 = .ok (.iload_n 0, 1) := dk_26 (dk_at dksJ13_checkFromIndexSize_0 10 rfl rfl)
theorem dJ13_checkFromIndexSize_11 : decode cJ13_checkFromIndexSize 11 = .ok (.isub, 1) := dk_100 (dk_at dksJ13_checkFromIndexSize_0 11 rfl rfl)
theorem dJ13_checkFromIndexSize_12 : decode cJ13_checkFromIndexSize 12 = .ok (.if_icmp .le 11, 3) := dk_164 0 11 (dk_at dksJ13_checkFromIndexSize_0 12 rfl rfl)
theorem dJ13_checkFromIndexSize_15 : decode cJ13_checkFromIndexSize 15 = .ok (.aload_n 3, 1) := dk_45 (dk_at dksJ13_checkFromIndexSize_0 15 rfl rfl)
theorem dJ13_checkFromIndexSize_16 : decode cJ13_checkFromIndexSize 16 = .ok (.iload_n 0, 1) := dk_26 (dk_at dksJ13_checkFromIndexSize_0 16 rfl rfl)
theorem dJ13_checkFromIndexSize_17 : decode cJ13_checkFromIndexSize 17 = .ok (.iload_n 1, 1) := dk_27 (dk_at dksJ13_checkFromIndexSize_0 17 rfl rfl)
theorem dJ13_checkFromIndexSize_18 : decode cJ13_checkFromIndexSize 18 = .ok (.iload_n 2, 1) := dk_28 (dk_at dksJ13_checkFromIndexSize_0 18 rfl rfl)
theorem dJ13_checkFromIndexSize_19 : decode cJ13_checkFromIndexSize 19 = .ok (.invokestatic 103, 3) := dk_184 0 103 (dk_at dksJ13_checkFromIndexSize_0 19 rfl rfl)
theorem dJ13_checkFromIndexSize_22 : decode cJ13_checkFromIndexSize 22 = .ok (.athrow, 1) := dk_191 (dk_at dksJ13_checkFromIndexSize_0 22 rfl rfl)
theorem dJ13_checkFromIndexSize_23 : decode cJ13_checkFromIndexSize 23 = .ok (.iload_n 0, 1) := dk_26 (dk_at dksJ13_checkFromIndexSize_0 23 rfl rfl)
theorem dJ13_checkFromIndexSize_24 : decode cJ13_checkFromIndexSize 24 = .ok (.ireturn, 1) := dk_172 (dk_at dksJ13_checkFromIndexSize_1 0 rfl rfl)
abbrev cJ13_checkIndex : ByteArray := prog_64_method_11_code
def yJ13_checkIndex : MethodName := ⟨RJ13, "checkIndex", "(IILjava/util/function/BiFunction;)I"⟩
def dkwJ13_checkIndex_0 : List UInt8 := [26, 155, 0, 8, 26, 27, 161, 0, 10, 44, 26, 27, 184, 0, 95, 191, 26, 172]
abbrev dktJ13_checkIndex_0 : List UInt8 := dkwJ13_checkIndex_0 ++ []
theorem dksJ13_checkIndex_0 : cJ13_checkIndex.data.toList.drop 0 = dktJ13_checkIndex_0 := by decide +kernel
theorem dJ13_checkIndex_0 : decode cJ13_checkIndex 0 = .ok (.iload_n 0, 1) := dk_26 (dk_at dksJ13_checkIndex_0 0 rfl rfl)
theorem dJ13_checkIndex_1 : decode cJ13_checkIndex 1 = .ok (.ifCond .lt 8, 3) := dk_155 0 8 (dk_at dksJ13_checkIndex_0 1 rfl rfl)
theorem dJ13_checkIndex_4 : decode cJ13_checkIndex 4 = .ok (.iload_n 0, 1) := dk_26 (dk_at dksJ13_checkIndex_0 4 rfl rfl)
theorem dJ13_checkIndex_5 : decode cJ13_checkIndex 5 = .ok (.iload_n 1, 1) := dk_27 (dk_at dksJ13_checkIndex_0 5 rfl rfl)
theorem dJ13_checkIndex_6 : decode cJ13_checkIndex 6 = .ok (.if_icmp .lt 10, 3) := dk_161 0 10 (dk_at dksJ13_checkIndex_0 6 rfl rfl)
theorem dJ13_checkIndex_9 : decode cJ13_checkIndex 9 = .ok (.aload_n 2, 1) := dk_44 (dk_at dksJ13_checkIndex_0 9 rfl rfl)
theorem dJ13_checkIndex_10 : decode cJ13_checkIndex 10 = .ok (.iload_n 0, 1) := dk_26 (dk_at dksJ13_checkIndex_0 10 rfl rfl)
theorem dJ13_checkIndex_11 : decode cJ13_checkIndex 11 = .ok (.iload_n 1, 1) := dk_27 (dk_at dksJ13_checkIndex_0 11 rfl rfl)
theorem dJ13_checkIndex_12 : decode cJ13_checkIndex 12 = .ok (.invokestatic 95, 3) := dk_184 0 95 (dk_at dksJ13_checkIndex_0 12 rfl rfl)
theorem dJ13_checkIndex_15 : decode cJ13_checkIndex 15 = .ok (.athrow, 1) := dk_191 (dk_at dksJ13_checkIndex_0 15 rfl rfl)
theorem dJ13_checkIndex_16 : decode cJ13_checkIndex 16 = .ok (.iload_n 0, 1) := dk_26 (dk_at dksJ13_checkIndex_0 16 rfl rfl)
theorem dJ13_checkIndex_17 : decode cJ13_checkIndex 17 = .ok (.ireturn, 1) := dk_172 (dk_at dksJ13_checkIndex_0 17 rfl rfl)
theorem q122 : (Jvm.Cond.initialized "jdk/internal/util/Preconditions") ∈ lw_all := lw_g (lw_at lw_m1 32 rfl) rfl
theorem q783 : (Jvm.Cond.laysStatic "jdk/internal/util/Preconditions" "SIOOBE_FORMATTER" "Ljava/util/function/BiFunction;") ∈ lw_tbl := lw_at lw_m3 213 rfl
theorem q785 : (Jvm.Cond.static ({ cls := "jdk/internal/util/Preconditions", name := "checkFromToIndex", desc := "(IIILjava/util/function/BiFunction;)I" } : Jvm.MethodName)) ∈ lw_all := lw_g (lw_at lw_m3 215 rfl) rfl
theorem q786 : (Jvm.Cond.code ({ cls := "jdk/internal/util/Preconditions", name := "checkFromToIndex", desc := "(IIILjava/util/function/BiFunction;)I" } : Jvm.MethodName) prog_64_method_12_code (4 : Nat) (Option.some Jvm.ClassFile.FieldType.int)) ∈ lw_all := lw_g (lw_at lw_m3 216 rfl) rfl
theorem q831 : (Jvm.Cond.static ({ cls := "jdk/internal/util/Preconditions", name := "checkFromIndexSize", desc := "(IIILjava/util/function/BiFunction;)I" } : Jvm.MethodName)) ∈ lw_all := lw_g (lw_at lw_m4 21 rfl) rfl
theorem q832 : (Jvm.Cond.code ({ cls := "jdk/internal/util/Preconditions", name := "checkFromIndexSize", desc := "(IIILjava/util/function/BiFunction;)I" } : Jvm.MethodName) prog_64_method_13_code (4 : Nat) (Option.some Jvm.ClassFile.FieldType.int)) ∈ lw_all := lw_g (lw_at lw_m4 22 rfl) rfl
theorem q1337 : (Jvm.Cond.static ({ cls := "jdk/internal/util/Preconditions", name := "checkIndex", desc := "(IILjava/util/function/BiFunction;)I" } : Jvm.MethodName)) ∈ lw_all := lw_g (lw_at lw_m6 47 rfl) rfl
theorem q1338 : (Jvm.Cond.code ({ cls := "jdk/internal/util/Preconditions", name := "checkIndex", desc := "(IILjava/util/function/BiFunction;)I" } : Jvm.MethodName) prog_64_method_11_code (3 : Nat) (Option.some Jvm.ClassFile.FieldType.int)) ∈ lw_all := lw_g (lw_at lw_m6 48 rfl) rfl
/-! java/lang/StringLatin1 -/
set_option maxRecDepth 100000
def RJ14 : String := "java/lang/StringLatin1"
abbrev cJ14_inflate : ByteArray := prog_48_method_50_code
def yJ14_inflate : MethodName := ⟨RJ14, "inflate", "([BI[BII)V"⟩
def dkwJ14_inflate_0 : List UInt8 := [42, 27, 44, 29, 21, 4, 184, 0, 240, 177]
abbrev dktJ14_inflate_0 : List UInt8 := dkwJ14_inflate_0 ++ []
theorem dksJ14_inflate_0 : cJ14_inflate.data.toList.drop 0 = dktJ14_inflate_0 := by decide +kernel
theorem dJ14_inflate_0 : decode cJ14_inflate 0 = .ok (.aload_n 0, 1) := dk_42 (dk_at dksJ14_inflate_0 0 rfl rfl)
theorem dJ14_inflate_1 : decode cJ14_inflate 1 = .ok (.iload_n 1, 1) := dk_27 (dk_at dksJ14_inflate_0 1 rfl rfl)
theorem dJ14_inflate_2 : decode cJ14_inflate 2 = .ok (.aload_n 2, 1) := dk_44 (dk_at dksJ14_inflate_0 2 rfl rfl)
theorem dJ14_inflate_3 : decode cJ14_inflate 3 = .ok (.iload_n 3, 1) := dk_29 (dk_at dksJ14_inflate_0 3 rfl rfl)
theorem dJ14_inflate_4 : decode cJ14_inflate 4 = .ok (.iload 4, 2) := dk_21 4 (dk_at dksJ14_inflate_0 4 rfl rfl)
theorem dJ14_inflate_6 : decode cJ14_inflate 6 = .ok (.invokestatic 240, 3) := dk_184 0 240 (dk_at dksJ14_inflate_0 6 rfl rfl)
theorem dJ14_inflate_9 : decode cJ14_inflate 9 = .ok (.return_, 1) := dk_177 (dk_at dksJ14_inflate_0 9 rfl rfl)
abbrev cJ14_indexOf : ByteArray := prog_48_method_22_code
def yJ14_indexOf : MethodName := ⟨RJ14, "indexOf", "([BIII)I"⟩
def dkwJ14_indexOf_1 : List UInt8 := [161, 0, 5, 2, 172, 42, 27, 28, 29, 184, 0, 95, 172]
abbrev dktJ14_indexOf_1 : List UInt8 := dkwJ14_indexOf_1 ++ []
def dkwJ14_indexOf_0 : List UInt8 := [27, 184, 0, 88, 154, 0, 5, 2, 172, 28, 3, 184, 0, 92, 61, 29, 42, 190, 184, 0, 38, 62, 28, 29]
abbrev dktJ14_indexOf_0 : List UInt8 := dkwJ14_indexOf_0 ++ dktJ14_indexOf_1
theorem dksJ14_indexOf_0 : cJ14_indexOf.data.toList.drop 0 = dktJ14_indexOf_0 := by decide +kernel
theorem dksJ14_indexOf_1 : cJ14_indexOf.data.toList.drop 24 = dktJ14_indexOf_1 := dk_seg dksJ14_indexOf_0 24 rfl rfl
theorem dJ14_indexOf_0 : decode cJ14_indexOf 0 = .ok (.iload_n 1, 1) := dk_27 (dk_at dksJ14_indexOf_0 0 rfl rfl)
theorem dJ14_indexOf_1 : decode cJ14_indexOf 1 = .ok (.invokestatic 88, 3) := dk_184 0 88 (dk_at dksJ14_indexOf_0 1 rfl rfl)
theorem dJ14_indexOf_4 : decode cJ14_indexOf 4 = .ok (.ifCond .ne 5, 3) := dk_154 0 5 (dk_at dksJ14_indexOf_0 4 rfl rfl)
theorem dJ14_indexOf_7 : decode cJ14_indexOf 7 = .ok (.iconst (-1), 1) := dk_2 (dk_at dksJ14_indexOf_0 7 rfl rfl)
theorem dJ14_indexOf_8 : decode cJ14_indexOf 8 = .ok (.ireturn, 1) := dk_172 (dk_at dksJ14_indexOf_0 8 rfl rfl)
theorem dJ14_indexOf_9 : decode cJ14_indexOf 9 = .ok (.iload_n 2, 1) := dk_28 (dk_at dksJ14_indexOf_0 9 rfl rfl)
theorem dJ14_indexOf_10 : decode cJ14_indexOf 10 = .ok (.iconst 0, 1) := dk_3 (dk_at dksJ14_indexOf_0 10 rfl rfl)
theorem dJ14_indexOf_11 : decode cJ14_indexOf 11 = .ok (.invokestatic 92, 3) := dk_184 0 92 (dk_at dksJ14_indexOf_0 11 rfl rfl)
theorem dJ14_indexOf_14 : decode cJ14_indexOf 14 = .ok (.istore_n 2, 1) := dk_61 (dk_at dksJ14_indexOf_0 14 rfl rfl)
theorem dJ14_indexOf_15 : decode cJ14_indexOf 15 = .ok (.iload_n 3, 1) := dk_29 (dk_at dksJ14_indexOf_0 15 rfl rfl)
theorem dJ14_indexOf_16 : decode cJ14_indexOf 16 = .ok (.aload_n 0, 1) := dk_42 (dk_at dksJ14_indexOf_0 16 rfl rfl)
theorem dJ14_indexOf_17 : decode cJ14_indexOf 17 = .ok (.arraylength, 1) := dk_190 (dk_at dksJ14_indexOf_0 17 rfl rfl)
theorem dJ14_indexOf_18 : decode cJ14_indexOf 18 = .ok (.invokestatic 38, 3) := dk_184 0 38 (dk_at dksJ14_indexOf_0 18 rfl rfl)
theorem dJ14_indexOf_21 : decode cJ14_indexOf 21 = .ok (.istore_n 3, 1) := dk_62 (dk_at dksJ14_indexOf_0 21 rfl rfl)
theorem dJ14_indexOf_22 : decode cJ14_indexOf 22 = .ok (.iload_n 2, 1) := dk_28 (dk_at dksJ14_indexOf_0 22 rfl rfl)
theorem dJ14_indexOf_23 : decode cJ14_indexOf 23 = .ok (.iload_n 3, 1) := dk_29 (dk_at dksJ14_indexOf_0 23 rfl rfl)
theorem dJ14_indexOf_24 : decode cJ14_indexOf 24 = .ok (.if_icmp .lt 5, 3) := dk_161 0 5 (dk_at dksJ14_indexOf_1 0 rfl rfl)
theorem dJ14_indexOf_27 : decode cJ14_indexOf 27 = .ok (.iconst (-1), 1) := dk_2 (dk_at dksJ14_indexOf_1 3 rfl rfl)
theorem dJ14_indexOf_28 : decode cJ14_indexOf 28 = .ok (.ireturn, 1) := dk_172 (dk_at dksJ14_indexOf_1 4 rfl rfl)
theorem dJ14_indexOf_29 : decode cJ14_indexOf 29 = .ok (.aload_n 0, 1) := dk_42 (dk_at dksJ14_indexOf_1 5 rfl rfl)
theorem dJ14_indexOf_30 : decode cJ14_indexOf 30 = .ok (.iload_n 1, 1) := dk_27 (dk_at dksJ14_indexOf_1 6 rfl rfl)
theorem dJ14_indexOf_31 : decode cJ14_indexOf 31 = .ok (.iload_n 2, 1) := dk_28 (dk_at dksJ14_indexOf_1 7 rfl rfl)
theorem dJ14_indexOf_32 : decode cJ14_indexOf 32 = .ok (.iload_n 3, 1) := dk_29 (dk_at dksJ14_indexOf_1 8 rfl rfl)
theorem dJ14_indexOf_33 : decode cJ14_indexOf 33 = .ok (.invokestatic 95, 3) := dk_184 0 95 (dk_at dksJ14_indexOf_1 9 rfl rfl)
theorem dJ14_indexOf_36 : decode cJ14_indexOf 36 = .ok (.ireturn, 1) := dk_172 (dk_at dksJ14_indexOf_1 12 rfl rfl)
abbrev cJ14_canEncode : ByteArray := prog_48_method_4_code
def yJ14_canEncode : MethodName := ⟨RJ14, "canEncode", "(I)Z"⟩
def dkwJ14_canEncode_0 : List UInt8 := [26, 155, 0, 14, 26, 17, 0, 255, 163, 0, 7, 4, 167, 0, 4, 3, 172]
abbrev dktJ14_canEncode_0 : List UInt8 := dkwJ14_canEncode_0 ++ []
theorem dksJ14_canEncode_0 : cJ14_canEncode.data.toList.drop 0 = dktJ14_canEncode_0 := by decide +kernel
theorem dJ14_canEncode_0 : decode cJ14_canEncode 0 = .ok (.iload_n 0, 1) := dk_26 (dk_at dksJ14_canEncode_0 0 rfl rfl)
theorem dJ14_canEncode_1 : decode cJ14_canEncode 1 = .ok (.ifCond .lt 14, 3) := dk_155 0 14 (dk_at dksJ14_canEncode_0 1 rfl rfl)
theorem dJ14_canEncode_4 : decode cJ14_canEncode 4 = .ok (.iload_n 0, 1) := dk_26 (dk_at dksJ14_canEncode_0 4 rfl rfl)
theorem dJ14_canEncode_5 : decode cJ14_canEncode 5 = .ok (.sipush 255, 3) := dk_17 0 255 (dk_at dksJ14_canEncode_0 5 rfl rfl)
theorem dJ14_canEncode_8 : decode cJ14_canEncode 8 = .ok (.if_icmp .gt 7, 3) := dk_163 0 7 (dk_at dksJ14_canEncode_0 8 rfl rfl)
theorem dJ14_canEncode_11 : decode cJ14_canEncode 11 = .ok (.iconst 1, 1) := dk_4 (dk_at dksJ14_canEncode_0 11 rfl rfl)
theorem dJ14_canEncode_12 : decode cJ14_canEncode 12 = .ok (.goto 4, 3) := dk_167 0 4 (dk_at dksJ14_canEncode_0 12 rfl rfl)
theorem dJ14_canEncode_15 : decode cJ14_canEncode 15 = .ok (.iconst 0, 1) := dk_3 (dk_at dksJ14_canEncode_0 15 rfl rfl)
theorem dJ14_canEncode_16 : decode cJ14_canEncode 16 = .ok (.ireturn, 1) := dk_172 (dk_at dksJ14_canEncode_0 16 rfl rfl)
abbrev cJ14_indexOfChar : ByteArray := prog_48_method_23_code
def yJ14_indexOfChar : MethodName := ⟨RJ14, "indexOfChar", "([BIII)I"⟩
def dkwJ14_indexOfChar_1 : List UInt8 := [172, 132, 5, 1, 167, 255, 235, 2, 172]
abbrev dktJ14_indexOfChar_1 : List UInt8 := dkwJ14_indexOfChar_1 ++ []
def dkwJ14_indexOfChar_0 : List UInt8 := [27, 145, 54, 4, 28, 54, 5, 21, 5, 29, 162, 0, 21, 42, 21, 5, 51, 21, 4, 160, 0, 6, 21, 5]
abbrev dktJ14_indexOfChar_0 : List UInt8 := dkwJ14_indexOfChar_0 ++ dktJ14_indexOfChar_1
theorem dksJ14_indexOfChar_0 : cJ14_indexOfChar.data.toList.drop 0 = dktJ14_indexOfChar_0 := by decide +kernel
theorem dksJ14_indexOfChar_1 : cJ14_indexOfChar.data.toList.drop 24 = dktJ14_indexOfChar_1 := dk_seg dksJ14_indexOfChar_0 24 rfl rfl
theorem dJ14_indexOfChar_0 : decode cJ14_indexOfChar 0 = .ok (.iload_n 1, 1) := dk_27 (dk_at dksJ14_indexOfChar_0 0 rfl rfl)
theorem dJ14_indexOfChar_1 : decode cJ14_indexOfChar 1 = .ok (.i2b, 1) := dk_145 (dk_at dksJ14_indexOfChar_0 1 rfl rfl)
theorem dJ14_indexOfChar_2 : decode cJ14_indexOfChar 2 = .ok (.istore 4, 2) := dk_54 4 (dk_at dksJ14_indexOfChar_0 2 rfl rfl)
theorem dJ14_indexOfChar_4 : decode cJ14_indexOfChar 4 = .ok (.iload_n 2, 1) := dk_28 (dk_at dksJ14_indexOfChar_0 4 rfl rfl)
theorem dJ14_indexOfChar_5 : decode cJ14_indexOfChar 5 = .ok (.istore 5, 2) := dk_54 5 (dk_at dksJ14_indexOfChar_0 5 rfl rfl)
theorem dJ14_indexOfChar_7 : decode cJ14_indexOfChar 7 = .ok (.iload 5, 2) := dk_21 5 (dk_at dksJ14_indexOfChar_0 7 rfl rfl)
theorem dJ14_indexOfChar_9 : decode cJ14_indexOfChar 9 = .ok (.iload_n 3, 1) := dk_29 (dk_at dksJ14_indexOfChar_0 9 rfl rfl)
theorem dJ14_indexOfChar_10 : decode cJ14_indexOfChar 10 = .ok (.if_icmp .ge 21, 3) := dk_162 0 21 (dk_at dksJ14_indexOfChar_0 10 rfl rfl)
theorem dJ14_indexOfChar_13 : decode cJ14_indexOfChar 13 = .ok (.aload_n 0, 1) := dk_42 (dk_at dksJ14_indexOfChar_0 13 rfl rfl)
theorem dJ14_indexOfChar_14 : decode cJ14_indexOfChar 14 = .ok (.iload 5, 2) := dk_21 5 (dk_at dksJ14_indexOfChar_0 14 rfl rfl)
theorem dJ14_indexOfChar_16 : decode cJ14_indexOfChar 16 = .ok (.baload, 1) := dk_51 (dk_at dksJ14_indexOfChar_0 16 rfl rfl)
theorem dJ14_indexOfChar_17 : decode cJ14_indexOfChar 17 = .ok (.iload 4, 2) := dk_21 4 (dk_at dksJ14_indexOfChar_0 17 rfl rfl)
theorem dJ14_indexOfChar_19 : decode cJ14_indexOfChar 19 = .ok (.if_icmp .ne 6, 3) := dk_160 0 6 (dk_at dksJ14_indexOfChar_0 19 rfl rfl)
theorem dJ14_indexOfChar_22 : decode cJ14_indexOfChar 22 = .ok (.iload 5, 2) := dk_21 5 (dk_at dksJ14_indexOfChar_0 22 rfl rfl)
theorem dJ14_indexOfChar_24 : decode cJ14_indexOfChar 24 = .ok (.ireturn, 1) := dk_172 (dk_at dksJ14_indexOfChar_1 0 rfl rfl)
theorem dJ14_indexOfChar_25 : decode cJ14_indexOfChar 25 = .ok (.iinc 5 1, 3) := dk_132 5 1 (dk_at dksJ14_indexOfChar_1 1 rfl rfl)
theorem dJ14_indexOfChar_28 : decode cJ14_indexOfChar 28 = .ok (.goto (-21), 3) := dk_167 255 235 (dk_at dksJ14_indexOfChar_1 4 rfl rfl)
theorem dJ14_indexOfChar_31 : decode cJ14_indexOfChar 31 = .ok (.iconst (-1), 1) := dk_2 (dk_at dksJ14_indexOfChar_1 7 rfl rfl)
theorem dJ14_indexOfChar_32 : decode cJ14_indexOfChar 32 = .ok (.ireturn, 1) := dk_172 (dk_at dksJ14_indexOfChar_1 8 rfl rfl)
theorem q123 : (Jvm.Cond.initialized "java/lang/StringLatin1") ∈ lw_all := lw_g (lw_at lw_m1 33 rfl) rfl
theorem q819 : (Jvm.Cond.static ({ cls := "java/lang/StringLatin1", name := "inflate", desc := "([BI[BII)V" } : Jvm.MethodName)) ∈ lw_all := lw_g (lw_at lw_m4 9 rfl) rfl
theorem q820 : (Jvm.Cond.code ({ cls := "java/lang/StringLatin1", name := "inflate", desc := "([BI[BII)V" } : Jvm.MethodName) prog_48_method_50_code (5 : Nat) (Option.none : Option Jvm.ClassFile.FieldType)) ∈ lw_all := lw_g (lw_at lw_m4 10 rfl) rfl
theorem q821 : (Jvm.Cond.methodLink "java/lang/StringLatin1" (240 : Nat) ({ cls := "java/lang/StringUTF16", name := "inflate", desc := "([BI[BII)V" } : Jvm.MethodName)) ∈ lw_all := lw_g (lw_at lw_m4 11 rfl) rfl
theorem q983 : (Jvm.Cond.static ({ cls := "java/lang/StringLatin1", name := "indexOf", desc := "([BIII)I" } : Jvm.MethodName)) ∈ lw_all := lw_g (lw_at lw_m4 173 rfl) rfl
theorem q984 : (Jvm.Cond.code ({ cls := "java/lang/StringLatin1", name := "indexOf", desc := "([BIII)I" } : Jvm.MethodName) prog_48_method_22_code (4 : Nat) (Option.some Jvm.ClassFile.FieldType.int)) ∈ lw_all := lw_g (lw_at lw_m4 174 rfl) rfl
theorem q985 : (Jvm.Cond.methodLink "java/lang/StringLatin1" (88 : Nat) ({ cls := "java/lang/StringLatin1", name := "canEncode", desc := "(I)Z" } : Jvm.MethodName)) ∈ lw_all := lw_g (lw_at lw_m4 175 rfl) rfl
theorem q986 : (Jvm.Cond.static ({ cls := "java/lang/StringLatin1", name := "canEncode", desc := "(I)Z" } : Jvm.MethodName)) ∈ lw_all := lw_g (lw_at lw_m4 176 rfl) rfl
theorem q987 : (Jvm.Cond.code ({ cls := "java/lang/StringLatin1", name := "canEncode", desc := "(I)Z" } : Jvm.MethodName) prog_48_method_4_code (1 : Nat) (Option.some Jvm.ClassFile.FieldType.boolean)) ∈ lw_all := lw_g (lw_at lw_m4 177 rfl) rfl
theorem q988 : (Jvm.Cond.methodLink "java/lang/StringLatin1" (92 : Nat) ({ cls := "java/lang/Math", name := "max", desc := "(II)I" } : Jvm.MethodName)) ∈ lw_all := lw_g (lw_at lw_m4 178 rfl) rfl
theorem q989 : (Jvm.Cond.methodLink "java/lang/StringLatin1" (38 : Nat) ({ cls := "java/lang/Math", name := "min", desc := "(II)I" } : Jvm.MethodName)) ∈ lw_all := lw_g (lw_at lw_m4 179 rfl) rfl
theorem q990 : (Jvm.Cond.methodLink "java/lang/StringLatin1" (95 : Nat) ({ cls := "java/lang/StringLatin1", name := "indexOfChar", desc := "([BIII)I" } : Jvm.MethodName)) ∈ lw_all := lw_g (lw_at lw_m4 180 rfl) rfl
theorem q991 : (Jvm.Cond.static ({ cls := "java/lang/StringLatin1", name := "indexOfChar", desc := "([BIII)I" } : Jvm.MethodName)) ∈ lw_all := lw_g (lw_at lw_m4 181 rfl) rfl
theorem q992 : (Jvm.Cond.code ({ cls := "java/lang/StringLatin1", name := "indexOfChar", desc := "([BIII)I" } : Jvm.MethodName) prog_48_method_23_code (6 : Nat) (Option.some Jvm.ClassFile.FieldType.int)) ∈ lw_all := lw_g (lw_at lw_m4 182 rfl) rfl
/-! java/lang/Character -/
set_option maxRecDepth 100000
def RJ15 : String := "java/lang/Character"
abbrev cJ15_isValidCodePoint : ByteArray := prog_38_method_11_code
def yJ15_isValidCodePoint : MethodName := ⟨RJ15, "isValidCodePoint", "(I)Z"⟩
def dkwJ15_isValidCodePoint_0 : List UInt8 := [26, 16, 16, 124, 60, 27, 16, 17, 162, 0, 7, 4, 167, 0, 4, 3, 172]
abbrev dktJ15_isValidCodePoint_0 : List UInt8 := dkwJ15_isValidCodePoint_0 ++ []
theorem dksJ15_isValidCodePoint_0 : cJ15_isValidCodePoint.data.toList.drop 0 = dktJ15_isValidCodePoint_0 := by decide +kernel
theorem dJ15_isValidCodePoint_0 : decode cJ15_isValidCodePoint 0 = .ok (.iload_n 0, 1) := dk_26 (dk_at dksJ15_isValidCodePoint_0 0 rfl rfl)
theorem dJ15_isValidCodePoint_1 : decode cJ15_isValidCodePoint 1 = .ok (.bipush 16, 2) := dk_16 16 (dk_at dksJ15_isValidCodePoint_0 1 rfl rfl)
theorem dJ15_isValidCodePoint_3 : decode cJ15_isValidCodePoint 3 = .ok (.iushr, 1) := dk_124 (dk_at dksJ15_isValidCodePoint_0 3 rfl rfl)
theorem dJ15_isValidCodePoint_4 : decode cJ15_isValidCodePoint 4 = .ok (.istore_n 1, 1) := dk_60 (dk_at dksJ15_isValidCodePoint_0 4 rfl rfl)
theorem dJ15_isValidCodePoint_5 : decode cJ15_isValidCodePoint 5 = .ok (.iload_n 1, 1) := dk_27 (dk_at dksJ15_isValidCodePoint_0 5 rfl rfl)
theorem dJ15_isValidCodePoint_6 : decode cJ15_isValidCodePoint 6 = .ok (.bipush 17, 2) := dk_16 17 (dk_at dksJ15_isValidCodePoint_0 6 rfl rfl)
theorem dJ15_isValidCodePoint_8 : decode cJ15_isValidCodePoint 8 = .ok (.if_icmp .ge 7, 3) := dk_162 0 7 (dk_at dksJ15_isValidCodePoint_0 8 rfl rfl)
theorem dJ15_isValidCodePoint_11 : decode cJ15_isValidCodePoint 11 = .ok (.iconst 1, 1) := dk_4 (dk_at dksJ15_isValidCodePoint_0 11 rfl rfl)
theorem dJ15_isValidCodePoint_12 : decode cJ15_isValidCodePoint 12 = .ok (.goto 4, 3) := dk_167 0 4 (dk_at dksJ15_isValidCodePoint_0 12 rfl rfl)
theorem dJ15_isValidCodePoint_15 : decode cJ15_isValidCodePoint 15 = .ok (.iconst 0, 1) := dk_3 (dk_at dksJ15_isValidCodePoint_0 15 rfl rfl)
theorem dJ15_isValidCodePoint_16 : decode cJ15_isValidCodePoint 16 = .ok (.ireturn, 1) := dk_172 (dk_at dksJ15_isValidCodePoint_0 16 rfl rfl)
abbrev cJ15_highSurrogate : ByteArray := prog_38_method_28_code
def yJ15_highSurrogate : MethodName := ⟨RJ15, "highSurrogate", "(I)C"⟩
def dkwJ15_highSurrogate_0 : List UInt8 := [26, 16, 10, 124, 18, 110, 96, 146, 172]
abbrev dktJ15_highSurrogate_0 : List UInt8 := dkwJ15_highSurrogate_0 ++ []
theorem dksJ15_highSurrogate_0 : cJ15_highSurrogate.data.toList.drop 0 = dktJ15_highSurrogate_0 := by decide +kernel
theorem dJ15_highSurrogate_0 : decode cJ15_highSurrogate 0 = .ok (.iload_n 0, 1) := dk_26 (dk_at dksJ15_highSurrogate_0 0 rfl rfl)
theorem dJ15_highSurrogate_1 : decode cJ15_highSurrogate 1 = .ok (.bipush 10, 2) := dk_16 10 (dk_at dksJ15_highSurrogate_0 1 rfl rfl)
theorem dJ15_highSurrogate_3 : decode cJ15_highSurrogate 3 = .ok (.iushr, 1) := dk_124 (dk_at dksJ15_highSurrogate_0 3 rfl rfl)
theorem dJ15_highSurrogate_4 : decode cJ15_highSurrogate 4 = .ok (.ldc 110, 2) := dk_18 110 (dk_at dksJ15_highSurrogate_0 4 rfl rfl)
theorem dJ15_highSurrogate_6 : decode cJ15_highSurrogate 6 = .ok (.iadd, 1) := dk_96 (dk_at dksJ15_highSurrogate_0 6 rfl rfl)
theorem dJ15_highSurrogate_7 : decode cJ15_highSurrogate 7 = .ok (.i2c, 1) := dk_146 (dk_at dksJ15_highSurrogate_0 7 rfl rfl)
theorem dJ15_highSurrogate_8 : decode cJ15_highSurrogate 8 = .ok (.ireturn, 1) := dk_172 (dk_at dksJ15_highSurrogate_0 8 rfl rfl)
abbrev cJ15_lowSurrogate : ByteArray := prog_38_method_29_code
def yJ15_lowSurrogate : MethodName := ⟨RJ15, "lowSurrogate", "(I)C"⟩
def dkwJ15_lowSurrogate_0 : List UInt8 := [26, 17, 3, 255, 126, 18, 76, 96, 146, 172]
abbrev dktJ15_lowSurrogate_0 : List UInt8 := dkwJ15_lowSurrogate_0 ++ []
theorem dksJ15_lowSurrogate_0 : cJ15_lowSurrogate.data.toList.drop 0 = dktJ15_lowSurrogate_0 := by decide +kernel
theorem dJ15_lowSurrogate_0 : decode cJ15_lowSurrogate 0 = .ok (.iload_n 0, 1) := dk_26 (dk_at dksJ15_lowSurrogate_0 0 rfl rfl)
theorem dJ15_lowSurrogate_1 : decode cJ15_lowSurrogate 1 = .ok (.sipush 1023, 3) := dk_17 3 255 (dk_at dksJ15_lowSurrogate_0 1 rfl rfl)
theorem dJ15_lowSurrogate_4 : decode cJ15_lowSurrogate 4 = .ok (.iand, 1) := dk_126 (dk_at dksJ15_lowSurrogate_0 4 rfl rfl)
theorem dJ15_lowSurrogate_5 : decode cJ15_lowSurrogate 5 = .ok (.ldc 76, 2) := dk_18 76 (dk_at dksJ15_lowSurrogate_0 5 rfl rfl)
theorem dJ15_lowSurrogate_7 : decode cJ15_lowSurrogate 7 = .ok (.iadd, 1) := dk_96 (dk_at dksJ15_lowSurrogate_0 7 rfl rfl)
theorem dJ15_lowSurrogate_8 : decode cJ15_lowSurrogate 8 = .ok (.i2c, 1) := dk_146 (dk_at dksJ15_lowSurrogate_0 8 rfl rfl)
theorem dJ15_lowSurrogate_9 : decode cJ15_lowSurrogate 9 = .ok (.ireturn, 1) := dk_172 (dk_at dksJ15_lowSurrogate_0 9 rfl rfl)
theorem q124 : (Jvm.Cond.initialized "java/lang/Character") ∈ lw_all := lw_g (lw_at lw_m1 34 rfl) rfl
theorem q1009 : (Jvm.Cond.static ({ cls := "java/lang/Character", name := "isValidCodePoint", desc := "(I)Z" } : Jvm.MethodName)) ∈ lw_all := lw_g (lw_at lw_m4 199 rfl) rfl
theorem q1010 : (Jvm.Cond.code ({ cls := "java/lang/Character", name := "isValidCodePoint", desc := "(I)Z" } : Jvm.MethodName) prog_38_method_11_code (2 : Nat) (Option.some Jvm.ClassFile.FieldType.boolean)) ∈ lw_all := lw_g (lw_at lw_m4 200 rfl) rfl
theorem q1012 : (Jvm.Cond.static ({ cls := "java/lang/Character", name := "highSurrogate", desc := "(I)C" } : Jvm.MethodName)) ∈ lw_all := lw_g (lw_at lw_m4 202 rfl) rfl
theorem q1013 : (Jvm.Cond.code ({ cls := "java/lang/Character", name := "highSurrogate", desc := "(I)C" } : Jvm.MethodName) prog_38_method_28_code (1 : Nat) (Option.some Jvm.ClassFile.FieldType.char)) ∈ lw_all := lw_g (lw_at lw_m4 203 rfl) rfl
theorem q1014 : (Jvm.Cond.constant "java/lang/Character" (110 : Nat) (55232 : Int32)) ∈ lw_all := lw_g (lw_at lw_m4 204 rfl) rfl
theorem q1016 : (Jvm.Cond.static ({ cls := "java/lang/Character", name := "lowSurrogate", desc := "(I)C" } : Jvm.MethodName)) ∈ lw_all := lw_g (lw_at lw_m4 206 rfl) rfl
theorem q1017 : (Jvm.Cond.code ({ cls := "java/lang/Character", name := "lowSurrogate", desc := "(I)C" } : Jvm.MethodName) prog_38_method_29_code (1 : Nat) (Option.some Jvm.ClassFile.FieldType.char)) ∈ lw_all := lw_g (lw_at lw_m4 207 rfl) rfl
theorem q1018 : (Jvm.Cond.constant "java/lang/Character" (76 : Nat) (56320 : Int32)) ∈ lw_all := lw_g (lw_at lw_m4 208 rfl) rfl
/-! java/util/Objects -/
set_option maxRecDepth 100000
def RJ16 : String := "java/util/Objects"
abbrev cJ16_checkIndex : ByteArray := prog_60_method_17_code
def yJ16_checkIndex : MethodName := ⟨RJ16, "checkIndex", "(II)I"⟩
def dkwJ16_checkIndex_0 : List UInt8 := [26, 27, 1, 184, 0, 105, 172]
abbrev dktJ16_checkIndex_0 : List UInt8 := dkwJ16_checkIndex_0 ++ []
theorem dksJ16_checkIndex_0 : cJ16_checkIndex.data.toList.drop 0 = dktJ16_checkIndex_0 := by decide +kernel
theorem dJ16_checkIndex_0 : decode cJ16_checkIndex 0 = .ok (.iload_n 0, 1) := dk_26 (dk_at dksJ16_checkIndex_0 0 rfl rfl)
theorem dJ16_checkIndex_1 : decode cJ16_checkIndex 1 = .ok (.iload_n 1, 1) := dk_27 (dk_at dksJ16_checkIndex_0 1 rfl rfl)
theorem dJ16_checkIndex_2 : decode cJ16_checkIndex 2 = .ok (.aconst_null, 1) := dk_1 (dk_at dksJ16_checkIndex_0 2 rfl rfl)
theorem dJ16_checkIndex_3 : decode cJ16_checkIndex 3 = .ok (.invokestatic 105, 3) := dk_184 0 105 (dk_at dksJ16_checkIndex_0 3 rfl rfl)
theorem dJ16_checkIndex_6 : decode cJ16_checkIndex 6 = .ok (.ireturn, 1) := dk_172 (dk_at dksJ16_checkIndex_0 6 rfl rfl)
theorem q132 : (Jvm.Cond.initialized "java/util/Objects") ∈ lw_all := lw_g (lw_at lw_m1 42 rfl) rfl
theorem q1334 : (Jvm.Cond.static ({ cls := "java/util/Objects", name := "checkIndex", desc := "(II)I" } : Jvm.MethodName)) ∈ lw_all := lw_g (lw_at lw_m6 44 rfl) rfl
theorem q1335 : (Jvm.Cond.code ({ cls := "java/util/Objects", name := "checkIndex", desc := "(II)I" } : Jvm.MethodName) prog_60_method_17_code (2 : Nat) (Option.some Jvm.ClassFile.FieldType.int)) ∈ lw_all := lw_g (lw_at lw_m6 45 rfl) rfl
theorem q1336 : (Jvm.Cond.methodLink "java/util/Objects" (105 : Nat) ({ cls := "jdk/internal/util/Preconditions", name := "checkIndex", desc := "(IILjava/util/function/BiFunction;)I" } : Jvm.MethodName)) ∈ lw_all := lw_g (lw_at lw_m6 46 rfl) rfl
/-! java/lang/Integer -/
set_option maxRecDepth 100000
def RJ17 : String := "java/lang/Integer"
abbrev cJ17_bitCount : ByteArray := prog_42_method_49_code
def yJ17_bitCount : MethodName := ⟨RJ17, "bitCount", "(I)I"⟩
def dkwJ17_bitCount_2 : List UInt8 := [26, 16, 63, 126, 172]
abbrev dktJ17_bitCount_2 : List UInt8 := dkwJ17_bitCount_2 ++ []
def dkwJ17_bitCount_1 : List UInt8 := [26, 26, 7, 124, 96, 19, 1, 11, 126, 59, 26, 26, 16, 8, 124, 96, 59, 26, 26, 16, 16, 124, 96, 59]
abbrev dktJ17_bitCount_1 : List UInt8 := dkwJ17_bitCount_1 ++ dktJ17_bitCount_2
def dkwJ17_bitCount_0 : List UInt8 := [26, 26, 4, 124, 19, 1, 9, 126, 100, 59, 26, 19, 1, 10, 126, 26, 5, 124, 19, 1, 10, 126, 96, 59]
abbrev dktJ17_bitCount_0 : List UInt8 := dkwJ17_bitCount_0 ++ dktJ17_bitCount_1
theorem dksJ17_bitCount_0 : cJ17_bitCount.data.toList.drop 0 = dktJ17_bitCount_0 := by decide +kernel
theorem dksJ17_bitCount_1 : cJ17_bitCount.data.toList.drop 24 = dktJ17_bitCount_1 := dk_seg dksJ17_bitCount_0 24 rfl rfl
theorem dksJ17_bitCount_2 : cJ17_bitCount.data.toList.drop 48 = dktJ17_bitCount_2 := dk_seg dksJ17_bitCount_1 24 rfl rfl
theorem dJ17_bitCount_0 : decode cJ17_bitCount 0 = .ok (.iload_n 0, 1) := dk_26 (dk_at dksJ17_bitCount_0 0 rfl rfl)
theorem dJ17_bitCount_1 : decode cJ17_bitCount 1 = .ok (.iload_n 0, 1) := dk_26 (dk_at dksJ17_bitCount_0 1 rfl rfl)
theorem dJ17_bitCount_2 : decode cJ17_bitCount 2 = .ok (.iconst 1, 1) := dk_4 (dk_at dksJ17_bitCount_0 2 rfl rfl)
theorem dJ17_bitCount_3 : decode cJ17_bitCount 3 = .ok (.iushr, 1) := dk_124 (dk_at dksJ17_bitCount_0 3 rfl rfl)
theorem dJ17_bitCount_4 : decode cJ17_bitCount 4 = .ok (.ldc_w 265, 3) := dk_19 1 9 (dk_at dksJ17_bitCount_0 4 rfl rfl)
theorem dJ17_bitCount_7 : decode cJ17_bitCount 7 = .ok (.iand, 1) := dk_126 (dk_at dksJ17_bitCount_0 7 rfl rfl)
theorem dJ17_bitCount_8 : decode cJ17_bitCount 8 = .ok (.isub, 1) := dk_100 (dk_at dksJ17_bitCount_0 8 rfl rfl)
theorem dJ17_bitCount_9 : decode cJ17_bitCount 9 = .ok (.istore_n 0, 1) := dk_59 (dk_at dksJ17_bitCount_0 9 rfl rfl)
theorem dJ17_bitCount_10 : decode cJ17_bitCount 10 = .ok (.iload_n 0, 1) := dk_26 (dk_at dksJ17_bitCount_0 10 rfl rfl)
theorem dJ17_bitCount_11 : decode cJ17_bitCount 11 = .ok (.ldc_w 266, 3) := dk_19 1 10 (dk_at dksJ17_bitCount_0 11 rfl rfl)
theorem dJ17_bitCount_14 : decode cJ17_bitCount 14 = .ok (.iand, 1) := dk_126 (dk_at dksJ17_bitCount_0 14 rfl rfl)
theorem dJ17_bitCount_15 : decode cJ17_bitCount 15 = .ok (.iload_n 0, 1) := dk_26 (dk_at dksJ17_bitCount_0 15 rfl rfl)
theorem dJ17_bitCount_16 : decode cJ17_bitCount 16 = .ok (.iconst 2, 1) := dk_5 (dk_at dksJ17_bitCount_0 16 rfl rfl)
theorem dJ17_bitCount_17 : decode cJ17_bitCount 17 = .ok (.iushr, 1) := dk_124 (dk_at dksJ17_bitCount_0 17 rfl rfl)
theorem dJ17_bitCount_18 : decode cJ17_bitCount 18 = .ok (.ldc_w 266, 3) := dk_19 1 10 (dk_at dksJ17_bitCount_0 18 rfl rfl)
theorem dJ17_bitCount_21 : decode cJ17_bitCount 21 = .ok (.iand, 1) := dk_126 (dk_at dksJ17_bitCount_0 21 rfl rfl)
theorem dJ17_bitCount_22 : decode cJ17_bitCount 22 = .ok (.iadd, 1) := dk_96 (dk_at dksJ17_bitCount_0 22 rfl rfl)
theorem dJ17_bitCount_23 : decode cJ17_bitCount 23 = .ok (.istore_n 0, 1) := dk_59 (dk_at dksJ17_bitCount_0 23 rfl rfl)
theorem dJ17_bitCount_24 : decode cJ17_bitCount 24 = .ok (.iload_n 0, 1) := dk_26 (dk_at dksJ17_bitCount_1 0 rfl rfl)
theorem dJ17_bitCount_25 : decode cJ17_bitCount 25 = .ok (.iload_n 0, 1) := dk_26 (dk_at dksJ17_bitCount_1 1 rfl rfl)
theorem dJ17_bitCount_26 : decode cJ17_bitCount 26 = .ok (.iconst 4, 1) := dk_7 (dk_at dksJ17_bitCount_1 2 rfl rfl)
theorem dJ17_bitCount_27 : decode cJ17_bitCount 27 = .ok (.iushr, 1) := dk_124 (dk_at dksJ17_bitCount_1 3 rfl rfl)
theorem dJ17_bitCount_28 : decode cJ17_bitCount 28 = .ok (.iadd, 1) := dk_96 (dk_at dksJ17_bitCount_1 4 rfl rfl)
theorem dJ17_bitCount_29 : decode cJ17_bitCount 29 = .ok (.ldc_w 267, 3) := dk_19 1 11 (dk_at dksJ17_bitCount_1 5 rfl rfl)
theorem dJ17_bitCount_32 : decode cJ17_bitCount 32 = .ok (.iand, 1) := dk_126 (dk_at dksJ17_bitCount_1 8 rfl rfl)
theorem dJ17_bitCount_33 : decode cJ17_bitCount 33 = .ok (.istore_n 0, 1) := dk_59 (dk_at dksJ17_bitCount_1 9 rfl rfl)
theorem dJ17_bitCount_34 : decode cJ17_bitCount 34 = .ok (.iload_n 0, 1) := dk_26 (dk_at dksJ17_bitCount_1 10 rfl rfl)
theorem dJ17_bitCount_35 : decode cJ17_bitCount 35 = .ok (.iload_n 0, 1) := dk_26 (dk_at dksJ17_bitCount_1 11 rfl rfl)
theorem dJ17_bitCount_36 : decode cJ17_bitCount 36 = .ok (.bipush 8, 2) := dk_16 8 (dk_at dksJ17_bitCount_1 12 rfl rfl)
theorem dJ17_bitCount_38 : decode cJ17_bitCount 38 = .ok (.iushr, 1) := dk_124 (dk_at dksJ17_bitCount_1 14 rfl rfl)
theorem dJ17_bitCount_39 : decode cJ17_bitCount 39 = .ok (.iadd, 1) := dk_96 (dk_at dksJ17_bitCount_1 15 rfl rfl)
theorem dJ17_bitCount_40 : decode cJ17_bitCount 40 = .ok (.istore_n 0, 1) := dk_59 (dk_at dksJ17_bitCount_1 16 rfl rfl)
theorem dJ17_bitCount_41 : decode cJ17_bitCount 41 = .ok (.iload_n 0, 1) := dk_26 (dk_at dksJ17_bitCount_1 17 rfl rfl)
theorem dJ17_bitCount_42 : decode cJ17_bitCount 42 = .ok (.iload_n 0, 1) := dk_26 (dk_at dksJ17_bitCount_1 18 rfl rfl)
theorem dJ17_bitCount_43 : decode cJ17_bitCount 43 = .ok (.bipush 16, 2) := dk_16 16 (dk_at dksJ17_bitCount_1 19 rfl rfl)
theorem dJ17_bitCount_45 : decode cJ17_bitCount 45 = .ok (.iushr, 1) := dk_124 (dk_at dksJ17_bitCount_1 21 rfl rfl)
theorem dJ17_bitCount_46 : decode cJ17_bitCount 46 = .ok (.iadd, 1) := dk_96 (dk_at dksJ17_bitCount_1 22 rfl rfl)
theorem dJ17_bitCount_47 : decode cJ17_bitCount 47 = .ok (.istore_n 0, 1) := dk_59 (dk_at dksJ17_bitCount_1 23 rfl rfl)
theorem dJ17_bitCount_48 : decode cJ17_bitCount 48 = .ok (.iload_n 0, 1) := dk_26 (dk_at dksJ17_bitCount_2 0 rfl rfl)
theorem dJ17_bitCount_49 : decode cJ17_bitCount 49 = .ok (.bipush 63, 2) := dk_16 63 (dk_at dksJ17_bitCount_2 1 rfl rfl)
theorem dJ17_bitCount_51 : decode cJ17_bitCount 51 = .ok (.iand, 1) := dk_126 (dk_at dksJ17_bitCount_2 3 rfl rfl)
theorem dJ17_bitCount_52 : decode cJ17_bitCount 52 = .ok (.ireturn, 1) := dk_172 (dk_at dksJ17_bitCount_2 4 rfl rfl)
theorem q133 : (Jvm.Cond.initialized "java/lang/Integer") ∈ lw_all := lw_g (lw_at lw_m1 43 rfl) rfl
theorem q1604 : (Jvm.Cond.static ({ cls := "java/lang/Integer", name := "bitCount", desc := "(I)I" } : Jvm.MethodName)) ∈ lw_all := lw_g (lw_at lw_m7 74 rfl) rfl
theorem q1605 : (Jvm.Cond.code ({ cls := "java/lang/Integer", name := "bitCount", desc := "(I)I" } : Jvm.MethodName) prog_42_method_49_code (1 : Nat) (Option.some Jvm.ClassFile.FieldType.int)) ∈ lw_all := lw_g (lw_at lw_m7 75 rfl) rfl
theorem q1606 : (Jvm.Cond.constant "java/lang/Integer" (265 : Nat) (1431655765 : Int32)) ∈ lw_all := lw_g (lw_at lw_m7 76 rfl) rfl
theorem q1607 : (Jvm.Cond.constant "java/lang/Integer" (266 : Nat) (858993459 : Int32)) ∈ lw_all := lw_g (lw_at lw_m7 77 rfl) rfl
theorem q1608 : (Jvm.Cond.constant "java/lang/Integer" (267 : Nat) (252645135 : Int32)) ∈ lw_all := lw_g (lw_at lw_m7 78 rfl) rfl
/-! java/lang/Object -/
set_option maxRecDepth 100000
def RJ18 : String := "java/lang/Object"
abbrev cJ18_init : ByteArray := object_method_1_code
def yJ18_init : MethodName := ⟨RJ18, "<init>", "()V"⟩
theorem dJ18_init_0 : decode cJ18_init 0 = .ok (.return_, 1) := by decide +kernel
theorem q144 : (Jvm.Cond.instanceMethod ({ cls := "java/lang/Object", name := "<init>", desc := "()V" } : Jvm.MethodName)) ∈ lw_all := lw_g (lw_at lw_m1 54 rfl) rfl
theorem q145 : (Jvm.Cond.code ({ cls := "java/lang/Object", name := "<init>", desc := "()V" } : Jvm.MethodName) object_method_1_code (1 : Nat) (Option.none : Option Jvm.ClassFile.FieldType)) ∈ lw_all := lw_g (lw_at lw_m1 55 rfl) rfl
theorem q756 : (Jvm.Cond.native ({ cls := "java/lang/Object", name := "clone", desc := "()Ljava/lang/Object;" } : Jvm.MethodName)) ∈ lw_all := lw_g (lw_at lw_m3 186 rfl) rfl
theorem q757 : (Jvm.Cond.instanceMethod ({ cls := "java/lang/Object", name := "clone", desc := "()Ljava/lang/Object;" } : Jvm.MethodName)) ∈ lw_all := lw_g (lw_at lw_m3 187 rfl) rfl
theorem q1281 : (Jvm.Cond.instanceMethod ({ cls := "java/lang/Object", name := "getClass", desc := "()Ljava/lang/Class;" } : Jvm.MethodName)) ∈ lw_all := lw_g (lw_at lw_m5 231 rfl) rfl
theorem q1282 : (Jvm.Cond.sameMethod "java/lang/Object" "java/lang/Object" "getClass" "()Ljava/lang/Class;") ∈ lw_all := lw_g (lw_at lw_m5 232 rfl) rfl
theorem q1312 : (Jvm.Cond.native ({ cls := "java/lang/Object", name := "getClass", desc := "()Ljava/lang/Class;" } : Jvm.MethodName)) ∈ lw_all := lw_g (lw_at lw_m6 22 rfl) rfl
theorem q2554 : (Jvm.Cond.declares ({ cls := "java/lang/Object", name := "getClass", desc := "()Ljava/lang/Class;" } : Jvm.MethodName)) ∈ lw_tbl := lw_at lw_m11 64 rfl
