/-! java/lang/Throwable -/
set_option maxRecDepth 100000
def RJ0 : String := "java/lang/Throwable"
def TJ0 : u_T := fun k => match k with
  | 0 => ("java/lang/Throwable", "cause", "Ljava/lang/Throwable;", false)
  | 1 => ("java/lang/Throwable", "stackTrace", "[Ljava/lang/StackTraceElement;", false)
  | 2 => ("java/lang/Throwable", "suppressedExceptions", "Ljava/util/List;", false)
  | 3 => ("java/lang/Throwable", "detailMessage", "Ljava/lang/String;", false)
  | _ => ("java/lang/Throwable", "backtrace", "Ljava/lang/Object;", false)
def tyJ0 : Nat → FieldType := fun k => match k with
  | 0 => .object "java/lang/Throwable"
  | 1 => .array (.object "java/lang/StackTraceElement")
  | 2 => .object "java/util/List"
  | 3 => .object "java/lang/String"
  | _ => .object "java/lang/Object"
abbrev wsJ00 : List Cond := u_ws RJ0 TJ0 5
theorem nmJ0 : ∀ a, a < 5 → ∀ b, b < 5 → a ≠ b → (TJ0 a).2.1 ≠ (TJ0 b).2.1 := by decide +kernel
theorem tyJ0_ok : ∀ k, k < 5 → parseFieldDescriptor (TJ0 k).2.2.1 = some (tyJ0 k) := by decide +kernel
abbrev cJ0_init : ByteArray := prog_50_method_1_code
def yJ0_init : MethodName := ⟨RJ0, "<init>", "()V"⟩
def dkwJ0_init_1 : List UInt8 := [182, 0, 27, 87, 177]
abbrev dktJ0_init_1 : List UInt8 := dkwJ0_init_1 ++ []
def dkwJ0_init_0 : List UInt8 := [42, 183, 0, 1, 42, 42, 181, 0, 7, 42, 178, 0, 13, 181, 0, 17, 42, 178, 0, 20, 181, 0, 24, 42]
abbrev dktJ0_init_0 : List UInt8 := dkwJ0_init_0 ++ dktJ0_init_1
theorem dksJ0_init_0 : cJ0_init.data.toList.drop 0 = dktJ0_init_0 := by decide +kernel
theorem dksJ0_init_1 : cJ0_init.data.toList.drop 24 = dktJ0_init_1 := dk_seg dksJ0_init_0 24 rfl rfl
theorem dJ0_init_0 : decode cJ0_init 0 = .ok (.aload_n 0, 1) := dk_42 (dk_at dksJ0_init_0 0 rfl rfl)
theorem dJ0_init_1 : decode cJ0_init 1 = .ok (.invokespecial 1, 3) := dk_183 0 1 (dk_at dksJ0_init_0 1 rfl rfl)
theorem dJ0_init_4 : decode cJ0_init 4 = .ok (.aload_n 0, 1) := dk_42 (dk_at dksJ0_init_0 4 rfl rfl)
theorem dJ0_init_5 : decode cJ0_init 5 = .ok (.aload_n 0, 1) := dk_42 (dk_at dksJ0_init_0 5 rfl rfl)
theorem dJ0_init_6 : decode cJ0_init 6 = .ok (.putfield 7, 3) := dk_181 0 7 (dk_at dksJ0_init_0 6 rfl rfl)
theorem dJ0_init_9 : decode cJ0_init 9 = .ok (.aload_n 0, 1) := dk_42 (dk_at dksJ0_init_0 9 rfl rfl)
theorem dJ0_init_10 : decode cJ0_init 10 = .ok (.getstatic 13, 3) := dk_178 0 13 (dk_at dksJ0_init_0 10 rfl rfl)
theorem dJ0_init_13 : decode cJ0_init 13 = .ok (.putfield 17, 3) := dk_181 0 17 (dk_at dksJ0_init_0 13 rfl rfl)
theorem dJ0_init_16 : decode cJ0_init 16 = .ok (.aload_n 0, 1) := dk_42 (dk_at dksJ0_init_0 16 rfl rfl)
theorem dJ0_init_17 : decode cJ0_init 17 = .ok (.getstatic 20, 3) := dk_178 0 20 (dk_at dksJ0_init_0 17 rfl rfl)
theorem dJ0_init_20 : decode cJ0_init 20 = .ok (.putfield 24, 3) := dk_181 0 24 (dk_at dksJ0_init_0 20 rfl rfl)
theorem dJ0_init_23 : decode cJ0_init 23 = .ok (.aload_n 0, 1) := dk_42 (dk_at dksJ0_init_0 23 rfl rfl)
theorem dJ0_init_24 : decode cJ0_init 24 = .ok (.invokevirtual 27, 3) := dk_182 0 27 (dk_at dksJ0_init_1 0 rfl rfl)
theorem dJ0_init_27 : decode cJ0_init 27 = .ok (.pop, 1) := dk_87 (dk_at dksJ0_init_1 3 rfl rfl)
theorem dJ0_init_28 : decode cJ0_init 28 = .ok (.return_, 1) := dk_177 (dk_at dksJ0_init_1 4 rfl rfl)
abbrev cJ0_init_2 : ByteArray := prog_50_method_5_code
def yJ0_init_2 : MethodName := ⟨RJ0, "<init>", "(Ljava/lang/String;Ljava/lang/Throwable;ZZ)V"⟩
def dkwJ0_init_2_2 : List UInt8 := [44, 181, 0, 7, 29, 154, 0, 8, 42, 1, 181, 0, 24, 177]
abbrev dktJ0_init_2_2 : List UInt8 := dkwJ0_init_2_2 ++ []
def dkwJ0_init_2_1 : List UInt8 := [21, 4, 153, 0, 11, 42, 182, 0, 27, 87, 167, 0, 8, 42, 1, 181, 0, 17, 42, 43, 181, 0, 31, 42]
abbrev dktJ0_init_2_1 : List UInt8 := dkwJ0_init_2_1 ++ dktJ0_init_2_2
def dkwJ0_init_2_0 : List UInt8 := [42, 183, 0, 1, 42, 42, 181, 0, 7, 42, 178, 0, 13, 181, 0, 17, 42, 178, 0, 20, 181, 0, 24]
abbrev dktJ0_init_2_0 : List UInt8 := dkwJ0_init_2_0 ++ dktJ0_init_2_1
theorem dksJ0_init_2_0 : cJ0_init_2.data.toList.drop 0 = dktJ0_init_2_0 := by decide +kernel
theorem dksJ0_init_2_1 : cJ0_init_2.data.toList.drop 23 = dktJ0_init_2_1 := dk_seg dksJ0_init_2_0 23 rfl rfl
theorem dksJ0_init_2_2 : cJ0_init_2.data.toList.drop 47 = dktJ0_init_2_2 := dk_seg dksJ0_init_2_1 24 rfl rfl
theorem dJ0_init_2_0 : decode cJ0_init_2 0 = .ok (.aload_n 0, 1) := dk_42 (dk_at dksJ0_init_2_0 0 rfl rfl)
theorem dJ0_init_2_1 : decode cJ0_init_2 1 = .ok (.invokespecial 1, 3) := dk_183 0 1 (dk_at dksJ0_init_2_0 1 rfl rfl)
theorem dJ0_init_2_4 : decode cJ0_init_2 4 = .ok (.aload_n 0, 1) := dk_42 (dk_at dksJ0_init_2_0 4 rfl rfl)
theorem dJ0_init_2_5 : decode cJ0_init_2 5 = .ok (.aload_n 0, 1) := dk_42 (dk_at dksJ0_init_2_0 5 rfl rfl)
theorem dJ0_init_2_6 : decode cJ0_init_2 6 = .ok (.putfield 7, 3) := dk_181 0 7 (dk_at dksJ0_init_2_0 6 rfl rfl)
theorem dJ0_init_2_9 : decode cJ0_init_2 9 = .ok (.aload_n 0, 1) := dk_42 (dk_at dksJ0_init_2_0 9 rfl rfl)
theorem dJ0_init_2_10 : decode cJ0_init_2 10 = .ok (.getstatic 13, 3) := dk_178 0 13 (dk_at dksJ0_init_2_0 10 rfl rfl)
theorem dJ0_init_2_13 : decode cJ0_init_2 13 = .ok (.putfield 17, 3) := dk_181 0 17 (dk_at dksJ0_init_2_0 13 rfl rfl)
theorem dJ0_init_2_16 : decode cJ0_init_2 16 = .ok (.aload_n 0, 1) := dk_42 (dk_at dksJ0_init_2_0 16 rfl rfl)
theorem dJ0_init_2_17 : decode cJ0_init_2 17 = .ok (.getstatic 20, 3) := dk_178 0 20 (dk_at dksJ0_init_2_0 17 rfl rfl)
theorem dJ0_init_2_20 : decode cJ0_init_2 20 = .ok (.putfield 24, 3) := dk_181 0 24 (dk_at dksJ0_init_2_0 20 rfl rfl)
theorem dJ0_init_2_23 : decode cJ0_init_2 23 = .ok (.iload 4, 2) := dk_21 4 (dk_at dksJ0_init_2_1 0 rfl rfl)
theorem dJ0_init_2_25 : decode cJ0_init_2 25 = .ok (.ifCond .eq 11, 3) := dk_153 0 11 (dk_at dksJ0_init_2_1 2 rfl rfl)
theorem dJ0_init_2_28 : decode cJ0_init_2 28 = .ok (.aload_n 0, 1) := dk_42 (dk_at dksJ0_init_2_1 5 rfl rfl)
theorem dJ0_init_2_29 : decode cJ0_init_2 29 = .ok (.invokevirtual 27, 3) := dk_182 0 27 (dk_at dksJ0_init_2_1 6 rfl rfl)
theorem dJ0_init_2_32 : decode cJ0_init_2 32 = .ok (.pop, 1) := dk_87 (dk_at dksJ0_init_2_1 9 rfl rfl)
theorem dJ0_init_2_33 : decode cJ0_init_2 33 = .ok (.goto 8, 3) := dk_167 0 8 (dk_at dksJ0_init_2_1 10 rfl rfl)
theorem dJ0_init_2_36 : decode cJ0_init_2 36 = .ok (.aload_n 0, 1) := dk_42 (dk_at dksJ0_init_2_1 13 rfl rfl)
theorem dJ0_init_2_37 : decode cJ0_init_2 37 = .ok (.aconst_null, 1) := dk_1 (dk_at dksJ0_init_2_1 14 rfl rfl)
theorem dJ0_init_2_38 : decode cJ0_init_2 38 = .ok (.putfield 17, 3) := dk_181 0 17 (dk_at dksJ0_init_2_1 15 rfl rfl)
theorem dJ0_init_2_41 : decode cJ0_init_2 41 = .ok (.aload_n 0, 1) := dk_42 (dk_at dksJ0_init_2_1 18 rfl rfl)
theorem dJ0_init_2_42 : decode cJ0_init_2 42 = .ok (.aload_n 1, 1) := dk_43 (dk_at dksJ0_init_2_1 19 rfl rfl)
theorem dJ0_init_2_43 : decode cJ0_init_2 43 = .ok (.putfield 31, 3) := dk_181 0 31 (dk_at dksJ0_init_2_1 20 rfl rfl)
theorem dJ0_init_2_46 : decode cJ0_init_2 46 = .ok (.aload_n 0, 1) := dk_42 (dk_at dksJ0_init_2_1 23 rfl rfl)
theorem dJ0_init_2_47 : decode cJ0_init_2 47 = .ok (.aload_n 2, 1) := dk_44 (dk_at dksJ0_init_2_2 0 rfl rfl)
theorem dJ0_init_2_48 : decode cJ0_init_2 48 = .ok (.putfield 7, 3) := dk_181 0 7 (dk_at dksJ0_init_2_2 1 rfl rfl)
theorem dJ0_init_2_51 : decode cJ0_init_2 51 = .ok (.iload_n 3, 1) := dk_29 (dk_at dksJ0_init_2_2 4 rfl rfl)
theorem dJ0_init_2_52 : decode cJ0_init_2 52 = .ok (.ifCond .ne 8, 3) := dk_154 0 8 (dk_at dksJ0_init_2_2 5 rfl rfl)
theorem dJ0_init_2_55 : decode cJ0_init_2 55 = .ok (.aload_n 0, 1) := dk_42 (dk_at dksJ0_init_2_2 8 rfl rfl)
theorem dJ0_init_2_56 : decode cJ0_init_2 56 = .ok (.aconst_null, 1) := dk_1 (dk_at dksJ0_init_2_2 9 rfl rfl)
theorem dJ0_init_2_57 : decode cJ0_init_2 57 = .ok (.putfield 24, 3) := dk_181 0 24 (dk_at dksJ0_init_2_2 10 rfl rfl)
theorem dJ0_init_2_60 : decode cJ0_init_2 60 = .ok (.return_, 1) := dk_177 (dk_at dksJ0_init_2_2 13 rfl rfl)
theorem q163 : (Jvm.Cond.initialized "java/lang/Throwable") ∈ lw_all := lw_g (lw_at lw_m1 3 rfl) rfl
theorem q1089 : (Jvm.Cond.declares ({ cls := "java/lang/Throwable", name := "<init>", desc := "()V" } : Jvm.MethodName)) ∈ lw_tbl := lw_at lw_m4 209 rfl
theorem q1090 : (Jvm.Cond.declares ({ cls := "java/lang/Throwable", name := "<init>", desc := "(Ljava/lang/String;)V" } : Jvm.MethodName)) ∈ lw_tbl := lw_at lw_m4 210 rfl
theorem q1094 : (Jvm.Cond.lays "java/lang/Throwable" "java/lang/Throwable" "cause" "Ljava/lang/Throwable;") ∈ lw_all := lw_g (lw_at lw_m4 214 rfl) rfl
theorem q1096 : (Jvm.Cond.lays "java/lang/Throwable" "java/lang/Throwable" "stackTrace" "[Ljava/lang/StackTraceElement;") ∈ lw_all := lw_g (lw_at lw_m4 216 rfl) rfl
theorem q1098 : (Jvm.Cond.lays "java/lang/Throwable" "java/lang/Throwable" "suppressedExceptions" "Ljava/util/List;") ∈ lw_all := lw_g (lw_at lw_m4 218 rfl) rfl
theorem q1100 : (Jvm.Cond.lays "java/lang/Throwable" "java/lang/Throwable" "detailMessage" "Ljava/lang/String;") ∈ lw_all := lw_g (lw_at lw_m4 220 rfl) rfl
theorem q1102 : (Jvm.Cond.lays "java/lang/Throwable" "java/lang/Throwable" "backtrace" "Ljava/lang/Object;") ∈ lw_all := lw_g (lw_at lw_m4 222 rfl) rfl
theorem q1103 : (Jvm.Cond.fieldLink "java/lang/Throwable" (198 : Nat) "java/lang/Throwable" "backtrace" "Ljava/lang/Object;") ∈ lw_all := lw_g (lw_at lw_m4 223 rfl) rfl
theorem q1104 : (Jvm.Cond.superclass "java/lang/Throwable" "java/lang/Object") ∈ lw_all := lw_g (lw_at lw_m4 224 rfl) rfl
theorem q1105 : (Jvm.Cond.instanceMethod ({ cls := "java/lang/Throwable", name := "<init>", desc := "()V" } : Jvm.MethodName)) ∈ lw_all := lw_g (lw_at lw_m4 225 rfl) rfl
theorem q1106 : (Jvm.Cond.code ({ cls := "java/lang/Throwable", name := "<init>", desc := "()V" } : Jvm.MethodName) prog_50_method_1_code (1 : Nat) (Option.none : Option Jvm.ClassFile.FieldType)) ∈ lw_all := lw_g (lw_at lw_m4 226 rfl) rfl
theorem q1107 : (Jvm.Cond.methodLink "java/lang/Throwable" (1 : Nat) ({ cls := "java/lang/Object", name := "<init>", desc := "()V" } : Jvm.MethodName)) ∈ lw_all := lw_g (lw_at lw_m4 227 rfl) rfl
theorem q1108 : (Jvm.Cond.fieldLink "java/lang/Throwable" (13 : Nat) "java/lang/Throwable" "UNASSIGNED_STACK" "[Ljava/lang/StackTraceElement;") ∈ lw_all := lw_g (lw_at lw_m4 228 rfl) rfl
theorem q1109 : (Jvm.Cond.laysStatic "java/lang/Throwable" "UNASSIGNED_STACK" "[Ljava/lang/StackTraceElement;") ∈ lw_tbl := lw_at lw_m4 229 rfl
theorem q1110 : (Jvm.Cond.fieldLink "java/lang/Throwable" (20 : Nat) "java/lang/Throwable" "SUPPRESSED_SENTINEL" "Ljava/util/List;") ∈ lw_all := lw_g (lw_at lw_m4 230 rfl) rfl
theorem q1111 : (Jvm.Cond.laysStatic "java/lang/Throwable" "SUPPRESSED_SENTINEL" "Ljava/util/List;") ∈ lw_tbl := lw_at lw_m4 231 rfl
theorem q1112 : (Jvm.Cond.methodLink "java/lang/Throwable" (27 : Nat) ({ cls := "java/lang/Throwable", name := "fillInStackTrace", desc := "()Ljava/lang/Throwable;" } : Jvm.MethodName)) ∈ lw_all := lw_g (lw_at lw_m4 232 rfl) rfl
theorem q1113 : (Jvm.Cond.instanceMethod ({ cls := "java/lang/Throwable", name := "fillInStackTrace", desc := "()Ljava/lang/Throwable;" } : Jvm.MethodName)) ∈ lw_all := lw_g (lw_at lw_m4 233 rfl) rfl
theorem q1114 : (Jvm.Cond.sameMethod "java/lang/Throwable" "java/lang/Throwable" "fillInStackTrace" "()Ljava/lang/Throwable;") ∈ lw_all := lw_g (lw_at lw_m4 234 rfl) rfl
theorem q1117 : (Jvm.Cond.codeSync ({ cls := "java/lang/Throwable", name := "fillInStackTrace", desc := "()Ljava/lang/Throwable;" } : Jvm.MethodName) prog_50_method_18_code (1 : Nat) (Option.some (Jvm.ClassFile.FieldType.object "java/lang/Throwable"))) ∈ lw_all := lw_g (lw_at lw_m4 237 rfl) rfl
theorem q1118 : (Jvm.Cond.methodLink "java/lang/Throwable" (202 : Nat) ({ cls := "java/lang/Throwable", name := "fillInStackTrace", desc := "(I)Ljava/lang/Throwable;" } : Jvm.MethodName)) ∈ lw_all := lw_g (lw_at lw_m4 238 rfl) rfl
theorem q1119 : (Jvm.Cond.privateMethod ({ cls := "java/lang/Throwable", name := "fillInStackTrace", desc := "(I)Ljava/lang/Throwable;" } : Jvm.MethodName)) ∈ lw_tbl := lw_at lw_m4 239 rfl
theorem q1120 : (Jvm.Cond.instanceMethod ({ cls := "java/lang/Throwable", name := "fillInStackTrace", desc := "(I)Ljava/lang/Throwable;" } : Jvm.MethodName)) ∈ lw_all := lw_g (lw_at lw_m5 0 rfl) rfl
theorem q1121 : (Jvm.Cond.instantiable "java/lang/Throwable" (6 : Nat)) ∈ lw_all := lw_g (lw_at lw_m5 1 rfl) rfl
theorem q1122 : (Jvm.Cond.native ({ cls := "java/lang/Throwable", name := "fillInStackTrace", desc := "(I)Ljava/lang/Throwable;" } : Jvm.MethodName)) ∈ lw_all := lw_g (lw_at lw_m5 2 rfl) rfl
theorem q1130 : (Jvm.Cond.instanceMethod ({ cls := "java/lang/Throwable", name := "<init>", desc := "(Ljava/lang/String;Ljava/lang/Throwable;ZZ)V" } : Jvm.MethodName)) ∈ lw_all := lw_g (lw_at lw_m5 10 rfl) rfl
theorem q1131 : (Jvm.Cond.code ({ cls := "java/lang/Throwable", name := "<init>", desc := "(Ljava/lang/String;Ljava/lang/Throwable;ZZ)V" } : Jvm.MethodName) prog_50_method_5_code (5 : Nat) (Option.none : Option Jvm.ClassFile.FieldType)) ∈ lw_all := lw_g (lw_at lw_m5 11 rfl) rfl
theorem q1134 : (Jvm.Cond.fieldLink "java/lang/Throwable" (198 : Nat) "java/lang/Throwable" "backtrace" "Ljava/lang/Object;") ∈ lw_all := lw_g (lw_at lw_m5 14 rfl) rfl
theorem q1135 : (Jvm.Cond.fieldLink "java/lang/Throwable" (31 : Nat) "java/lang/Throwable" "detailMessage" "Ljava/lang/String;") ∈ lw_all := lw_g (lw_at lw_m5 15 rfl) rfl
theorem q1136 : (Jvm.Cond.fieldLink "java/lang/Throwable" (7 : Nat) "java/lang/Throwable" "cause" "Ljava/lang/Throwable;") ∈ lw_all := lw_g (lw_at lw_m5 16 rfl) rfl
theorem q1137 : (Jvm.Cond.fieldLink "java/lang/Throwable" (17 : Nat) "java/lang/Throwable" "stackTrace" "[Ljava/lang/StackTraceElement;") ∈ lw_all := lw_g (lw_at lw_m5 17 rfl) rfl
theorem q1138 : (Jvm.Cond.fieldLink "java/lang/Throwable" (24 : Nat) "java/lang/Throwable" "suppressedExceptions" "Ljava/util/List;") ∈ lw_all := lw_g (lw_at lw_m5 18 rfl) rfl
theorem q1143 : (Jvm.Cond.soleField "java/lang/Throwable" "backtrace") ∈ lw_all := lw_g (lw_at lw_m5 23 rfl) rfl
theorem q1144 : (Jvm.Cond.soleField "java/lang/Throwable" "detailMessage") ∈ lw_all := lw_g (lw_at lw_m5 24 rfl) rfl
theorem q1145 : (Jvm.Cond.soleField "java/lang/Throwable" "cause") ∈ lw_all := lw_g (lw_at lw_m5 25 rfl) rfl
theorem q1146 : (Jvm.Cond.soleField "java/lang/Throwable" "stackTrace") ∈ lw_all := lw_g (lw_at lw_m5 26 rfl) rfl
theorem q1148 : (Jvm.Cond.soleField "java/lang/Throwable" "depth") ∈ lw_all := lw_g (lw_at lw_m5 28 rfl) rfl
theorem q1149 : (Jvm.Cond.soleField "java/lang/Throwable" "suppressedExceptions") ∈ lw_all := lw_g (lw_at lw_m5 29 rfl) rfl
theorem q3074 : (Jvm.Cond.sameMethod "java/lang/Throwable" "java/lang/Throwable" "fillInStackTrace" "(I)Ljava/lang/Throwable;") ∈ lw_all := lw_g (lw_at lw_m13 34 rfl) rfl
theorem q3125 : (Jvm.Cond.castable "java/lang/Throwable" "java/lang/Object") ∈ lw_tbl := lw_at lw_m13 85 rfl
theorem in_J0 : ∀ w ∈ wsJ00, w ∈ lw_all := lw_in wsJ00 [1094, 1096, 1098, 1100, 1102] (by decide +kernel) (by decide +kernel)

/-! java/lang/Exception -/
set_option maxRecDepth 100000
def RJ1 : String := "java/lang/Exception"
abbrev cJ1_init : ByteArray := prog_42_method_5_code
def yJ1_init : MethodName := ⟨RJ1, "<init>", "(Ljava/lang/String;Ljava/lang/Throwable;ZZ)V"⟩
def dkwJ1_init_0 : List UInt8 := [42, 43, 44, 29, 21, 4, 183, 0, 16, 177]
abbrev dktJ1_init_0 : List UInt8 := dkwJ1_init_0 ++ []
theorem dksJ1_init_0 : cJ1_init.data.toList.drop 0 = dktJ1_init_0 := by decide +kernel
theorem dJ1_init_0 : decode cJ1_init 0 = .ok (.aload_n 0, 1) := dk_42 (dk_at dksJ1_init_0 0 rfl rfl)
theorem dJ1_init_1 : decode cJ1_init 1 = .ok (.aload_n 1, 1) := dk_43 (dk_at dksJ1_init_0 1 rfl rfl)
theorem dJ1_init_2 : decode cJ1_init 2 = .ok (.aload_n 2, 1) := dk_44 (dk_at dksJ1_init_0 2 rfl rfl)
theorem dJ1_init_3 : decode cJ1_init 3 = .ok (.iload_n 3, 1) := dk_29 (dk_at dksJ1_init_0 3 rfl rfl)
theorem dJ1_init_4 : decode cJ1_init 4 = .ok (.iload 4, 2) := dk_21 4 (dk_at dksJ1_init_0 4 rfl rfl)
theorem dJ1_init_6 : decode cJ1_init 6 = .ok (.invokespecial 16, 3) := dk_183 0 16 (dk_at dksJ1_init_0 6 rfl rfl)
theorem dJ1_init_9 : decode cJ1_init 9 = .ok (.return_, 1) := dk_177 (dk_at dksJ1_init_0 9 rfl rfl)
theorem q164 : (Jvm.Cond.initialized "java/lang/Exception") ∈ lw_all := lw_g (lw_at lw_m1 4 rfl) rfl
theorem q1087 : (Jvm.Cond.declares ({ cls := "java/lang/Exception", name := "<init>", desc := "()V" } : Jvm.MethodName)) ∈ lw_tbl := lw_at lw_m4 207 rfl
theorem q1088 : (Jvm.Cond.declares ({ cls := "java/lang/Exception", name := "<init>", desc := "(Ljava/lang/String;)V" } : Jvm.MethodName)) ∈ lw_tbl := lw_at lw_m4 208 rfl
theorem q1127 : (Jvm.Cond.instanceMethod ({ cls := "java/lang/Exception", name := "<init>", desc := "(Ljava/lang/String;Ljava/lang/Throwable;ZZ)V" } : Jvm.MethodName)) ∈ lw_all := lw_g (lw_at lw_m5 7 rfl) rfl
theorem q1128 : (Jvm.Cond.code ({ cls := "java/lang/Exception", name := "<init>", desc := "(Ljava/lang/String;Ljava/lang/Throwable;ZZ)V" } : Jvm.MethodName) prog_42_method_5_code (5 : Nat) (Option.none : Option Jvm.ClassFile.FieldType)) ∈ lw_all := lw_g (lw_at lw_m5 8 rfl) rfl
theorem q1129 : (Jvm.Cond.methodLink "java/lang/Exception" (16 : Nat) ({ cls := "java/lang/Throwable", name := "<init>", desc := "(Ljava/lang/String;Ljava/lang/Throwable;ZZ)V" } : Jvm.MethodName)) ∈ lw_all := lw_g (lw_at lw_m5 9 rfl) rfl

/-! jdk/internal/util/Preconditions -/
set_option maxRecDepth 100000
def RJ10 : String := "jdk/internal/util/Preconditions"
abbrev cJ10_checkIndex : ByteArray := prog_61_method_11_code
def yJ10_checkIndex : MethodName := ⟨RJ10, "checkIndex", "(IILjava/util/function/BiFunction;)I"⟩
def dkwJ10_checkIndex_0 : List UInt8 := [26, 155, 0, 8, 26, 27, 161, 0, 10, 44, 26, 27, 184, 0, 95, 191, 26, 172]
abbrev dktJ10_checkIndex_0 : List UInt8 := dkwJ10_checkIndex_0 ++ []
theorem dksJ10_checkIndex_0 : cJ10_checkIndex.data.toList.drop 0 = dktJ10_checkIndex_0 := by decide +kernel
theorem dJ10_checkIndex_0 : decode cJ10_checkIndex 0 = .ok (.iload_n 0, 1) := dk_26 (dk_at dksJ10_checkIndex_0 0 rfl rfl)
theorem dJ10_checkIndex_1 : decode cJ10_checkIndex 1 = .ok (.ifCond .lt 8, 3) := dk_155 0 8 (dk_at dksJ10_checkIndex_0 1 rfl rfl)
theorem dJ10_checkIndex_4 : decode cJ10_checkIndex 4 = .ok (.iload_n 0, 1) := dk_26 (dk_at dksJ10_checkIndex_0 4 rfl rfl)
theorem dJ10_checkIndex_5 : decode cJ10_checkIndex 5 = .ok (.iload_n 1, 1) := dk_27 (dk_at dksJ10_checkIndex_0 5 rfl rfl)
theorem dJ10_checkIndex_6 : decode cJ10_checkIndex 6 = .ok (.if_icmp .lt 10, 3) := dk_161 0 10 (dk_at dksJ10_checkIndex_0 6 rfl rfl)
theorem dJ10_checkIndex_9 : decode cJ10_checkIndex 9 = .ok (.aload_n 2, 1) := dk_44 (dk_at dksJ10_checkIndex_0 9 rfl rfl)
theorem dJ10_checkIndex_10 : decode cJ10_checkIndex 10 = .ok (.iload_n 0, 1) := dk_26 (dk_at dksJ10_checkIndex_0 10 rfl rfl)
theorem dJ10_checkIndex_11 : decode cJ10_checkIndex 11 = .ok (.iload_n 1, 1) := dk_27 (dk_at dksJ10_checkIndex_0 11 rfl rfl)
theorem dJ10_checkIndex_12 : decode cJ10_checkIndex 12 = .ok (.invokestatic 95, 3) := dk_184 0 95 (dk_at dksJ10_checkIndex_0 12 rfl rfl)
theorem dJ10_checkIndex_15 : decode cJ10_checkIndex 15 = .ok (.athrow, 1) := dk_191 (dk_at dksJ10_checkIndex_0 15 rfl rfl)
theorem dJ10_checkIndex_16 : decode cJ10_checkIndex 16 = .ok (.iload_n 0, 1) := dk_26 (dk_at dksJ10_checkIndex_0 16 rfl rfl)
theorem dJ10_checkIndex_17 : decode cJ10_checkIndex 17 = .ok (.ireturn, 1) := dk_172 (dk_at dksJ10_checkIndex_0 17 rfl rfl)
abbrev cJ10_checkFromIndexSize : ByteArray := prog_61_method_13_code
def yJ10_checkFromIndexSize : MethodName := ⟨RJ10, "checkFromIndexSize", "(IIILjava/util/function/BiFunction;)I"⟩
def dkwJ10_checkFromIndexSize_1 : List UInt8 := [172]
abbrev dktJ10_checkFromIndexSize_1 : List UInt8 := dkwJ10_checkFromIndexSize_1 ++ []
def dkwJ10_checkFromIndexSize_0 : List UInt8 := [28, 26, 128, 27, 128, 155, 0, 10, 27, 28, 26, 100, 164, 0, 11, 45, 26, 27, 28, 184, 0, 103, 191, 26]
abbrev dktJ10_checkFromIndexSize_0 : List UInt8 := dkwJ10_checkFromIndexSize_0 ++ dktJ10_checkFromIndexSize_1
theorem dksJ10_checkFromIndexSize_0 : cJ10_checkFromIndexSize.data.toList.drop 0 = dktJ10_checkFromIndexSize_0 := by decide +kernel
theorem dksJ10_checkFromIndexSize_1 : cJ10_checkFromIndexSize.data.toList.drop 24 = dktJ10_checkFromIndexSize_1 := dk_seg dksJ10_checkFromIndexSize_0 24 rfl rfl
theorem dJ10_checkFromIndexSize_0 : decode cJ10_checkFromIndexSize 0 = .ok (.iload_n 2, 1) := dk_28 (dk_at dksJ10_checkFromIndexSize_0 0 rfl rfl)
theorem dJ10_checkFromIndexSize_1 : decode cJ10_checkFromIndexSize 1 = .ok (.iload_n 0, 1) := dk_26 (dk_at dksJ10_checkFromIndexSize_0 1 rfl rfl)
theorem dJ10_checkFromIndexSize_2 : decode cJ10_checkFromIndexSize 2 = .ok (.ior, 1) := dk_128 (dk_at dksJ10_checkFromIndexSize_0 2 rfl rfl)
theorem dJ10_checkFromIndexSize_3 : decode cJ10_checkFromIndexSize 3 = .ok (.iload_n 1, 1) := dk_27 (dk_at dksJ10_checkFromIndexSize_0 3 rfl rfl)
theorem dJ10_checkFromIndexSize_4 : decode cJ10_checkFromIndexSize 4 = .ok (.ior, 1) := dk_128 (dk_at dksJ10_checkFromIndexSize_0 4 rfl rfl)
theorem dJ10_checkFromIndexSize_5 : decode cJ10_checkFromIndexSize 5 = .ok (.ifCond .lt 10, 3) := dk_155 0 10 (dk_at dksJ10_checkFromIndexSize_0 5 rfl rfl)
theorem dJ10_checkFromIndexSize_8 : decode cJ10_checkFromIndexSize 8 = .ok (.iload_n 1, 1) := dk_27 (dk_at dksJ10_checkFromIndexSize_0 8 rfl rfl)
theorem dJ10_checkFromIndexSize_9 : decode cJ10_checkFromIndexSize 9 = .ok (.iload_n 2, 1) := dk_28 (dk_at dksJ10_checkFromIndexSize_0 9 rfl rfl)
theorem dJ10_checkFromIndexSize_10 : decode cJ10_checkFromIndexSize 10 = .ok (.iload_n 0, 1) := dk_26 (dk_at dksJ10_checkFromIndexSize_0 10 rfl rfl)
theorem dJ10_checkFromIndexSize_11 : decode cJ10_checkFromIndexSize 11 = .ok (.isub, 1) := dk_100 (dk_at dksJ10_checkFromIndexSize_0 11 rfl rfl)
theorem dJ10_checkFromIndexSize_12 : decode cJ10_checkFromIndexSize 12 = .ok (.if_icmp .le 11, 3) := dk_164 0 11 (dk_at dksJ10_checkFromIndexSize_0 12 rfl rfl)
theorem dJ10_checkFromIndexSize_15 : decode cJ10_checkFromIndexSize 15 = .ok (.aload_n 3, 1) := dk_45 (dk_at dksJ10_checkFromIndexSize_0 15 rfl rfl)
theorem dJ10_checkFromIndexSize_16 : decode cJ10_checkFromIndexSize 16 = .ok (.iload_n 0, 1) := dk_26 (dk_at dksJ10_checkFromIndexSize_0 16 rfl rfl)
theorem dJ10_checkFromIndexSize_17 : decode cJ10_checkFromIndexSize 17 = .ok (.iload_n 1, 1) := dk_27 (dk_at dksJ10_checkFromIndexSize_0 17 rfl rfl)
theorem dJ10_checkFromIndexSize_18 : decode cJ10_checkFromIndexSize 18 = .ok (.iload_n 2, 1) := dk_28 (dk_at dksJ10_checkFromIndexSize_0 18 rfl rfl)
theorem dJ10_checkFromIndexSize_19 : decode cJ10_checkFromIndexSize 19 = .ok (.invokestatic 103, 3) := dk_184 0 103 (dk_at dksJ10_checkFromIndexSize_0 19 rfl rfl)
theorem dJ10_checkFromIndexSize_22 : decode cJ10_checkFromIndexSize 22 = .ok (.athrow, 1) := dk_191 (dk_at dksJ10_checkFromIndexSize_0 22 rfl rfl)
theorem dJ10_checkFromIndexSize_23 : decode cJ10_checkFromIndexSize 23 = .ok (.iload_n 0, 1) := dk_26 (dk_at dksJ10_checkFromIndexSize_0 23 rfl rfl)
theorem dJ10_checkFromIndexSize_24 : decode cJ10_checkFromIndexSize 24 = .ok (.ireturn, 1) := dk_172 (dk_at dksJ10_checkFromIndexSize_1 0 rfl rfl)
abbrev cJ10_checkFromToIndex : ByteArray := prog_61_method_12_code
def yJ10_checkFromToIndex : MethodName := ⟨RJ10, "checkFromToIndex", "(IIILjava/util/function/BiFunction;)I"⟩
def dkwJ10_checkFromToIndex_0 : List UInt8 := [26, 155, 0, 13, 26, 27, 163, 0, 8, 27, 28, 164, 0, 11, 45, 26, 27, 28, 184, 0, 99, 191, 26, 172]
abbrev dktJ10_checkFromToIndex_0 : List UInt8 := dkwJ10_checkFromToIndex_0 ++ []
theorem dksJ10_checkFromToIndex_0 : cJ10_checkFromToIndex.data.toList.drop 0 = dktJ10_checkFromToIndex_0 := by decide +kernel
theorem dJ10_checkFromToIndex_0 : decode cJ10_checkFromToIndex 0 = .ok (.iload_n 0, 1) := dk_26 (dk_at dksJ10_checkFromToIndex_0 0 rfl rfl)
theorem dJ10_checkFromToIndex_1 : decode cJ10_checkFromToIndex 1 = .ok (.ifCond .lt 13, 3) := dk_155 0 13 (dk_at dksJ10_checkFromToIndex_0 1 rfl rfl)
theorem dJ10_checkFromToIndex_4 : decode cJ10_checkFromToIndex 4 = .ok (.iload_n 0, 1) := dk_26 (dk_at dksJ10_checkFromToIndex_0 4 rfl rfl)
theorem dJ10_checkFromToIndex_5 : decode cJ10_checkFromToIndex 5 = .ok (.iload_n 1, 1) := dk_27 (dk_at dksJ10_checkFromToIndex_0 5 rfl rfl)
theorem dJ10_checkFromToIndex_6 : decode cJ10_checkFromToIndex 6 = .ok (.if_icmp .gt 8, 3) := dk_163 0 8 (dk_at dksJ10_checkFromToIndex_0 6 rfl rfl)
theorem dJ10_checkFromToIndex_9 : decode cJ10_checkFromToIndex 9 = .ok (.iload_n 1, 1) := dk_27 (dk_at dksJ10_checkFromToIndex_0 9 rfl rfl)
theorem dJ10_checkFromToIndex_10 : decode cJ10_checkFromToIndex 10 = .ok (.iload_n 2, 1) := dk_28 (dk_at dksJ10_checkFromToIndex_0 10 rfl rfl)
theorem dJ10_checkFromToIndex_11 : decode cJ10_checkFromToIndex 11 = .ok (.if_icmp .le 11, 3) := dk_164 0 11 (dk_at dksJ10_checkFromToIndex_0 11 rfl rfl)
theorem dJ10_checkFromToIndex_14 : decode cJ10_checkFromToIndex 14 = .ok (.aload_n 3, 1) := dk_45 (dk_at dksJ10_checkFromToIndex_0 14 rfl rfl)
theorem dJ10_checkFromToIndex_15 : decode cJ10_checkFromToIndex 15 = .ok (.iload_n 0, 1) := dk_26 (dk_at dksJ10_checkFromToIndex_0 15 rfl rfl)
theorem dJ10_checkFromToIndex_16 : decode cJ10_checkFromToIndex 16 = .ok (.iload_n 1, 1) := dk_27 (dk_at dksJ10_checkFromToIndex_0 16 rfl rfl)
theorem dJ10_checkFromToIndex_17 : decode cJ10_checkFromToIndex 17 = .ok (.iload_n 2, 1) := dk_28 (dk_at dksJ10_checkFromToIndex_0 17 rfl rfl)
theorem dJ10_checkFromToIndex_18 : decode cJ10_checkFromToIndex 18 = .ok (.invokestatic 99, 3) := dk_184 0 99 (dk_at dksJ10_checkFromToIndex_0 18 rfl rfl)
theorem dJ10_checkFromToIndex_21 : decode cJ10_checkFromToIndex 21 = .ok (.athrow, 1) := dk_191 (dk_at dksJ10_checkFromToIndex_0 21 rfl rfl)
theorem dJ10_checkFromToIndex_22 : decode cJ10_checkFromToIndex 22 = .ok (.iload_n 0, 1) := dk_26 (dk_at dksJ10_checkFromToIndex_0 22 rfl rfl)
theorem dJ10_checkFromToIndex_23 : decode cJ10_checkFromToIndex 23 = .ok (.ireturn, 1) := dk_172 (dk_at dksJ10_checkFromToIndex_0 23 rfl rfl)
theorem q179 : (Jvm.Cond.initialized "jdk/internal/util/Preconditions") ∈ lw_all := lw_g (lw_at lw_m1 19 rfl) rfl
theorem q729 : (Jvm.Cond.static ({ cls := "jdk/internal/util/Preconditions", name := "checkIndex", desc := "(IILjava/util/function/BiFunction;)I" } : Jvm.MethodName)) ∈ lw_all := lw_g (lw_at lw_m3 89 rfl) rfl
theorem q730 : (Jvm.Cond.code ({ cls := "jdk/internal/util/Preconditions", name := "checkIndex", desc := "(IILjava/util/function/BiFunction;)I" } : Jvm.MethodName) prog_61_method_11_code (3 : Nat) (Option.some Jvm.ClassFile.FieldType.int)) ∈ lw_all := lw_g (lw_at lw_m3 90 rfl) rfl
theorem q1503 : (Jvm.Cond.laysStatic "jdk/internal/util/Preconditions" "SIOOBE_FORMATTER" "Ljava/util/function/BiFunction;") ∈ lw_tbl := lw_at lw_m6 143 rfl
theorem q1505 : (Jvm.Cond.static ({ cls := "jdk/internal/util/Preconditions", name := "checkFromIndexSize", desc := "(IIILjava/util/function/BiFunction;)I" } : Jvm.MethodName)) ∈ lw_all := lw_g (lw_at lw_m6 145 rfl) rfl
theorem q1506 : (Jvm.Cond.code ({ cls := "jdk/internal/util/Preconditions", name := "checkFromIndexSize", desc := "(IIILjava/util/function/BiFunction;)I" } : Jvm.MethodName) prog_61_method_13_code (4 : Nat) (Option.some Jvm.ClassFile.FieldType.int)) ∈ lw_all := lw_g (lw_at lw_m6 146 rfl) rfl
theorem q1655 : (Jvm.Cond.static ({ cls := "jdk/internal/util/Preconditions", name := "checkFromToIndex", desc := "(IIILjava/util/function/BiFunction;)I" } : Jvm.MethodName)) ∈ lw_all := lw_g (lw_at lw_m7 55 rfl) rfl
theorem q1656 : (Jvm.Cond.code ({ cls := "jdk/internal/util/Preconditions", name := "checkFromToIndex", desc := "(IIILjava/util/function/BiFunction;)I" } : Jvm.MethodName) prog_61_method_12_code (4 : Nat) (Option.some Jvm.ClassFile.FieldType.int)) ∈ lw_all := lw_g (lw_at lw_m7 56 rfl) rfl

/-! java/lang/Character -/
set_option maxRecDepth 100000
def RJ11 : String := "java/lang/Character"
abbrev cJ11_isValidCodePoint : ByteArray := prog_40_method_11_code
def yJ11_isValidCodePoint : MethodName := ⟨RJ11, "isValidCodePoint", "(I)Z"⟩
def dkwJ11_isValidCodePoint_0 : List UInt8 := [26, 16, 16, 124, 60, 27, 16, 17, 162, 0, 7, 4, 167, 0, 4, 3, 172]
abbrev dktJ11_isValidCodePoint_0 : List UInt8 := dkwJ11_isValidCodePoint_0 ++ []
theorem dksJ11_isValidCodePoint_0 : cJ11_isValidCodePoint.data.toList.drop 0 = dktJ11_isValidCodePoint_0 := by decide +kernel
theorem dJ11_isValidCodePoint_0 : decode cJ11_isValidCodePoint 0 = .ok (.iload_n 0, 1) := dk_26 (dk_at dksJ11_isValidCodePoint_0 0 rfl rfl)
theorem dJ11_isValidCodePoint_1 : decode cJ11_isValidCodePoint 1 = .ok (.bipush 16, 2) := dk_16 16 (dk_at dksJ11_isValidCodePoint_0 1 rfl rfl)
theorem dJ11_isValidCodePoint_3 : decode cJ11_isValidCodePoint 3 = .ok (.iushr, 1) := dk_124 (dk_at dksJ11_isValidCodePoint_0 3 rfl rfl)
theorem dJ11_isValidCodePoint_4 : decode cJ11_isValidCodePoint 4 = .ok (.istore_n 1, 1) := dk_60 (dk_at dksJ11_isValidCodePoint_0 4 rfl rfl)
theorem dJ11_isValidCodePoint_5 : decode cJ11_isValidCodePoint 5 = .ok (.iload_n 1, 1) := dk_27 (dk_at dksJ11_isValidCodePoint_0 5 rfl rfl)
theorem dJ11_isValidCodePoint_6 : decode cJ11_isValidCodePoint 6 = .ok (.bipush 17, 2) := dk_16 17 (dk_at dksJ11_isValidCodePoint_0 6 rfl rfl)
theorem dJ11_isValidCodePoint_8 : decode cJ11_isValidCodePoint 8 = .ok (.if_icmp .ge 7, 3) := dk_162 0 7 (dk_at dksJ11_isValidCodePoint_0 8 rfl rfl)
theorem dJ11_isValidCodePoint_11 : decode cJ11_isValidCodePoint 11 = .ok (.iconst 1, 1) := dk_4 (dk_at dksJ11_isValidCodePoint_0 11 rfl rfl)
theorem dJ11_isValidCodePoint_12 : decode cJ11_isValidCodePoint 12 = .ok (.goto 4, 3) := dk_167 0 4 (dk_at dksJ11_isValidCodePoint_0 12 rfl rfl)
theorem dJ11_isValidCodePoint_15 : decode cJ11_isValidCodePoint 15 = .ok (.iconst 0, 1) := dk_3 (dk_at dksJ11_isValidCodePoint_0 15 rfl rfl)
theorem dJ11_isValidCodePoint_16 : decode cJ11_isValidCodePoint 16 = .ok (.ireturn, 1) := dk_172 (dk_at dksJ11_isValidCodePoint_0 16 rfl rfl)
abbrev cJ11_highSurrogate : ByteArray := prog_40_method_28_code
def yJ11_highSurrogate : MethodName := ⟨RJ11, "highSurrogate", "(I)C"⟩
def dkwJ11_highSurrogate_0 : List UInt8 := [26, 16, 10, 124, 18, 110, 96, 146, 172]
abbrev dktJ11_highSurrogate_0 : List UInt8 := dkwJ11_highSurrogate_0 ++ []
theorem dksJ11_highSurrogate_0 : cJ11_highSurrogate.data.toList.drop 0 = dktJ11_highSurrogate_0 := by decide +kernel
theorem dJ11_highSurrogate_0 : decode cJ11_highSurrogate 0 = .ok (.iload_n 0, 1) := dk_26 (dk_at dksJ11_highSurrogate_0 0 rfl rfl)
theorem dJ11_highSurrogate_1 : decode cJ11_highSurrogate 1 = .ok (.bipush 10, 2) := dk_16 10 (dk_at dksJ11_highSurrogate_0 1 rfl rfl)
theorem dJ11_highSurrogate_3 : decode cJ11_highSurrogate 3 = .ok (.iushr, 1) := dk_124 (dk_at dksJ11_highSurrogate_0 3 rfl rfl)
theorem dJ11_highSurrogate_4 : decode cJ11_highSurrogate 4 = .ok (.ldc 110, 2) := dk_18 110 (dk_at dksJ11_highSurrogate_0 4 rfl rfl)
theorem dJ11_highSurrogate_6 : decode cJ11_highSurrogate 6 = .ok (.iadd, 1) := dk_96 (dk_at dksJ11_highSurrogate_0 6 rfl rfl)
theorem dJ11_highSurrogate_7 : decode cJ11_highSurrogate 7 = .ok (.i2c, 1) := dk_146 (dk_at dksJ11_highSurrogate_0 7 rfl rfl)
theorem dJ11_highSurrogate_8 : decode cJ11_highSurrogate 8 = .ok (.ireturn, 1) := dk_172 (dk_at dksJ11_highSurrogate_0 8 rfl rfl)
abbrev cJ11_lowSurrogate : ByteArray := prog_40_method_29_code
def yJ11_lowSurrogate : MethodName := ⟨RJ11, "lowSurrogate", "(I)C"⟩
def dkwJ11_lowSurrogate_0 : List UInt8 := [26, 17, 3, 255, 126, 18, 76, 96, 146, 172]
abbrev dktJ11_lowSurrogate_0 : List UInt8 := dkwJ11_lowSurrogate_0 ++ []
theorem dksJ11_lowSurrogate_0 : cJ11_lowSurrogate.data.toList.drop 0 = dktJ11_lowSurrogate_0 := by decide +kernel
theorem dJ11_lowSurrogate_0 : decode cJ11_lowSurrogate 0 = .ok (.iload_n 0, 1) := dk_26 (dk_at dksJ11_lowSurrogate_0 0 rfl rfl)
theorem dJ11_lowSurrogate_1 : decode cJ11_lowSurrogate 1 = .ok (.sipush 1023, 3) := dk_17 3 255 (dk_at dksJ11_lowSurrogate_0 1 rfl rfl)
theorem dJ11_lowSurrogate_4 : decode cJ11_lowSurrogate 4 = .ok (.iand, 1) := dk_126 (dk_at dksJ11_lowSurrogate_0 4 rfl rfl)
theorem dJ11_lowSurrogate_5 : decode cJ11_lowSurrogate 5 = .ok (.ldc 76, 2) := dk_18 76 (dk_at dksJ11_lowSurrogate_0 5 rfl rfl)
theorem dJ11_lowSurrogate_7 : decode cJ11_lowSurrogate 7 = .ok (.iadd, 1) := dk_96 (dk_at dksJ11_lowSurrogate_0 7 rfl rfl)
theorem dJ11_lowSurrogate_8 : decode cJ11_lowSurrogate 8 = .ok (.i2c, 1) := dk_146 (dk_at dksJ11_lowSurrogate_0 8 rfl rfl)
theorem dJ11_lowSurrogate_9 : decode cJ11_lowSurrogate 9 = .ok (.ireturn, 1) := dk_172 (dk_at dksJ11_lowSurrogate_0 9 rfl rfl)
theorem q180 : (Jvm.Cond.initialized "java/lang/Character") ∈ lw_all := lw_g (lw_at lw_m1 20 rfl) rfl
theorem q1664 : (Jvm.Cond.static ({ cls := "java/lang/Character", name := "isValidCodePoint", desc := "(I)Z" } : Jvm.MethodName)) ∈ lw_all := lw_g (lw_at lw_m7 64 rfl) rfl
theorem q1665 : (Jvm.Cond.code ({ cls := "java/lang/Character", name := "isValidCodePoint", desc := "(I)Z" } : Jvm.MethodName) prog_40_method_11_code (2 : Nat) (Option.some Jvm.ClassFile.FieldType.boolean)) ∈ lw_all := lw_g (lw_at lw_m7 65 rfl) rfl
theorem q1667 : (Jvm.Cond.static ({ cls := "java/lang/Character", name := "highSurrogate", desc := "(I)C" } : Jvm.MethodName)) ∈ lw_all := lw_g (lw_at lw_m7 67 rfl) rfl
theorem q1668 : (Jvm.Cond.code ({ cls := "java/lang/Character", name := "highSurrogate", desc := "(I)C" } : Jvm.MethodName) prog_40_method_28_code (1 : Nat) (Option.some Jvm.ClassFile.FieldType.char)) ∈ lw_all := lw_g (lw_at lw_m7 68 rfl) rfl
theorem q1669 : (Jvm.Cond.constant "java/lang/Character" (110 : Nat) (55232 : Int32)) ∈ lw_all := lw_g (lw_at lw_m7 69 rfl) rfl
theorem q1671 : (Jvm.Cond.static ({ cls := "java/lang/Character", name := "lowSurrogate", desc := "(I)C" } : Jvm.MethodName)) ∈ lw_all := lw_g (lw_at lw_m7 71 rfl) rfl
theorem q1672 : (Jvm.Cond.code ({ cls := "java/lang/Character", name := "lowSurrogate", desc := "(I)C" } : Jvm.MethodName) prog_40_method_29_code (1 : Nat) (Option.some Jvm.ClassFile.FieldType.char)) ∈ lw_all := lw_g (lw_at lw_m7 72 rfl) rfl
theorem q1673 : (Jvm.Cond.constant "java/lang/Character" (76 : Nat) (56320 : Int32)) ∈ lw_all := lw_g (lw_at lw_m7 73 rfl) rfl

/-! java/util/AbstractCollection -/
set_option maxRecDepth 100000
def RJ12 : String := "java/util/AbstractCollection"
abbrev cJ12_init : ByteArray := prog_51_method_1_code
def yJ12_init : MethodName := ⟨RJ12, "<init>", "()V"⟩
theorem dJ12_init_0 : decode cJ12_init 0 = .ok (.aload_n 0, 1) := by decide +kernel
theorem dJ12_init_1 : decode cJ12_init 1 = .ok (.invokespecial 1, 3) := by decide +kernel
theorem dJ12_init_4 : decode cJ12_init 4 = .ok (.return_, 1) := by decide +kernel
theorem q182 : (Jvm.Cond.initialized "java/util/AbstractCollection") ∈ lw_all := lw_g (lw_at lw_m1 22 rfl) rfl
theorem q529 : (Jvm.Cond.instanceMethod ({ cls := "java/util/AbstractCollection", name := "<init>", desc := "()V" } : Jvm.MethodName)) ∈ lw_all := lw_g (lw_at lw_m2 129 rfl) rfl
theorem q530 : (Jvm.Cond.code ({ cls := "java/util/AbstractCollection", name := "<init>", desc := "()V" } : Jvm.MethodName) prog_51_method_1_code (1 : Nat) (Option.none : Option Jvm.ClassFile.FieldType)) ∈ lw_all := lw_g (lw_at lw_m2 130 rfl) rfl
theorem q531 : (Jvm.Cond.methodLink "java/util/AbstractCollection" (1 : Nat) ({ cls := "java/lang/Object", name := "<init>", desc := "()V" } : Jvm.MethodName)) ∈ lw_all := lw_g (lw_at lw_m2 131 rfl) rfl

/-! java/util/AbstractList -/
set_option maxRecDepth 100000
def RJ13 : String := "java/util/AbstractList"
abbrev cJ13_init : ByteArray := prog_52_method_1_code
def yJ13_init : MethodName := ⟨RJ13, "<init>", "()V"⟩
def dkwJ13_init_0 : List UInt8 := [42, 183, 0, 1, 42, 3, 181, 0, 7, 177]
abbrev dktJ13_init_0 : List UInt8 := dkwJ13_init_0 ++ []
theorem dksJ13_init_0 : cJ13_init.data.toList.drop 0 = dktJ13_init_0 := by decide +kernel
theorem dJ13_init_0 : decode cJ13_init 0 = .ok (.aload_n 0, 1) := dk_42 (dk_at dksJ13_init_0 0 rfl rfl)
theorem dJ13_init_1 : decode cJ13_init 1 = .ok (.invokespecial 1, 3) := dk_183 0 1 (dk_at dksJ13_init_0 1 rfl rfl)
theorem dJ13_init_4 : decode cJ13_init 4 = .ok (.aload_n 0, 1) := dk_42 (dk_at dksJ13_init_0 4 rfl rfl)
theorem dJ13_init_5 : decode cJ13_init 5 = .ok (.iconst 0, 1) := dk_3 (dk_at dksJ13_init_0 5 rfl rfl)
theorem dJ13_init_6 : decode cJ13_init 6 = .ok (.putfield 7, 3) := dk_181 0 7 (dk_at dksJ13_init_0 6 rfl rfl)
theorem dJ13_init_9 : decode cJ13_init 9 = .ok (.return_, 1) := dk_177 (dk_at dksJ13_init_0 9 rfl rfl)
theorem q183 : (Jvm.Cond.initialized "java/util/AbstractList") ∈ lw_all := lw_g (lw_at lw_m1 23 rfl) rfl
theorem q526 : (Jvm.Cond.instanceMethod ({ cls := "java/util/AbstractList", name := "<init>", desc := "()V" } : Jvm.MethodName)) ∈ lw_all := lw_g (lw_at lw_m2 126 rfl) rfl
theorem q527 : (Jvm.Cond.code ({ cls := "java/util/AbstractList", name := "<init>", desc := "()V" } : Jvm.MethodName) prog_52_method_1_code (1 : Nat) (Option.none : Option Jvm.ClassFile.FieldType)) ∈ lw_all := lw_g (lw_at lw_m2 127 rfl) rfl
theorem q528 : (Jvm.Cond.methodLink "java/util/AbstractList" (1 : Nat) ({ cls := "java/util/AbstractCollection", name := "<init>", desc := "()V" } : Jvm.MethodName)) ∈ lw_all := lw_g (lw_at lw_m2 128 rfl) rfl
theorem q536 : (Jvm.Cond.fieldLink "java/util/AbstractList" (7 : Nat) "java/util/AbstractList" "modCount" "I") ∈ lw_all := lw_g (lw_at lw_m2 136 rfl) rfl
theorem q544 : (Jvm.Cond.soleField "java/util/AbstractList" "modCount") ∈ lw_all := lw_g (lw_at lw_m2 144 rfl) rfl

/-! java/util/ArrayList -/
set_option maxRecDepth 100000
def RJ14 : String := "java/util/ArrayList"
def TJ14 : u_T := fun k => match k with
  | 0 => ("java/util/AbstractList", "modCount", "I", false)
  | 1 => ("java/util/ArrayList", "elementData", "[Ljava/lang/Object;", false)
  | _ => ("java/util/ArrayList", "size", "I", false)
def tyJ14 : Nat → FieldType := fun k => match k with
  | 0 => .int
  | 1 => .array (.object "java/lang/Object")
  | _ => .int
abbrev wsJ140 : List Cond := u_ws RJ14 TJ14 3
theorem nmJ14 : ∀ a, a < 3 → ∀ b, b < 3 → a ≠ b → (TJ14 a).2.1 ≠ (TJ14 b).2.1 := by decide +kernel
theorem tyJ14_ok : ∀ k, k < 3 → parseFieldDescriptor (TJ14 k).2.2.1 = some (tyJ14 k) := by decide +kernel
abbrev cJ14_init : ByteArray := prog_53_method_2_code
def yJ14_init : MethodName := ⟨RJ14, "<init>", "()V"⟩
def dkwJ14_init_0 : List UInt8 := [42, 183, 0, 1, 42, 178, 0, 39, 181, 0, 9, 177]
abbrev dktJ14_init_0 : List UInt8 := dkwJ14_init_0 ++ []
theorem dksJ14_init_0 : cJ14_init.data.toList.drop 0 = dktJ14_init_0 := by decide +kernel
theorem dJ14_init_0 : decode cJ14_init 0 = .ok (.aload_n 0, 1) := dk_42 (dk_at dksJ14_init_0 0 rfl rfl)
theorem dJ14_init_1 : decode cJ14_init 1 = .ok (.invokespecial 1, 3) := dk_183 0 1 (dk_at dksJ14_init_0 1 rfl rfl)
theorem dJ14_init_4 : decode cJ14_init 4 = .ok (.aload_n 0, 1) := dk_42 (dk_at dksJ14_init_0 4 rfl rfl)
theorem dJ14_init_5 : decode cJ14_init 5 = .ok (.getstatic 39, 3) := dk_178 0 39 (dk_at dksJ14_init_0 5 rfl rfl)
theorem dJ14_init_8 : decode cJ14_init 8 = .ok (.putfield 9, 3) := dk_181 0 9 (dk_at dksJ14_init_0 8 rfl rfl)
theorem dJ14_init_11 : decode cJ14_init 11 = .ok (.return_, 1) := dk_177 (dk_at dksJ14_init_0 11 rfl rfl)
abbrev cJ14_add : ByteArray := prog_53_method_25_code
def yJ14_add : MethodName := ⟨RJ14, "add", "(Ljava/lang/Object;)Z"⟩
def dkwJ14_add_1 : List UInt8 := [172]
abbrev dktJ14_add_1 : List UInt8 := dkwJ14_add_1 ++ []
def dkwJ14_add_0 : List UInt8 := [42, 89, 180, 0, 63, 4, 96, 181, 0, 63, 42, 43, 42, 180, 0, 9, 42, 180, 0, 48, 182, 0, 131, 4]
abbrev dktJ14_add_0 : List UInt8 := dkwJ14_add_0 ++ dktJ14_add_1
theorem dksJ14_add_0 : cJ14_add.data.toList.drop 0 = dktJ14_add_0 := by decide +kernel
theorem dksJ14_add_1 : cJ14_add.data.toList.drop 24 = dktJ14_add_1 := dk_seg dksJ14_add_0 24 rfl rfl
theorem dJ14_add_0 : decode cJ14_add 0 = .ok (.aload_n 0, 1) := dk_42 (dk_at dksJ14_add_0 0 rfl rfl)
theorem dJ14_add_1 : decode cJ14_add 1 = .ok (.dup, 1) := dk_89 (dk_at dksJ14_add_0 1 rfl rfl)
theorem dJ14_add_2 : decode cJ14_add 2 = .ok (.getfield 63, 3) := dk_180 0 63 (dk_at dksJ14_add_0 2 rfl rfl)
theorem dJ14_add_5 : decode cJ14_add 5 = .ok (.iconst 1, 1) := dk_4 (dk_at dksJ14_add_0 5 rfl rfl)
theorem dJ14_add_6 : decode cJ14_add 6 = .ok (.iadd, 1) := dk_96 (dk_at dksJ14_add_0 6 rfl rfl)
theorem dJ14_add_7 : decode cJ14_add 7 = .ok (.putfield 63, 3) := dk_181 0 63 (dk_at dksJ14_add_0 7 rfl rfl)
theorem dJ14_add_10 : decode cJ14_add 10 = .ok (.aload_n 0, 1) := dk_42 (dk_at dksJ14_add_0 10 rfl rfl)
theorem dJ14_add_11 : decode cJ14_add 11 = .ok (.aload_n 1, 1) := dk_43 (dk_at dksJ14_add_0 11 rfl rfl)
theorem dJ14_add_12 : decode cJ14_add 12 = .ok (.aload_n 0, 1) := dk_42 (dk_at dksJ14_add_0 12 rfl rfl)
theorem dJ14_add_13 : decode cJ14_add 13 = .ok (.getfield 9, 3) := dk_180 0 9 (dk_at dksJ14_add_0 13 rfl rfl)
theorem dJ14_add_16 : decode cJ14_add 16 = .ok (.aload_n 0, 1) := dk_42 (dk_at dksJ14_add_0 16 rfl rfl)
theorem dJ14_add_17 : decode cJ14_add 17 = .ok (.getfield 48, 3) := dk_180 0 48 (dk_at dksJ14_add_0 17 rfl rfl)
theorem dJ14_add_20 : decode cJ14_add 20 = .ok (.invokevirtual 131, 3) := dk_182 0 131 (dk_at dksJ14_add_0 20 rfl rfl)
theorem dJ14_add_23 : decode cJ14_add 23 = .ok (.iconst 1, 1) := dk_4 (dk_at dksJ14_add_0 23 rfl rfl)
theorem dJ14_add_24 : decode cJ14_add 24 = .ok (.ireturn, 1) := dk_172 (dk_at dksJ14_add_1 0 rfl rfl)
abbrev cJ14_add_2 : ByteArray := prog_53_method_24_code
def yJ14_add_2 : MethodName := ⟨RJ14, "add", "(Ljava/lang/Object;[Ljava/lang/Object;I)V"⟩
def dkwJ14_add_2_0 : List UInt8 := [29, 44, 190, 160, 0, 8, 42, 182, 0, 129, 77, 44, 29, 43, 83, 42, 29, 4, 96, 181, 0, 48, 177]
abbrev dktJ14_add_2_0 : List UInt8 := dkwJ14_add_2_0 ++ []
theorem dksJ14_add_2_0 : cJ14_add_2.data.toList.drop 0 = dktJ14_add_2_0 := by decide +kernel
theorem dJ14_add_2_0 : decode cJ14_add_2 0 = .ok (.iload_n 3, 1) := dk_29 (dk_at dksJ14_add_2_0 0 rfl rfl)
theorem dJ14_add_2_1 : decode cJ14_add_2 1 = .ok (.aload_n 2, 1) := dk_44 (dk_at dksJ14_add_2_0 1 rfl rfl)
theorem dJ14_add_2_2 : decode cJ14_add_2 2 = .ok (.arraylength, 1) := dk_190 (dk_at dksJ14_add_2_0 2 rfl rfl)
theorem dJ14_add_2_3 : decode cJ14_add_2 3 = .ok (.if_icmp .ne 8, 3) := dk_160 0 8 (dk_at dksJ14_add_2_0 3 rfl rfl)
theorem dJ14_add_2_6 : decode cJ14_add_2 6 = .ok (.aload_n 0, 1) := dk_42 (dk_at dksJ14_add_2_0 6 rfl rfl)
theorem dJ14_add_2_7 : decode cJ14_add_2 7 = .ok (.invokevirtual 129, 3) := dk_182 0 129 (dk_at dksJ14_add_2_0 7 rfl rfl)
theorem dJ14_add_2_10 : decode cJ14_add_2 10 = .ok (.astore_n 2, 1) := dk_77 (dk_at dksJ14_add_2_0 10 rfl rfl)
theorem dJ14_add_2_11 : decode cJ14_add_2 11 = .ok (.aload_n 2, 1) := dk_44 (dk_at dksJ14_add_2_0 11 rfl rfl)
theorem dJ14_add_2_12 : decode cJ14_add_2 12 = .ok (.iload_n 3, 1) := dk_29 (dk_at dksJ14_add_2_0 12 rfl rfl)
theorem dJ14_add_2_13 : decode cJ14_add_2 13 = .ok (.aload_n 1, 1) := dk_43 (dk_at dksJ14_add_2_0 13 rfl rfl)
theorem dJ14_add_2_14 : decode cJ14_add_2 14 = .ok (.aastore, 1) := dk_83 (dk_at dksJ14_add_2_0 14 rfl rfl)
theorem dJ14_add_2_15 : decode cJ14_add_2 15 = .ok (.aload_n 0, 1) := dk_42 (dk_at dksJ14_add_2_0 15 rfl rfl)
theorem dJ14_add_2_16 : decode cJ14_add_2 16 = .ok (.iload_n 3, 1) := dk_29 (dk_at dksJ14_add_2_0 16 rfl rfl)
theorem dJ14_add_2_17 : decode cJ14_add_2 17 = .ok (.iconst 1, 1) := dk_4 (dk_at dksJ14_add_2_0 17 rfl rfl)
theorem dJ14_add_2_18 : decode cJ14_add_2 18 = .ok (.iadd, 1) := dk_96 (dk_at dksJ14_add_2_0 18 rfl rfl)
theorem dJ14_add_2_19 : decode cJ14_add_2 19 = .ok (.putfield 48, 3) := dk_181 0 48 (dk_at dksJ14_add_2_0 19 rfl rfl)
theorem dJ14_add_2_22 : decode cJ14_add_2 22 = .ok (.return_, 1) := dk_177 (dk_at dksJ14_add_2_0 22 rfl rfl)
abbrev cJ14_grow : ByteArray := prog_53_method_7_code
def yJ14_grow : MethodName := ⟨RJ14, "grow", "()[Ljava/lang/Object;"⟩
def dkwJ14_grow_0 : List UInt8 := [42, 42, 180, 0, 48, 4, 96, 182, 0, 69, 176]
abbrev dktJ14_grow_0 : List UInt8 := dkwJ14_grow_0 ++ []
theorem dksJ14_grow_0 : cJ14_grow.data.toList.drop 0 = dktJ14_grow_0 := by decide +kernel
theorem dJ14_grow_0 : decode cJ14_grow 0 = .ok (.aload_n 0, 1) := dk_42 (dk_at dksJ14_grow_0 0 rfl rfl)
theorem dJ14_grow_1 : decode cJ14_grow 1 = .ok (.aload_n 0, 1) := dk_42 (dk_at dksJ14_grow_0 1 rfl rfl)
theorem dJ14_grow_2 : decode cJ14_grow 2 = .ok (.getfield 48, 3) := dk_180 0 48 (dk_at dksJ14_grow_0 2 rfl rfl)
theorem dJ14_grow_5 : decode cJ14_grow 5 = .ok (.iconst 1, 1) := dk_4 (dk_at dksJ14_grow_0 5 rfl rfl)
theorem dJ14_grow_6 : decode cJ14_grow 6 = .ok (.iadd, 1) := dk_96 (dk_at dksJ14_grow_0 6 rfl rfl)
theorem dJ14_grow_7 : decode cJ14_grow 7 = .ok (.invokevirtual 69, 3) := dk_182 0 69 (dk_at dksJ14_grow_0 7 rfl rfl)
theorem dJ14_grow_10 : decode cJ14_grow 10 = .ok (.areturn, 1) := dk_176 (dk_at dksJ14_grow_0 10 rfl rfl)
abbrev cJ14_grow_2 : ByteArray := prog_53_method_6_code
def yJ14_grow_2 : MethodName := ⟨RJ14, "grow", "(I)[Ljava/lang/Object;"⟩
def dkwJ14_grow_2_2 : List UInt8 := [27, 184, 0, 79, 189, 0, 7, 90, 181, 0, 9, 176]
abbrev dktJ14_grow_2_2 : List UInt8 := dkwJ14_grow_2_2 ++ []
def dkwJ14_grow_2_1 : List UInt8 := [28, 4, 122, 184, 0, 73, 62, 42, 42, 180, 0, 9, 29, 184, 0, 66, 90, 181, 0, 9, 176, 42, 16, 10]
abbrev dktJ14_grow_2_1 : List UInt8 := dkwJ14_grow_2_1 ++ dktJ14_grow_2_2
def dkwJ14_grow_2_0 : List UInt8 := [42, 180, 0, 9, 190, 61, 28, 157, 0, 13, 42, 180, 0, 9, 178, 0, 39, 165, 0, 28, 28, 27, 28, 100]
abbrev dktJ14_grow_2_0 : List UInt8 := dkwJ14_grow_2_0 ++ dktJ14_grow_2_1
theorem dksJ14_grow_2_0 : cJ14_grow_2.data.toList.drop 0 = dktJ14_grow_2_0 := by decide +kernel
theorem dksJ14_grow_2_1 : cJ14_grow_2.data.toList.drop 24 = dktJ14_grow_2_1 := dk_seg dksJ14_grow_2_0 24 rfl rfl
theorem dksJ14_grow_2_2 : cJ14_grow_2.data.toList.drop 48 = dktJ14_grow_2_2 := dk_seg dksJ14_grow_2_1 24 rfl rfl
theorem dJ14_grow_2_0 : decode cJ14_grow_2 0 = .ok (.aload_n 0, 1) := dk_42 (dk_at dksJ14_grow_2_0 0 rfl rfl)
theorem dJ14_grow_2_1 : decode cJ14_grow_2 1 = .ok (.getfield 9, 3) := dk_180 0 9 (dk_at dksJ14_grow_2_0 1 rfl rfl)
theorem dJ14_grow_2_4 : decode cJ14_grow_2 4 = .ok (.arraylength, 1) := dk_190 (dk_at dksJ14_grow_2_0 4 rfl rfl)
theorem dJ14_grow_2_5 : decode cJ14_grow_2 5 = .ok (.istore_n 2, 1) := dk_61 (dk_at dksJ14_grow_2_0 5 rfl rfl)
theorem dJ14_grow_2_6 : decode cJ14_grow_2 6 = .ok (.iload_n 2, 1) := dk_28 (dk_at dksJ14_grow_2_0 6 rfl rfl)
theorem dJ14_grow_2_7 : decode cJ14_grow_2 7 = .ok (.ifCond .gt 13, 3) := dk_157 0 13 (dk_at dksJ14_grow_2_0 7 rfl rfl)
theorem dJ14_grow_2_10 : decode cJ14_grow_2 10 = .ok (.aload_n 0, 1) := dk_42 (dk_at dksJ14_grow_2_0 10 rfl rfl)
theorem dJ14_grow_2_11 : decode cJ14_grow_2 11 = .ok (.getfield 9, 3) := dk_180 0 9 (dk_at dksJ14_grow_2_0 11 rfl rfl)
theorem dJ14_grow_2_14 : decode cJ14_grow_2 14 = .ok (.getstatic 39, 3) := dk_178 0 39 (dk_at dksJ14_grow_2_0 14 rfl rfl)
theorem dJ14_grow_2_17 : decode cJ14_grow_2 17 = .ok (.if_acmp .eq 28, 3) := dk_165 0 28 (dk_at dksJ14_grow_2_0 17 rfl rfl)
theorem dJ14_grow_2_20 : decode cJ14_grow_2 20 = .ok (.iload_n 2, 1) := dk_28 (dk_at dksJ14_grow_2_0 20 rfl rfl)
theorem dJ14_grow_2_21 : decode cJ14_grow_2 21 = .ok (.iload_n 1, 1) := dk_27 (dk_at dksJ14_grow_2_0 21 rfl rfl)
theorem dJ14_grow_2_22 : decode cJ14_grow_2 22 = .ok (.iload_n 2, 1) := dk_28 (dk_at dksJ14_grow_2_0 22 rfl rfl)
theorem dJ14_grow_2_23 : decode cJ14_grow_2 23 = .ok (.isub, 1) := dk_100 (dk_at dksJ14_grow_2_0 23 rfl rfl)
theorem dJ14_grow_2_24 : decode cJ14_grow_2 24 = .ok (.iload_n 2, 1) := dk_28 (dk_at dksJ14_grow_2_1 0 rfl rfl)
theorem dJ14_grow_2_25 : decode cJ14_grow_2 25 = .ok (.iconst 1, 1) := dk_4 (dk_at dksJ14_grow_2_1 1 rfl rfl)
theorem dJ14_grow_2_26 : decode cJ14_grow_2 26 = .ok (.ishr, 1) := dk_122 (dk_at dksJ14_grow_2_1 2 rfl rfl)
theorem dJ14_grow_2_27 : decode cJ14_grow_2 27 = .ok (.invokestatic 73, 3) := dk_184 0 73 (dk_at dksJ14_grow_2_1 3 rfl rfl)
theorem dJ14_grow_2_30 : decode cJ14_grow_2 30 = .ok (.istore_n 3, 1) := dk_62 (dk_at dksJ14_grow_2_1 6 rfl rfl)
theorem dJ14_grow_2_31 : decode cJ14_grow_2 31 = .ok (.aload_n 0, 1) := dk_42 (dk_at dksJ14_grow_2_1 7 rfl rfl)
theorem dJ14_grow_2_32 : decode cJ14_grow_2 32 = .ok (.aload_n 0, 1) := dk_42 (dk_at dksJ14_grow_2_1 8 rfl rfl)
theorem dJ14_grow_2_33 : decode cJ14_grow_2 33 = .ok (.getfield 9, 3) := dk_180 0 9 (dk_at dksJ14_grow_2_1 9 rfl rfl)
theorem dJ14_grow_2_36 : decode cJ14_grow_2 36 = .ok (.iload_n 3, 1) := dk_29 (dk_at dksJ14_grow_2_1 12 rfl rfl)
theorem dJ14_grow_2_37 : decode cJ14_grow_2 37 = .ok (.invokestatic 66, 3) := dk_184 0 66 (dk_at dksJ14_grow_2_1 13 rfl rfl)
theorem dJ14_grow_2_40 : decode cJ14_grow_2 40 = .ok (.dup_x1, 1) := dk_90 (dk_at dksJ14_grow_2_1 16 rfl rfl)
theorem dJ14_grow_2_41 : decode cJ14_grow_2 41 = .ok (.putfield 9, 3) := dk_181 0 9 (dk_at dksJ14_grow_2_1 17 rfl rfl)
theorem dJ14_grow_2_44 : decode cJ14_grow_2 44 = .ok (.areturn, 1) := dk_176 (dk_at dksJ14_grow_2_1 20 rfl rfl)
theorem dJ14_grow_2_45 : decode cJ14_grow_2 45 = .ok (.aload_n 0, 1) := dk_42 (dk_at dksJ14_grow_2_1 21 rfl rfl)
theorem dJ14_grow_2_46 : decode cJ14_grow_2 46 = .ok (.bipush 10, 2) := dk_16 10 (dk_at dksJ14_grow_2_1 22 rfl rfl)
theorem dJ14_grow_2_48 : decode cJ14_grow_2 48 = .ok (.iload_n 1, 1) := dk_27 (dk_at dksJ14_grow_2_2 0 rfl rfl)
theorem dJ14_grow_2_49 : decode cJ14_grow_2 49 = .ok (.invokestatic 79, 3) := dk_184 0 79 (dk_at dksJ14_grow_2_2 1 rfl rfl)
theorem dJ14_grow_2_52 : decode cJ14_grow_2 52 = .ok (.anewarray 7, 3) := dk_189 0 7 (dk_at dksJ14_grow_2_2 4 rfl rfl)
theorem dJ14_grow_2_55 : decode cJ14_grow_2 55 = .ok (.dup_x1, 1) := dk_90 (dk_at dksJ14_grow_2_2 7 rfl rfl)
theorem dJ14_grow_2_56 : decode cJ14_grow_2 56 = .ok (.putfield 9, 3) := dk_181 0 9 (dk_at dksJ14_grow_2_2 8 rfl rfl)
theorem dJ14_grow_2_59 : decode cJ14_grow_2 59 = .ok (.areturn, 1) := dk_176 (dk_at dksJ14_grow_2_2 11 rfl rfl)
abbrev cJ14_size : ByteArray := prog_53_method_8_code
def yJ14_size : MethodName := ⟨RJ14, "size", "()I"⟩
theorem dJ14_size_0 : decode cJ14_size 0 = .ok (.aload_n 0, 1) := by decide +kernel
theorem dJ14_size_1 : decode cJ14_size 1 = .ok (.getfield 48, 3) := by decide +kernel
theorem dJ14_size_4 : decode cJ14_size 4 = .ok (.ireturn, 1) := by decide +kernel
abbrev cJ14_get : ByteArray := prog_53_method_20_code
def yJ14_get : MethodName := ⟨RJ14, "get", "(I)Ljava/lang/Object;"⟩
def dkwJ14_get_0 : List UInt8 := [27, 42, 180, 0, 48, 184, 0, 118, 87, 42, 27, 182, 0, 123, 176]
abbrev dktJ14_get_0 : List UInt8 := dkwJ14_get_0 ++ []
theorem dksJ14_get_0 : cJ14_get.data.toList.drop 0 = dktJ14_get_0 := by decide +kernel
theorem dJ14_get_0 : decode cJ14_get 0 = .ok (.iload_n 1, 1) := dk_27 (dk_at dksJ14_get_0 0 rfl rfl)
theorem dJ14_get_1 : decode cJ14_get 1 = .ok (.aload_n 0, 1) := dk_42 (dk_at dksJ14_get_0 1 rfl rfl)
theorem dJ14_get_2 : decode cJ14_get 2 = .ok (.getfield 48, 3) := dk_180 0 48 (dk_at dksJ14_get_0 2 rfl rfl)
theorem dJ14_get_5 : decode cJ14_get 5 = .ok (.invokestatic 118, 3) := dk_184 0 118 (dk_at dksJ14_get_0 5 rfl rfl)
theorem dJ14_get_8 : decode cJ14_get 8 = .ok (.pop, 1) := dk_87 (dk_at dksJ14_get_0 8 rfl rfl)
theorem dJ14_get_9 : decode cJ14_get 9 = .ok (.aload_n 0, 1) := dk_42 (dk_at dksJ14_get_0 9 rfl rfl)
theorem dJ14_get_10 : decode cJ14_get 10 = .ok (.iload_n 1, 1) := dk_27 (dk_at dksJ14_get_0 10 rfl rfl)
theorem dJ14_get_11 : decode cJ14_get 11 = .ok (.invokevirtual 123, 3) := dk_182 0 123 (dk_at dksJ14_get_0 11 rfl rfl)
theorem dJ14_get_14 : decode cJ14_get 14 = .ok (.areturn, 1) := dk_176 (dk_at dksJ14_get_0 14 rfl rfl)
abbrev cJ14_elementData : ByteArray := prog_53_method_18_code
def yJ14_elementData : MethodName := ⟨RJ14, "elementData", "(I)Ljava/lang/Object;"⟩
def dkwJ14_elementData_0 : List UInt8 := [42, 180, 0, 9, 27, 50, 176]
abbrev dktJ14_elementData_0 : List UInt8 := dkwJ14_elementData_0 ++ []
theorem dksJ14_elementData_0 : cJ14_elementData.data.toList.drop 0 = dktJ14_elementData_0 := by decide +kernel
theorem dJ14_elementData_0 : decode cJ14_elementData 0 = .ok (.aload_n 0, 1) := dk_42 (dk_at dksJ14_elementData_0 0 rfl rfl)
theorem dJ14_elementData_1 : decode cJ14_elementData 1 = .ok (.getfield 9, 3) := dk_180 0 9 (dk_at dksJ14_elementData_0 1 rfl rfl)
theorem dJ14_elementData_4 : decode cJ14_elementData 4 = .ok (.iload_n 1, 1) := dk_27 (dk_at dksJ14_elementData_0 4 rfl rfl)
theorem dJ14_elementData_5 : decode cJ14_elementData 5 = .ok (.aaload, 1) := dk_50 (dk_at dksJ14_elementData_0 5 rfl rfl)
theorem dJ14_elementData_6 : decode cJ14_elementData 6 = .ok (.areturn, 1) := dk_176 (dk_at dksJ14_elementData_0 6 rfl rfl)
abbrev cJ14_remove : ByteArray := prog_53_method_29_code
def yJ14_remove : MethodName := ⟨RJ14, "remove", "(I)Ljava/lang/Object;"⟩
def dkwJ14_remove_1 : List UInt8 := [45, 176]
abbrev dktJ14_remove_1 : List UInt8 := dkwJ14_remove_1 ++ []
def dkwJ14_remove_0 : List UInt8 := [27, 42, 180, 0, 48, 184, 0, 118, 87, 42, 180, 0, 9, 77, 44, 27, 50, 78, 42, 44, 27, 182, 0, 144]
abbrev dktJ14_remove_0 : List UInt8 := dkwJ14_remove_0 ++ dktJ14_remove_1
theorem dksJ14_remove_0 : cJ14_remove.data.toList.drop 0 = dktJ14_remove_0 := by decide +kernel
theorem dksJ14_remove_1 : cJ14_remove.data.toList.drop 24 = dktJ14_remove_1 := dk_seg dksJ14_remove_0 24 rfl rfl
theorem dJ14_remove_0 : decode cJ14_remove 0 = .ok (.iload_n 1, 1) := dk_27 (dk_at dksJ14_remove_0 0 rfl rfl)
theorem dJ14_remove_1 : decode cJ14_remove 1 = .ok (.aload_n 0, 1) := dk_42 (dk_at dksJ14_remove_0 1 rfl rfl)
theorem dJ14_remove_2 : decode cJ14_remove 2 = .ok (.getfield 48, 3) := dk_180 0 48 (dk_at dksJ14_remove_0 2 rfl rfl)
theorem dJ14_remove_5 : decode cJ14_remove 5 = .ok (.invokestatic 118, 3) := dk_184 0 118 (dk_at dksJ14_remove_0 5 rfl rfl)
theorem dJ14_remove_8 : decode cJ14_remove 8 = .ok (.pop, 1) := dk_87 (dk_at dksJ14_remove_0 8 rfl rfl)
theorem dJ14_remove_9 : decode cJ14_remove 9 = .ok (.aload_n 0, 1) := dk_42 (dk_at dksJ14_remove_0 9 rfl rfl)
theorem dJ14_remove_10 : decode cJ14_remove 10 = .ok (.getfield 9, 3) := dk_180 0 9 (dk_at dksJ14_remove_0 10 rfl rfl)
theorem dJ14_remove_13 : decode cJ14_remove 13 = .ok (.astore_n 2, 1) := dk_77 (dk_at dksJ14_remove_0 13 rfl rfl)
theorem dJ14_remove_14 : decode cJ14_remove 14 = .ok (.aload_n 2, 1) := dk_44 (dk_at dksJ14_remove_0 14 rfl rfl)
theorem dJ14_remove_15 : decode cJ14_remove 15 = .ok (.iload_n 1, 1) := dk_27 (dk_at dksJ14_remove_0 15 rfl rfl)
theorem dJ14_remove_16 : decode cJ14_remove 16 = .ok (.aaload, 1) := dk_50 (dk_at dksJ14_remove_0 16 rfl rfl)
theorem dJ14_remove_17 : decode cJ14_remove 17 = .ok (.astore_n 3, 1) := dk_78 (dk_at dksJ14_remove_0 17 rfl rfl)
theorem dJ14_remove_18 : decode cJ14_remove 18 = .ok (.aload_n 0, 1) := dk_42 (dk_at dksJ14_remove_0 18 rfl rfl)
theorem dJ14_remove_19 : decode cJ14_remove 19 = .ok (.aload_n 2, 1) := dk_44 (dk_at dksJ14_remove_0 19 rfl rfl)
theorem dJ14_remove_20 : decode cJ14_remove 20 = .ok (.iload_n 1, 1) := dk_27 (dk_at dksJ14_remove_0 20 rfl rfl)
theorem dJ14_remove_21 : decode cJ14_remove 21 = .ok (.invokevirtual 144, 3) := dk_182 0 144 (dk_at dksJ14_remove_0 21 rfl rfl)
theorem dJ14_remove_24 : decode cJ14_remove 24 = .ok (.aload_n 3, 1) := dk_45 (dk_at dksJ14_remove_1 0 rfl rfl)
theorem dJ14_remove_25 : decode cJ14_remove 25 = .ok (.areturn, 1) := dk_176 (dk_at dksJ14_remove_1 1 rfl rfl)
abbrev cJ14_fastRemove : ByteArray := prog_53_method_39_code
def yJ14_fastRemove : MethodName := ⟨RJ14, "fastRemove", "([Ljava/lang/Object;I)V"⟩
def dkwJ14_fastRemove_1 : List UInt8 := [4, 96, 43, 28, 29, 28, 100, 184, 0, 112, 43, 42, 29, 90, 181, 0, 48, 1, 83, 177]
abbrev dktJ14_fastRemove_1 : List UInt8 := dkwJ14_fastRemove_1 ++ []
def dkwJ14_fastRemove_0 : List UInt8 := [42, 89, 180, 0, 63, 4, 96, 181, 0, 63, 42, 180, 0, 48, 4, 100, 89, 62, 28, 164, 0, 15, 43, 28]
abbrev dktJ14_fastRemove_0 : List UInt8 := dkwJ14_fastRemove_0 ++ dktJ14_fastRemove_1
theorem dksJ14_fastRemove_0 : cJ14_fastRemove.data.toList.drop 0 = dktJ14_fastRemove_0 := by decide +kernel
theorem dksJ14_fastRemove_1 : cJ14_fastRemove.data.toList.drop 24 = dktJ14_fastRemove_1 := dk_seg dksJ14_fastRemove_0 24 rfl rfl
theorem dJ14_fastRemove_0 : decode cJ14_fastRemove 0 = .ok (.aload_n 0, 1) := dk_42 (dk_at dksJ14_fastRemove_0 0 rfl rfl)
theorem dJ14_fastRemove_1 : decode cJ14_fastRemove 1 = .ok (.dup, 1) := dk_89 (dk_at dksJ14_fastRemove_0 1 rfl rfl)
theorem dJ14_fastRemove_2 : decode cJ14_fastRemove 2 = .ok (.getfield 63, 3) := dk_180 0 63 (dk_at dksJ14_fastRemove_0 2 rfl rfl)
theorem dJ14_fastRemove_5 : decode cJ14_fastRemove 5 = .ok (.iconst 1, 1) := dk_4 (dk_at dksJ14_fastRemove_0 5 rfl rfl)
theorem dJ14_fastRemove_6 : decode cJ14_fastRemove 6 = .ok (.iadd, 1) := dk_96 (dk_at dksJ14_fastRemove_0 6 rfl rfl)
theorem dJ14_fastRemove_7 : decode cJ14_fastRemove 7 = .ok (.putfield 63, 3) := dk_181 0 63 (dk_at dksJ14_fastRemove_0 7 rfl rfl)
theorem dJ14_fastRemove_10 : decode cJ14_fastRemove 10 = .ok (.aload_n 0, 1) := dk_42 (dk_at dksJ14_fastRemove_0 10 rfl rfl)
theorem dJ14_fastRemove_11 : decode cJ14_fastRemove 11 = .ok (.getfield 48, 3) := dk_180 0 48 (dk_at dksJ14_fastRemove_0 11 rfl rfl)
theorem dJ14_fastRemove_14 : decode cJ14_fastRemove 14 = .ok (.iconst 1, 1) := dk_4 (dk_at dksJ14_fastRemove_0 14 rfl rfl)
theorem dJ14_fastRemove_15 : decode cJ14_fastRemove 15 = .ok (.isub, 1) := dk_100 (dk_at dksJ14_fastRemove_0 15 rfl rfl)
theorem dJ14_fastRemove_16 : decode cJ14_fastRemove 16 = .ok (.dup, 1) := dk_89 (dk_at dksJ14_fastRemove_0 16 rfl rfl)
theorem dJ14_fastRemove_17 : decode cJ14_fastRemove 17 = .ok (.istore_n 3, 1) := dk_62 (dk_at dksJ14_fastRemove_0 17 rfl rfl)
theorem dJ14_fastRemove_18 : decode cJ14_fastRemove 18 = .ok (.iload_n 2, 1) := dk_28 (dk_at dksJ14_fastRemove_0 18 rfl rfl)
theorem dJ14_fastRemove_19 : decode cJ14_fastRemove 19 = .ok (.if_icmp .le 15, 3) := dk_164 0 15 (dk_at dksJ14_fastRemove_0 19 rfl rfl)
theorem dJ14_fastRemove_22 : decode cJ14_fastRemove 22 = .ok (.aload_n 1, 1) := dk_43 (dk_at dksJ14_fastRemove_0 22 rfl rfl)
theorem dJ14_fastRemove_23 : decode cJ14_fastRemove 23 = .ok (.iload_n 2, 1) := dk_28 (dk_at dksJ14_fastRemove_0 23 rfl rfl)
theorem dJ14_fastRemove_24 : decode cJ14_fastRemove 24 = .ok (.iconst 1, 1) := dk_4 (dk_at dksJ14_fastRemove_1 0 rfl rfl)
theorem dJ14_fastRemove_25 : decode cJ14_fastRemove 25 = .ok (.iadd, 1) := dk_96 (dk_at dksJ14_fastRemove_1 1 rfl rfl)
theorem dJ14_fastRemove_26 : decode cJ14_fastRemove 26 = .ok (.aload_n 1, 1) := dk_43 (dk_at dksJ14_fastRemove_1 2 rfl rfl)
theorem dJ14_fastRemove_27 : decode cJ14_fastRemove 27 = .ok (.iload_n 2, 1) := dk_28 (dk_at dksJ14_fastRemove_1 3 rfl rfl)
theorem dJ14_fastRemove_28 : decode cJ14_fastRemove 28 = .ok (.iload_n 3, 1) := dk_29 (dk_at dksJ14_fastRemove_1 4 rfl rfl)
theorem dJ14_fastRemove_29 : decode cJ14_fastRemove 29 = .ok (.iload_n 2, 1) := dk_28 (dk_at dksJ14_fastRemove_1 5 rfl rfl)
theorem dJ14_fastRemove_30 : decode cJ14_fastRemove 30 = .ok (.isub, 1) := dk_100 (dk_at dksJ14_fastRemove_1 6 rfl rfl)
theorem dJ14_fastRemove_31 : decode cJ14_fastRemove 31 = .ok (.invokestatic 112, 3) := dk_184 0 112 (dk_at dksJ14_fastRemove_1 7 rfl rfl)
theorem dJ14_fastRemove_34 : decode cJ14_fastRemove 34 = .ok (.aload_n 1, 1) := dk_43 (dk_at dksJ14_fastRemove_1 10 rfl rfl)
theorem dJ14_fastRemove_35 : decode cJ14_fastRemove 35 = .ok (.aload_n 0, 1) := dk_42 (dk_at dksJ14_fastRemove_1 11 rfl rfl)
theorem dJ14_fastRemove_36 : decode cJ14_fastRemove 36 = .ok (.iload_n 3, 1) := dk_29 (dk_at dksJ14_fastRemove_1 12 rfl rfl)
theorem dJ14_fastRemove_37 : decode cJ14_fastRemove 37 = .ok (.dup_x1, 1) := dk_90 (dk_at dksJ14_fastRemove_1 13 rfl rfl)
theorem dJ14_fastRemove_38 : decode cJ14_fastRemove 38 = .ok (.putfield 48, 3) := dk_181 0 48 (dk_at dksJ14_fastRemove_1 14 rfl rfl)
theorem dJ14_fastRemove_41 : decode cJ14_fastRemove 41 = .ok (.aconst_null, 1) := dk_1 (dk_at dksJ14_fastRemove_1 17 rfl rfl)
theorem dJ14_fastRemove_42 : decode cJ14_fastRemove 42 = .ok (.aastore, 1) := dk_83 (dk_at dksJ14_fastRemove_1 18 rfl rfl)
theorem dJ14_fastRemove_43 : decode cJ14_fastRemove 43 = .ok (.return_, 1) := dk_177 (dk_at dksJ14_fastRemove_1 19 rfl rfl)
theorem q184 : (Jvm.Cond.initialized "java/util/ArrayList") ∈ lw_all := lw_g (lw_at lw_m1 24 rfl) rfl
theorem q521 : (Jvm.Cond.instantiable "java/util/ArrayList" (3 : Nat)) ∈ lw_all := lw_g (lw_at lw_m2 121 rfl) rfl
theorem q523 : (Jvm.Cond.instanceMethod ({ cls := "java/util/ArrayList", name := "<init>", desc := "()V" } : Jvm.MethodName)) ∈ lw_all := lw_g (lw_at lw_m2 123 rfl) rfl
theorem q524 : (Jvm.Cond.code ({ cls := "java/util/ArrayList", name := "<init>", desc := "()V" } : Jvm.MethodName) prog_53_method_2_code (1 : Nat) (Option.none : Option Jvm.ClassFile.FieldType)) ∈ lw_all := lw_g (lw_at lw_m2 124 rfl) rfl
theorem q525 : (Jvm.Cond.methodLink "java/util/ArrayList" (1 : Nat) ({ cls := "java/util/AbstractList", name := "<init>", desc := "()V" } : Jvm.MethodName)) ∈ lw_all := lw_g (lw_at lw_m2 125 rfl) rfl
theorem q532 : (Jvm.Cond.fieldLink "java/util/ArrayList" (39 : Nat) "java/util/ArrayList" "DEFAULTCAPACITY_EMPTY_ELEMENTDATA" "[Ljava/lang/Object;") ∈ lw_all := lw_g (lw_at lw_m2 132 rfl) rfl
theorem q533 : (Jvm.Cond.laysStatic "java/util/ArrayList" "DEFAULTCAPACITY_EMPTY_ELEMENTDATA" "[Ljava/lang/Object;") ∈ lw_tbl := lw_at lw_m2 133 rfl
theorem q534 : (Jvm.Cond.fieldLink "java/util/ArrayList" (9 : Nat) "java/util/ArrayList" "elementData" "[Ljava/lang/Object;") ∈ lw_all := lw_g (lw_at lw_m2 134 rfl) rfl
theorem q535 : (Jvm.Cond.fieldLink "java/util/ArrayList" (48 : Nat) "java/util/ArrayList" "size" "I") ∈ lw_all := lw_g (lw_at lw_m2 135 rfl) rfl
theorem q537 : (Jvm.Cond.fieldLink "java/util/ArrayList" (63 : Nat) "java/util/ArrayList" "modCount" "I") ∈ lw_all := lw_g (lw_at lw_m2 137 rfl) rfl
theorem q538 : (Jvm.Cond.sameField "java/util/ArrayList" "java/util/AbstractList" "modCount" "I") ∈ lw_all := lw_g (lw_at lw_m2 138 rfl) rfl
theorem q539 : (Jvm.Cond.lays "java/util/ArrayList" "java/util/ArrayList" "elementData" "[Ljava/lang/Object;") ∈ lw_all := lw_g (lw_at lw_m2 139 rfl) rfl
theorem q540 : (Jvm.Cond.soleField "java/util/ArrayList" "elementData") ∈ lw_all := lw_g (lw_at lw_m2 140 rfl) rfl
theorem q541 : (Jvm.Cond.lays "java/util/ArrayList" "java/util/ArrayList" "size" "I") ∈ lw_all := lw_g (lw_at lw_m2 141 rfl) rfl
theorem q542 : (Jvm.Cond.soleField "java/util/ArrayList" "size") ∈ lw_all := lw_g (lw_at lw_m2 142 rfl) rfl
theorem q543 : (Jvm.Cond.lays "java/util/ArrayList" "java/util/AbstractList" "modCount" "I") ∈ lw_all := lw_g (lw_at lw_m2 143 rfl) rfl
theorem q545 : (Jvm.Cond.superclass "java/util/ArrayList" "java/util/AbstractList") ∈ lw_all := lw_g (lw_at lw_m2 145 rfl) rfl
theorem q629 : (Jvm.Cond.instanceMethod ({ cls := "java/util/ArrayList", name := "add", desc := "(Ljava/lang/Object;)Z" } : Jvm.MethodName)) ∈ lw_all := lw_g (lw_at lw_m2 229 rfl) rfl
theorem q630 : (Jvm.Cond.selects "java/util/ArrayList" ({ cls := "java/util/ArrayList", name := "add", desc := "(Ljava/lang/Object;)Z" } : Jvm.MethodName) ({ cls := "java/util/ArrayList", name := "add", desc := "(Ljava/lang/Object;)Z" } : Jvm.MethodName)) ∈ lw_all := lw_g (lw_at lw_m2 230 rfl) rfl
theorem q631 : (Jvm.Cond.code ({ cls := "java/util/ArrayList", name := "add", desc := "(Ljava/lang/Object;)Z" } : Jvm.MethodName) prog_53_method_25_code (2 : Nat) (Option.some Jvm.ClassFile.FieldType.boolean)) ∈ lw_all := lw_g (lw_at lw_m2 231 rfl) rfl
theorem q632 : (Jvm.Cond.methodLink "java/util/ArrayList" (131 : Nat) ({ cls := "java/util/ArrayList", name := "add", desc := "(Ljava/lang/Object;[Ljava/lang/Object;I)V" } : Jvm.MethodName)) ∈ lw_all := lw_g (lw_at lw_m2 232 rfl) rfl
theorem q633 : (Jvm.Cond.privateMethod ({ cls := "java/util/ArrayList", name := "add", desc := "(Ljava/lang/Object;[Ljava/lang/Object;I)V" } : Jvm.MethodName)) ∈ lw_tbl := lw_at lw_m2 233 rfl
theorem q634 : (Jvm.Cond.instanceMethod ({ cls := "java/util/ArrayList", name := "add", desc := "(Ljava/lang/Object;[Ljava/lang/Object;I)V" } : Jvm.MethodName)) ∈ lw_all := lw_g (lw_at lw_m2 234 rfl) rfl
theorem q635 : (Jvm.Cond.code ({ cls := "java/util/ArrayList", name := "add", desc := "(Ljava/lang/Object;[Ljava/lang/Object;I)V" } : Jvm.MethodName) prog_53_method_24_code (4 : Nat) (Option.none : Option Jvm.ClassFile.FieldType)) ∈ lw_all := lw_g (lw_at lw_m2 235 rfl) rfl
theorem q636 : (Jvm.Cond.methodLink "java/util/ArrayList" (129 : Nat) ({ cls := "java/util/ArrayList", name := "grow", desc := "()[Ljava/lang/Object;" } : Jvm.MethodName)) ∈ lw_all := lw_g (lw_at lw_m2 236 rfl) rfl
theorem q637 : (Jvm.Cond.privateMethod ({ cls := "java/util/ArrayList", name := "grow", desc := "()[Ljava/lang/Object;" } : Jvm.MethodName)) ∈ lw_tbl := lw_at lw_m2 237 rfl
theorem q638 : (Jvm.Cond.instanceMethod ({ cls := "java/util/ArrayList", name := "grow", desc := "()[Ljava/lang/Object;" } : Jvm.MethodName)) ∈ lw_all := lw_g (lw_at lw_m2 238 rfl) rfl
theorem q639 : (Jvm.Cond.code ({ cls := "java/util/ArrayList", name := "grow", desc := "()[Ljava/lang/Object;" } : Jvm.MethodName) prog_53_method_7_code (1 : Nat) (Option.some (Jvm.ClassFile.FieldType.array (Jvm.ClassFile.FieldType.object "java/lang/Object")))) ∈ lw_all := lw_g (lw_at lw_m2 239 rfl) rfl
theorem q640 : (Jvm.Cond.methodLink "java/util/ArrayList" (69 : Nat) ({ cls := "java/util/ArrayList", name := "grow", desc := "(I)[Ljava/lang/Object;" } : Jvm.MethodName)) ∈ lw_all := lw_g (lw_at lw_m3 0 rfl) rfl
theorem q641 : (Jvm.Cond.privateMethod ({ cls := "java/util/ArrayList", name := "grow", desc := "(I)[Ljava/lang/Object;" } : Jvm.MethodName)) ∈ lw_tbl := lw_at lw_m3 1 rfl
theorem q642 : (Jvm.Cond.instanceMethod ({ cls := "java/util/ArrayList", name := "grow", desc := "(I)[Ljava/lang/Object;" } : Jvm.MethodName)) ∈ lw_all := lw_g (lw_at lw_m3 2 rfl) rfl
theorem q643 : (Jvm.Cond.code ({ cls := "java/util/ArrayList", name := "grow", desc := "(I)[Ljava/lang/Object;" } : Jvm.MethodName) prog_53_method_6_code (4 : Nat) (Option.some (Jvm.ClassFile.FieldType.array (Jvm.ClassFile.FieldType.object "java/lang/Object")))) ∈ lw_all := lw_g (lw_at lw_m3 3 rfl) rfl
theorem q644 : (Jvm.Cond.methodLink "java/util/ArrayList" (73 : Nat) ({ cls := "jdk/internal/util/ArraysSupport", name := "newLength", desc := "(III)I" } : Jvm.MethodName)) ∈ lw_all := lw_g (lw_at lw_m3 4 rfl) rfl
theorem q654 : (Jvm.Cond.methodLink "java/util/ArrayList" (66 : Nat) ({ cls := "java/util/Arrays", name := "copyOf", desc := "([Ljava/lang/Object;I)[Ljava/lang/Object;" } : Jvm.MethodName)) ∈ lw_all := lw_g (lw_at lw_m3 14 rfl) rfl
theorem q695 : (Jvm.Cond.selects "java/util/ArrayList" ({ cls := "java/lang/Object", name := "getClass", desc := "()Ljava/lang/Class;" } : Jvm.MethodName) ({ cls := "java/lang/Object", name := "getClass", desc := "()Ljava/lang/Class;" } : Jvm.MethodName)) ∈ lw_all := lw_g (lw_at lw_m3 55 rfl) rfl
theorem q707 : (Jvm.Cond.methodLink "java/util/ArrayList" (79 : Nat) ({ cls := "java/lang/Math", name := "max", desc := "(II)I" } : Jvm.MethodName)) ∈ lw_all := lw_g (lw_at lw_m3 67 rfl) rfl
theorem q708 : (Jvm.Cond.classLink "java/util/ArrayList" (7 : Nat) "java/lang/Object") ∈ lw_all := lw_g (lw_at lw_m3 68 rfl) rfl
theorem q714 : (Jvm.Cond.instanceMethod ({ cls := "java/util/ArrayList", name := "size", desc := "()I" } : Jvm.MethodName)) ∈ lw_all := lw_g (lw_at lw_m3 74 rfl) rfl
theorem q715 : (Jvm.Cond.selects "java/util/ArrayList" ({ cls := "java/util/ArrayList", name := "size", desc := "()I" } : Jvm.MethodName) ({ cls := "java/util/ArrayList", name := "size", desc := "()I" } : Jvm.MethodName)) ∈ lw_all := lw_g (lw_at lw_m3 75 rfl) rfl
theorem q716 : (Jvm.Cond.code ({ cls := "java/util/ArrayList", name := "size", desc := "()I" } : Jvm.MethodName) prog_53_method_8_code (1 : Nat) (Option.some Jvm.ClassFile.FieldType.int)) ∈ lw_all := lw_g (lw_at lw_m3 76 rfl) rfl
theorem q722 : (Jvm.Cond.instanceMethod ({ cls := "java/util/ArrayList", name := "get", desc := "(I)Ljava/lang/Object;" } : Jvm.MethodName)) ∈ lw_all := lw_g (lw_at lw_m3 82 rfl) rfl
theorem q723 : (Jvm.Cond.selects "java/util/ArrayList" ({ cls := "java/util/ArrayList", name := "get", desc := "(I)Ljava/lang/Object;" } : Jvm.MethodName) ({ cls := "java/util/ArrayList", name := "get", desc := "(I)Ljava/lang/Object;" } : Jvm.MethodName)) ∈ lw_all := lw_g (lw_at lw_m3 83 rfl) rfl
theorem q724 : (Jvm.Cond.code ({ cls := "java/util/ArrayList", name := "get", desc := "(I)Ljava/lang/Object;" } : Jvm.MethodName) prog_53_method_20_code (2 : Nat) (Option.some (Jvm.ClassFile.FieldType.object "java/lang/Object"))) ∈ lw_all := lw_g (lw_at lw_m3 84 rfl) rfl
theorem q725 : (Jvm.Cond.methodLink "java/util/ArrayList" (118 : Nat) ({ cls := "java/util/Objects", name := "checkIndex", desc := "(II)I" } : Jvm.MethodName)) ∈ lw_all := lw_g (lw_at lw_m3 85 rfl) rfl
theorem q731 : (Jvm.Cond.methodLink "java/util/ArrayList" (123 : Nat) ({ cls := "java/util/ArrayList", name := "elementData", desc := "(I)Ljava/lang/Object;" } : Jvm.MethodName)) ∈ lw_all := lw_g (lw_at lw_m3 91 rfl) rfl
theorem q732 : (Jvm.Cond.instanceMethod ({ cls := "java/util/ArrayList", name := "elementData", desc := "(I)Ljava/lang/Object;" } : Jvm.MethodName)) ∈ lw_all := lw_g (lw_at lw_m3 92 rfl) rfl
theorem q733 : (Jvm.Cond.selects "java/util/ArrayList" ({ cls := "java/util/ArrayList", name := "elementData", desc := "(I)Ljava/lang/Object;" } : Jvm.MethodName) ({ cls := "java/util/ArrayList", name := "elementData", desc := "(I)Ljava/lang/Object;" } : Jvm.MethodName)) ∈ lw_all := lw_g (lw_at lw_m3 93 rfl) rfl
theorem q734 : (Jvm.Cond.code ({ cls := "java/util/ArrayList", name := "elementData", desc := "(I)Ljava/lang/Object;" } : Jvm.MethodName) prog_53_method_18_code (2 : Nat) (Option.some (Jvm.ClassFile.FieldType.object "java/lang/Object"))) ∈ lw_all := lw_g (lw_at lw_m3 94 rfl) rfl
theorem q841 : (Jvm.Cond.instanceMethod ({ cls := "java/util/ArrayList", name := "remove", desc := "(I)Ljava/lang/Object;" } : Jvm.MethodName)) ∈ lw_all := lw_g (lw_at lw_m3 201 rfl) rfl
theorem q842 : (Jvm.Cond.selects "java/util/ArrayList" ({ cls := "java/util/ArrayList", name := "remove", desc := "(I)Ljava/lang/Object;" } : Jvm.MethodName) ({ cls := "java/util/ArrayList", name := "remove", desc := "(I)Ljava/lang/Object;" } : Jvm.MethodName)) ∈ lw_all := lw_g (lw_at lw_m3 202 rfl) rfl
theorem q843 : (Jvm.Cond.code ({ cls := "java/util/ArrayList", name := "remove", desc := "(I)Ljava/lang/Object;" } : Jvm.MethodName) prog_53_method_29_code (4 : Nat) (Option.some (Jvm.ClassFile.FieldType.object "java/lang/Object"))) ∈ lw_all := lw_g (lw_at lw_m3 203 rfl) rfl
theorem q844 : (Jvm.Cond.methodLink "java/util/ArrayList" (144 : Nat) ({ cls := "java/util/ArrayList", name := "fastRemove", desc := "([Ljava/lang/Object;I)V" } : Jvm.MethodName)) ∈ lw_all := lw_g (lw_at lw_m3 204 rfl) rfl
theorem q845 : (Jvm.Cond.privateMethod ({ cls := "java/util/ArrayList", name := "fastRemove", desc := "([Ljava/lang/Object;I)V" } : Jvm.MethodName)) ∈ lw_tbl := lw_at lw_m3 205 rfl
theorem q846 : (Jvm.Cond.instanceMethod ({ cls := "java/util/ArrayList", name := "fastRemove", desc := "([Ljava/lang/Object;I)V" } : Jvm.MethodName)) ∈ lw_all := lw_g (lw_at lw_m3 206 rfl) rfl
theorem q847 : (Jvm.Cond.code ({ cls := "java/util/ArrayList", name := "fastRemove", desc := "([Ljava/lang/Object;I)V" } : Jvm.MethodName) prog_53_method_39_code (4 : Nat) (Option.none : Option Jvm.ClassFile.FieldType)) ∈ lw_all := lw_g (lw_at lw_m3 207 rfl) rfl
theorem q848 : (Jvm.Cond.methodLink "java/util/ArrayList" (112 : Nat) ({ cls := "java/lang/System", name := "arraycopy", desc := "(Ljava/lang/Object;ILjava/lang/Object;II)V" } : Jvm.MethodName)) ∈ lw_all := lw_g (lw_at lw_m3 208 rfl) rfl
theorem q3106 : (Jvm.Cond.castable "java/util/ArrayList" "java/lang/Object") ∈ lw_tbl := lw_at lw_m13 66 rfl
theorem in_J14 : ∀ w ∈ wsJ140, w ∈ lw_all := lw_in wsJ140 [543, 539, 541] (by decide +kernel) (by decide +kernel)

/-! java/util/Objects -/
set_option maxRecDepth 100000
def RJ15 : String := "java/util/Objects"
abbrev cJ15_checkIndex : ByteArray := prog_57_method_17_code
def yJ15_checkIndex : MethodName := ⟨RJ15, "checkIndex", "(II)I"⟩
def dkwJ15_checkIndex_0 : List UInt8 := [26, 27, 1, 184, 0, 105, 172]
abbrev dktJ15_checkIndex_0 : List UInt8 := dkwJ15_checkIndex_0 ++ []
theorem dksJ15_checkIndex_0 : cJ15_checkIndex.data.toList.drop 0 = dktJ15_checkIndex_0 := by decide +kernel
theorem dJ15_checkIndex_0 : decode cJ15_checkIndex 0 = .ok (.iload_n 0, 1) := dk_26 (dk_at dksJ15_checkIndex_0 0 rfl rfl)
theorem dJ15_checkIndex_1 : decode cJ15_checkIndex 1 = .ok (.iload_n 1, 1) := dk_27 (dk_at dksJ15_checkIndex_0 1 rfl rfl)
theorem dJ15_checkIndex_2 : decode cJ15_checkIndex 2 = .ok (.aconst_null, 1) := dk_1 (dk_at dksJ15_checkIndex_0 2 rfl rfl)
theorem dJ15_checkIndex_3 : decode cJ15_checkIndex 3 = .ok (.invokestatic 105, 3) := dk_184 0 105 (dk_at dksJ15_checkIndex_0 3 rfl rfl)
theorem dJ15_checkIndex_6 : decode cJ15_checkIndex 6 = .ok (.ireturn, 1) := dk_172 (dk_at dksJ15_checkIndex_0 6 rfl rfl)
theorem q185 : (Jvm.Cond.initialized "java/util/Objects") ∈ lw_all := lw_g (lw_at lw_m1 25 rfl) rfl
theorem q726 : (Jvm.Cond.static ({ cls := "java/util/Objects", name := "checkIndex", desc := "(II)I" } : Jvm.MethodName)) ∈ lw_all := lw_g (lw_at lw_m3 86 rfl) rfl
theorem q727 : (Jvm.Cond.code ({ cls := "java/util/Objects", name := "checkIndex", desc := "(II)I" } : Jvm.MethodName) prog_57_method_17_code (2 : Nat) (Option.some Jvm.ClassFile.FieldType.int)) ∈ lw_all := lw_g (lw_at lw_m3 87 rfl) rfl
theorem q728 : (Jvm.Cond.methodLink "java/util/Objects" (105 : Nat) ({ cls := "jdk/internal/util/Preconditions", name := "checkIndex", desc := "(IILjava/util/function/BiFunction;)I" } : Jvm.MethodName)) ∈ lw_all := lw_g (lw_at lw_m3 88 rfl) rfl

/-! java/lang/Object -/
set_option maxRecDepth 100000
def RJ16 : String := "java/lang/Object"
abbrev cJ16_init : ByteArray := object_method_1_code
def yJ16_init : MethodName := ⟨RJ16, "<init>", "()V"⟩
theorem dJ16_init_0 : decode cJ16_init 0 = .ok (.return_, 1) := by decide +kernel
theorem q304 : (Jvm.Cond.instanceMethod ({ cls := "java/lang/Object", name := "<init>", desc := "()V" } : Jvm.MethodName)) ∈ lw_all := lw_g (lw_at lw_m1 144 rfl) rfl
theorem q305 : (Jvm.Cond.code ({ cls := "java/lang/Object", name := "<init>", desc := "()V" } : Jvm.MethodName) object_method_1_code (1 : Nat) (Option.none : Option Jvm.ClassFile.FieldType)) ∈ lw_all := lw_g (lw_at lw_m1 145 rfl) rfl
theorem q658 : (Jvm.Cond.instanceMethod ({ cls := "java/lang/Object", name := "getClass", desc := "()Ljava/lang/Class;" } : Jvm.MethodName)) ∈ lw_all := lw_g (lw_at lw_m3 18 rfl) rfl
theorem q659 : (Jvm.Cond.sameMethod "java/lang/Object" "java/lang/Object" "getClass" "()Ljava/lang/Class;") ∈ lw_all := lw_g (lw_at lw_m3 19 rfl) rfl
theorem q696 : (Jvm.Cond.native ({ cls := "java/lang/Object", name := "getClass", desc := "()Ljava/lang/Class;" } : Jvm.MethodName)) ∈ lw_all := lw_g (lw_at lw_m3 56 rfl) rfl
theorem q875 : (Jvm.Cond.native ({ cls := "java/lang/Object", name := "clone", desc := "()Ljava/lang/Object;" } : Jvm.MethodName)) ∈ lw_all := lw_g (lw_at lw_m3 235 rfl) rfl
theorem q876 : (Jvm.Cond.instanceMethod ({ cls := "java/lang/Object", name := "clone", desc := "()Ljava/lang/Object;" } : Jvm.MethodName)) ∈ lw_all := lw_g (lw_at lw_m3 236 rfl) rfl
theorem q3081 : (Jvm.Cond.initialized "java/lang/Object") ∈ lw_all := lw_g (lw_at lw_m13 41 rfl) rfl
theorem q3138 : (Jvm.Cond.declares ({ cls := "java/lang/Object", name := "getClass", desc := "()Ljava/lang/Class;" } : Jvm.MethodName)) ∈ lw_tbl := lw_at lw_m13 98 rfl

/-! java/lang/AbstractStringBuilder -/
set_option maxRecDepth 100000
def RJ2 : String := "java/lang/AbstractStringBuilder"
abbrev cJ2_init : ByteArray := prog_39_method_2_code
def yJ2_init : MethodName := ⟨RJ2, "<init>", "(I)V"⟩
def dkwJ2_init_1 : List UInt8 := [167, 0, 16, 42, 27, 184, 0, 26, 181, 0, 15, 42, 4, 181, 0, 22, 177]
abbrev dktJ2_init_1 : List UInt8 := dkwJ2_init_1 ++ []
def dkwJ2_init_0 : List UInt8 := [42, 183, 0, 3, 178, 0, 18, 153, 0, 18, 42, 27, 188, 8, 181, 0, 15, 42, 3, 181, 0, 22]
abbrev dktJ2_init_0 : List UInt8 := dkwJ2_init_0 ++ dktJ2_init_1
theorem dksJ2_init_0 : cJ2_init.data.toList.drop 0 = dktJ2_init_0 := by decide +kernel
theorem dksJ2_init_1 : cJ2_init.data.toList.drop 22 = dktJ2_init_1 := dk_seg dksJ2_init_0 22 rfl rfl
theorem dJ2_init_0 : decode cJ2_init 0 = .ok (.aload_n 0, 1) := dk_42 (dk_at dksJ2_init_0 0 rfl rfl)
theorem dJ2_init_1 : decode cJ2_init 1 = .ok (.invokespecial 3, 3) := dk_183 0 3 (dk_at dksJ2_init_0 1 rfl rfl)
theorem dJ2_init_4 : decode cJ2_init 4 = .ok (.getstatic 18, 3) := dk_178 0 18 (dk_at dksJ2_init_0 4 rfl rfl)
theorem dJ2_init_7 : decode cJ2_init 7 = .ok (.ifCond .eq 18, 3) := dk_153 0 18 (dk_at dksJ2_init_0 7 rfl rfl)
theorem dJ2_init_10 : decode cJ2_init 10 = .ok (.aload_n 0, 1) := dk_42 (dk_at dksJ2_init_0 10 rfl rfl)
theorem dJ2_init_11 : decode cJ2_init 11 = .ok (.iload_n 1, 1) := dk_27 (dk_at dksJ2_init_0 11 rfl rfl)
theorem dJ2_init_12 : decode cJ2_init 12 = .ok (.newarray .byte, 2) := dk_188_8 (dk_at dksJ2_init_0 12 rfl rfl)
theorem dJ2_init_14 : decode cJ2_init 14 = .ok (.putfield 15, 3) := dk_181 0 15 (dk_at dksJ2_init_0 14 rfl rfl)
theorem dJ2_init_17 : decode cJ2_init 17 = .ok (.aload_n 0, 1) := dk_42 (dk_at dksJ2_init_0 17 rfl rfl)
theorem dJ2_init_18 : decode cJ2_init 18 = .ok (.iconst 0, 1) := dk_3 (dk_at dksJ2_init_0 18 rfl rfl)
theorem dJ2_init_19 : decode cJ2_init 19 = .ok (.putfield 22, 3) := dk_181 0 22 (dk_at dksJ2_init_0 19 rfl rfl)
theorem dJ2_init_22 : decode cJ2_init 22 = .ok (.goto 16, 3) := dk_167 0 16 (dk_at dksJ2_init_1 0 rfl rfl)
theorem dJ2_init_25 : decode cJ2_init 25 = .ok (.aload_n 0, 1) := dk_42 (dk_at dksJ2_init_1 3 rfl rfl)
theorem dJ2_init_26 : decode cJ2_init 26 = .ok (.iload_n 1, 1) := dk_27 (dk_at dksJ2_init_1 4 rfl rfl)
theorem dJ2_init_27 : decode cJ2_init 27 = .ok (.invokestatic 26, 3) := dk_184 0 26 (dk_at dksJ2_init_1 5 rfl rfl)
theorem dJ2_init_30 : decode cJ2_init 30 = .ok (.putfield 15, 3) := dk_181 0 15 (dk_at dksJ2_init_1 8 rfl rfl)
theorem dJ2_init_33 : decode cJ2_init 33 = .ok (.aload_n 0, 1) := dk_42 (dk_at dksJ2_init_1 11 rfl rfl)
theorem dJ2_init_34 : decode cJ2_init 34 = .ok (.iconst 1, 1) := dk_4 (dk_at dksJ2_init_1 12 rfl rfl)
theorem dJ2_init_35 : decode cJ2_init 35 = .ok (.putfield 22, 3) := dk_181 0 22 (dk_at dksJ2_init_1 13 rfl rfl)
theorem dJ2_init_38 : decode cJ2_init 38 = .ok (.return_, 1) := dk_177 (dk_at dksJ2_init_1 16 rfl rfl)
abbrev cJ2_length : ByteArray := prog_39_method_6_code
def yJ2_length : MethodName := ⟨RJ2, "length", "()I"⟩
theorem dJ2_length_0 : decode cJ2_length 0 = .ok (.aload_n 0, 1) := by decide +kernel
theorem dJ2_length_1 : decode cJ2_length 1 = .ok (.getfield 79, 3) := by decide +kernel
theorem dJ2_length_4 : decode cJ2_length 4 = .ok (.ireturn, 1) := by decide +kernel
abbrev cJ2_append : ByteArray := prog_39_method_31_code
def yJ2_append : MethodName := ⟨RJ2, "append", "(C)Ljava/lang/AbstractStringBuilder;"⟩
def dkwJ2_append_3 : List UInt8 := [181, 0, 79, 27, 184, 0, 197, 42, 176]
abbrev dktJ2_append_3 : List UInt8 := dkwJ2_append_3 ++ []
def dkwJ2_append_2 : List UInt8 := [182, 0, 83, 153, 0, 7, 42, 182, 0, 195, 42, 180, 0, 15, 42, 89, 180, 0, 79, 90, 4, 96]
abbrev dktJ2_append_2 : List UInt8 := dkwJ2_append_2 ++ dktJ2_append_3
def dkwJ2_append_1 : List UInt8 := [42, 180, 0, 15, 42, 89, 180, 0, 79, 90, 4, 96, 181, 0, 79, 27, 145, 84, 167, 0, 33, 42]
abbrev dktJ2_append_1 : List UInt8 := dkwJ2_append_1 ++ dktJ2_append_2
def dkwJ2_append_0 : List UInt8 := [42, 42, 180, 0, 79, 4, 96, 182, 0, 100, 42, 182, 0, 83, 153, 0, 31, 27, 184, 0, 191, 153, 0, 24]
abbrev dktJ2_append_0 : List UInt8 := dkwJ2_append_0 ++ dktJ2_append_1
theorem dksJ2_append_0 : cJ2_append.data.toList.drop 0 = dktJ2_append_0 := by decide +kernel
theorem dksJ2_append_1 : cJ2_append.data.toList.drop 24 = dktJ2_append_1 := dk_seg dksJ2_append_0 24 rfl rfl
theorem dksJ2_append_2 : cJ2_append.data.toList.drop 46 = dktJ2_append_2 := dk_seg dksJ2_append_1 22 rfl rfl
theorem dksJ2_append_3 : cJ2_append.data.toList.drop 68 = dktJ2_append_3 := dk_seg dksJ2_append_2 22 rfl rfl
theorem dJ2_append_0 : decode cJ2_append 0 = .ok (.aload_n 0, 1) := dk_42 (dk_at dksJ2_append_0 0 rfl rfl)
theorem dJ2_append_1 : decode cJ2_append 1 = .ok (.aload_n 0, 1) := dk_42 (dk_at dksJ2_append_0 1 rfl rfl)
theorem dJ2_append_2 : decode cJ2_append 2 = .ok (.getfield 79, 3) := dk_180 0 79 (dk_at dksJ2_append_0 2 rfl rfl)
theorem dJ2_append_5 : decode cJ2_append 5 = .ok (.iconst 1, 1) := dk_4 (dk_at dksJ2_append_0 5 rfl rfl)
theorem dJ2_append_6 : decode cJ2_append 6 = .ok (.iadd, 1) := dk_96 (dk_at dksJ2_append_0 6 rfl rfl)
theorem dJ2_append_7 : decode cJ2_append 7 = .ok (.invokevirtual 100, 3) := dk_182 0 100 (dk_at dksJ2_append_0 7 rfl rfl)
theorem dJ2_append_10 : decode cJ2_append 10 = .ok (.aload_n 0, 1) := dk_42 (dk_at dksJ2_append_0 10 rfl rfl)
theorem dJ2_append_11 : decode cJ2_append 11 = .ok (.invokevirtual 83, 3) := dk_182 0 83 (dk_at dksJ2_append_0 11 rfl rfl)
theorem dJ2_append_14 : decode cJ2_append 14 = .ok (.ifCond .eq 31, 3) := dk_153 0 31 (dk_at dksJ2_append_0 14 rfl rfl)
theorem dJ2_append_17 : decode cJ2_append 17 = .ok (.iload_n 1, 1) := dk_27 (dk_at dksJ2_append_0 17 rfl rfl)
theorem dJ2_append_18 : decode cJ2_append 18 = .ok (.invokestatic 191, 3) := dk_184 0 191 (dk_at dksJ2_append_0 18 rfl rfl)
theorem dJ2_append_21 : decode cJ2_append 21 = .ok (.ifCond .eq 24, 3) := dk_153 0 24 (dk_at dksJ2_append_0 21 rfl rfl)
theorem dJ2_append_24 : decode cJ2_append 24 = .ok (.aload_n 0, 1) := dk_42 (dk_at dksJ2_append_1 0 rfl rfl)
theorem dJ2_append_25 : decode cJ2_append 25 = .ok (.getfield 15, 3) := dk_180 0 15 (dk_at dksJ2_append_1 1 rfl rfl)
theorem dJ2_append_28 : decode cJ2_append 28 = .ok (.aload_n 0, 1) := dk_42 (dk_at dksJ2_append_1 4 rfl rfl)
theorem dJ2_append_29 : decode cJ2_append 29 = .ok (.dup, 1) := dk_89 (dk_at dksJ2_append_1 5 rfl rfl)
theorem dJ2_append_30 : decode cJ2_append 30 = .ok (.getfield 79, 3) := dk_180 0 79 (dk_at dksJ2_append_1 6 rfl rfl)
theorem dJ2_append_33 : decode cJ2_append 33 = .ok (.dup_x1, 1) := dk_90 (dk_at dksJ2_append_1 9 rfl rfl)
theorem dJ2_append_34 : decode cJ2_append 34 = .ok (.iconst 1, 1) := dk_4 (dk_at dksJ2_append_1 10 rfl rfl)
theorem dJ2_append_35 : decode cJ2_append 35 = .ok (.iadd, 1) := dk_96 (dk_at dksJ2_append_1 11 rfl rfl)
theorem dJ2_append_36 : decode cJ2_append 36 = .ok (.putfield 79, 3) := dk_181 0 79 (dk_at dksJ2_append_1 12 rfl rfl)
theorem dJ2_append_39 : decode cJ2_append 39 = .ok (.iload_n 1, 1) := dk_27 (dk_at dksJ2_append_1 15 rfl rfl)
theorem dJ2_append_40 : decode cJ2_append 40 = .ok (.i2b, 1) := dk_145 (dk_at dksJ2_append_1 16 rfl rfl)
theorem dJ2_append_41 : decode cJ2_append 41 = .ok (.bastore, 1) := dk_84 (dk_at dksJ2_append_1 17 rfl rfl)
theorem dJ2_append_42 : decode cJ2_append 42 = .ok (.goto 33, 3) := dk_167 0 33 (dk_at dksJ2_append_1 18 rfl rfl)
theorem dJ2_append_45 : decode cJ2_append 45 = .ok (.aload_n 0, 1) := dk_42 (dk_at dksJ2_append_1 21 rfl rfl)
theorem dJ2_append_46 : decode cJ2_append 46 = .ok (.invokevirtual 83, 3) := dk_182 0 83 (dk_at dksJ2_append_2 0 rfl rfl)
theorem dJ2_append_49 : decode cJ2_append 49 = .ok (.ifCond .eq 7, 3) := dk_153 0 7 (dk_at dksJ2_append_2 3 rfl rfl)
theorem dJ2_append_52 : decode cJ2_append 52 = .ok (.aload_n 0, 1) := dk_42 (dk_at dksJ2_append_2 6 rfl rfl)
theorem dJ2_append_53 : decode cJ2_append 53 = .ok (.invokevirtual 195, 3) := dk_182 0 195 (dk_at dksJ2_append_2 7 rfl rfl)
theorem dJ2_append_56 : decode cJ2_append 56 = .ok (.aload_n 0, 1) := dk_42 (dk_at dksJ2_append_2 10 rfl rfl)
theorem dJ2_append_57 : decode cJ2_append 57 = .ok (.getfield 15, 3) := dk_180 0 15 (dk_at dksJ2_append_2 11 rfl rfl)
theorem dJ2_append_60 : decode cJ2_append 60 = .ok (.aload_n 0, 1) := dk_42 (dk_at dksJ2_append_2 14 rfl rfl)
theorem dJ2_append_61 : decode cJ2_append 61 = .ok (.dup, 1) := dk_89 (dk_at dksJ2_append_2 15 rfl rfl)
theorem dJ2_append_62 : decode cJ2_append 62 = .ok (.getfield 79, 3) := dk_180 0 79 (dk_at dksJ2_append_2 16 rfl rfl)
theorem dJ2_append_65 : decode cJ2_append 65 = .ok (.dup_x1, 1) := dk_90 (dk_at dksJ2_append_2 19 rfl rfl)
theorem dJ2_append_66 : decode cJ2_append 66 = .ok (.iconst 1, 1) := dk_4 (dk_at dksJ2_append_2 20 rfl rfl)
theorem dJ2_append_67 : decode cJ2_append 67 = .ok (.iadd, 1) := dk_96 (dk_at dksJ2_append_2 21 rfl rfl)
theorem dJ2_append_68 : decode cJ2_append 68 = .ok (.putfield 79, 3) := dk_181 0 79 (dk_at dksJ2_append_3 0 rfl rfl)
theorem dJ2_append_71 : decode cJ2_append 71 = .ok (.iload_n 1, 1) := dk_27 (dk_at dksJ2_append_3 3 rfl rfl)
theorem dJ2_append_72 : decode cJ2_append 72 = .ok (.invokestatic 197, 3) := dk_184 0 197 (dk_at dksJ2_append_3 4 rfl rfl)
theorem dJ2_append_75 : decode cJ2_append 75 = .ok (.aload_n 0, 1) := dk_42 (dk_at dksJ2_append_3 7 rfl rfl)
theorem dJ2_append_76 : decode cJ2_append 76 = .ok (.areturn, 1) := dk_176 (dk_at dksJ2_append_3 8 rfl rfl)
abbrev cJ2_ensureCapacityInternal : ByteArray := prog_39_method_9_code
def yJ2_ensureCapacityInternal : MethodName := ⟨RJ2, "ensureCapacityInternal", "(I)V"⟩
def dkwJ2_ensureCapacityInternal_1 : List UInt8 := [182, 0, 104, 42, 180, 0, 22, 120, 184, 0, 108, 181, 0, 15, 177]
abbrev dktJ2_ensureCapacityInternal_1 : List UInt8 := dkwJ2_ensureCapacityInternal_1 ++ []
def dkwJ2_ensureCapacityInternal_0 : List UInt8 := [42, 180, 0, 15, 190, 42, 180, 0, 22, 122, 61, 27, 28, 100, 158, 0, 24, 42, 42, 180, 0, 15, 42, 27]
abbrev dktJ2_ensureCapacityInternal_0 : List UInt8 := dkwJ2_ensureCapacityInternal_0 ++ dktJ2_ensureCapacityInternal_1
theorem dksJ2_ensureCapacityInternal_0 : cJ2_ensureCapacityInternal.data.toList.drop 0 = dktJ2_ensureCapacityInternal_0 := by decide +kernel
theorem dksJ2_ensureCapacityInternal_1 : cJ2_ensureCapacityInternal.data.toList.drop 24 = dktJ2_ensureCapacityInternal_1 := dk_seg dksJ2_ensureCapacityInternal_0 24 rfl rfl
theorem dJ2_ensureCapacityInternal_0 : decode cJ2_ensureCapacityInternal 0 = .ok (.aload_n 0, 1) := dk_42 (dk_at dksJ2_ensureCapacityInternal_0 0 rfl rfl)
theorem dJ2_ensureCapacityInternal_1 : decode cJ2_ensureCapacityInternal 1 = .ok (.getfield 15, 3) := dk_180 0 15 (dk_at dksJ2_ensureCapacityInternal_0 1 rfl rfl)
theorem dJ2_ensureCapacityInternal_4 : decode cJ2_ensureCapacityInternal 4 = .ok (.arraylength, 1) := dk_190 (dk_at dksJ2_ensureCapacityInternal_0 4 rfl rfl)
theorem dJ2_ensureCapacityInternal_5 : decode cJ2_ensureCapacityInternal 5 = .ok (.aload_n 0, 1) := dk_42 (dk_at dksJ2_ensureCapacityInternal_0 5 rfl rfl)
theorem dJ2_ensureCapacityInternal_6 : decode cJ2_ensureCapacityInternal 6 = .ok (.getfield 22, 3) := dk_180 0 22 (dk_at dksJ2_ensureCapacityInternal_0 6 rfl rfl)
theorem dJ2_ensureCapacityInternal_9 : decode cJ2_ensureCapacityInternal 9 = .ok (.ishr, 1) := dk_122 (dk_at dksJ2_ensureCapacityInternal_0 9 rfl rfl)
theorem dJ2_ensureCapacityInternal_10 : decode cJ2_ensureCapacityInternal 10 = .ok (.istore_n 2, 1) := dk_61 (dk_at dksJ2_ensureCapacityInternal_0 10 rfl rfl)
theorem dJ2_ensureCapacityInternal_11 : decode cJ2_ensureCapacityInternal 11 = .ok (.iload_n 1, 1) := dk_27 (dk_at dksJ2_ensureCapacityInternal_0 11 rfl rfl)
theorem dJ2_ensureCapacityInternal_12 : decode cJ2_ensureCapacityInternal 12 = .ok (.iload_n 2, 1) := dk_28 (dk_at dksJ2_ensureCapacityInternal_0 12 rfl rfl)
theorem dJ2_ensureCapacityInternal_13 : decode cJ2_ensureCapacityInternal 13 = .ok (.isub, 1) := dk_100 (dk_at dksJ2_ensureCapacityInternal_0 13 rfl rfl)
theorem dJ2_ensureCapacityInternal_14 : decode cJ2_ensureCapacityInternal 14 = .ok (.ifCond .le 24, 3) := dk_158 0 24 (dk_at dksJ2_ensureCapacityInternal_0 14 rfl rfl)
theorem dJ2_ensureCapacityInternal_17 : decode cJ2_ensureCapacityInternal 17 = .ok (.aload_n 0, 1) := dk_42 (dk_at dksJ2_ensureCapacityInternal_0 17 rfl rfl)
theorem dJ2_ensureCapacityInternal_18 : decode cJ2_ensureCapacityInternal 18 = .ok (.aload_n 0, 1) := dk_42 (dk_at dksJ2_ensureCapacityInternal_0 18 rfl rfl)
theorem dJ2_ensureCapacityInternal_19 : decode cJ2_ensureCapacityInternal 19 = .ok (.getfield 15, 3) := dk_180 0 15 (dk_at dksJ2_ensureCapacityInternal_0 19 rfl rfl)
theorem dJ2_ensureCapacityInternal_22 : decode cJ2_ensureCapacityInternal 22 = .ok (.aload_n 0, 1) := dk_42 (dk_at dksJ2_ensureCapacityInternal_0 22 rfl rfl)
theorem dJ2_ensureCapacityInternal_23 : decode cJ2_ensureCapacityInternal 23 = .ok (.iload_n 1, 1) := dk_27 (dk_at dksJ2_ensureCapacityInternal_0 23 rfl rfl)
theorem dJ2_ensureCapacityInternal_24 : decode cJ2_ensureCapacityInternal 24 = .ok (.invokevirtual 104, 3) := dk_182 0 104 (dk_at dksJ2_ensureCapacityInternal_1 0 rfl rfl)
theorem dJ2_ensureCapacityInternal_27 : decode cJ2_ensureCapacityInternal 27 = .ok (.aload_n 0, 1) := dk_42 (dk_at dksJ2_ensureCapacityInternal_1 3 rfl rfl)
theorem dJ2_ensureCapacityInternal_28 : decode cJ2_ensureCapacityInternal 28 = .ok (.getfield 22, 3) := dk_180 0 22 (dk_at dksJ2_ensureCapacityInternal_1 4 rfl rfl)
theorem dJ2_ensureCapacityInternal_31 : decode cJ2_ensureCapacityInternal 31 = .ok (.ishl, 1) := dk_120 (dk_at dksJ2_ensureCapacityInternal_1 7 rfl rfl)
theorem dJ2_ensureCapacityInternal_32 : decode cJ2_ensureCapacityInternal 32 = .ok (.invokestatic 108, 3) := dk_184 0 108 (dk_at dksJ2_ensureCapacityInternal_1 8 rfl rfl)
theorem dJ2_ensureCapacityInternal_35 : decode cJ2_ensureCapacityInternal 35 = .ok (.putfield 15, 3) := dk_181 0 15 (dk_at dksJ2_ensureCapacityInternal_1 11 rfl rfl)
theorem dJ2_ensureCapacityInternal_38 : decode cJ2_ensureCapacityInternal 38 = .ok (.return_, 1) := dk_177 (dk_at dksJ2_ensureCapacityInternal_1 14 rfl rfl)
abbrev cJ2_newCapacity : ByteArray := prog_39_method_10_code
def yJ2_newCapacity : MethodName := ⟨RJ2, "newCapacity", "(I)I"⟩
def dkwJ2_newCapacity_2 : List UInt8 := [183, 0, 124, 191, 21, 5, 42, 180, 0, 22, 122, 172]
abbrev dktJ2_newCapacity_2 : List UInt8 := dkwJ2_newCapacity_2 ++ []
def dkwJ2_newCapacity_1 : List UInt8 := [180, 0, 22, 120, 96, 184, 0, 114, 54, 5, 21, 5, 18, 39, 160, 0, 13, 187, 0, 120, 89, 18, 122]
abbrev dktJ2_newCapacity_1 : List UInt8 := dkwJ2_newCapacity_1 ++ dktJ2_newCapacity_2
def dkwJ2_newCapacity_0 : List UInt8 := [42, 180, 0, 15, 190, 61, 27, 42, 180, 0, 22, 120, 62, 29, 28, 100, 54, 4, 28, 21, 4, 28, 5, 42]
abbrev dktJ2_newCapacity_0 : List UInt8 := dkwJ2_newCapacity_0 ++ dktJ2_newCapacity_1
theorem dksJ2_newCapacity_0 : cJ2_newCapacity.data.toList.drop 0 = dktJ2_newCapacity_0 := by decide +kernel
theorem dksJ2_newCapacity_1 : cJ2_newCapacity.data.toList.drop 24 = dktJ2_newCapacity_1 := dk_seg dksJ2_newCapacity_0 24 rfl rfl
theorem dksJ2_newCapacity_2 : cJ2_newCapacity.data.toList.drop 47 = dktJ2_newCapacity_2 := dk_seg dksJ2_newCapacity_1 23 rfl rfl
theorem dJ2_newCapacity_0 : decode cJ2_newCapacity 0 = .ok (.aload_n 0, 1) := dk_42 (dk_at dksJ2_newCapacity_0 0 rfl rfl)
theorem dJ2_newCapacity_1 : decode cJ2_newCapacity 1 = .ok (.getfield 15, 3) := dk_180 0 15 (dk_at dksJ2_newCapacity_0 1 rfl rfl)
theorem dJ2_newCapacity_4 : decode cJ2_newCapacity 4 = .ok (.arraylength, 1) := dk_190 (dk_at dksJ2_newCapacity_0 4 rfl rfl)
theorem dJ2_newCapacity_5 : decode cJ2_newCapacity 5 = .ok (.istore_n 2, 1) := dk_61 (dk_at dksJ2_newCapacity_0 5 rfl rfl)
theorem dJ2_newCapacity_6 : decode cJ2_newCapacity 6 = .ok (.iload_n 1, 1) := dk_27 (dk_at dksJ2_newCapacity_0 6 rfl rfl)
theorem dJ2_newCapacity_7 : decode cJ2_newCapacity 7 = .ok (.aload_n 0, 1) := dk_42 (dk_at dksJ2_newCapacity_0 7 rfl rfl)
theorem dJ2_newCapacity_8 : decode cJ2_newCapacity 8 = .ok (.getfield 22, 3) := dk_180 0 22 (dk_at dksJ2_newCapacity_0 8 rfl rfl)
theorem dJ2_newCapacity_11 : decode cJ2_newCapacity 11 = .ok (.ishl, 1) := dk_120 (dk_at dksJ2_newCapacity_0 11 rfl rfl)
theorem dJ2_newCapacity_12 : decode cJ2_newCapacity 12 = .ok (.istore_n 3, 1) := dk_62 (dk_at dksJ2_newCapacity_0 12 rfl rfl)
theorem dJ2_newCapacity_13 : decode cJ2_newCapacity 13 = .ok (.iload_n 3, 1) := dk_29 (dk_at dksJ2_newCapacity_0 13 rfl rfl)
theorem dJ2_newCapacity_14 : decode cJ2_newCapacity 14 = .ok (.iload_n 2, 1) := dk_28 (dk_at dksJ2_newCapacity_0 14 rfl rfl)
theorem dJ2_newCapacity_15 : decode cJ2_newCapacity 15 = .ok (.isub, 1) := dk_100 (dk_at dksJ2_newCapacity_0 15 rfl rfl)
theorem dJ2_newCapacity_16 : decode cJ2_newCapacity 16 = .ok (.istore 4, 2) := dk_54 4 (dk_at dksJ2_newCapacity_0 16 rfl rfl)
theorem dJ2_newCapacity_18 : decode cJ2_newCapacity 18 = .ok (.iload_n 2, 1) := dk_28 (dk_at dksJ2_newCapacity_0 18 rfl rfl)
theorem dJ2_newCapacity_19 : decode cJ2_newCapacity 19 = .ok (.iload 4, 2) := dk_21 4 (dk_at dksJ2_newCapacity_0 19 rfl rfl)
theorem dJ2_newCapacity_21 : decode cJ2_newCapacity 21 = .ok (.iload_n 2, 1) := dk_28 (dk_at dksJ2_newCapacity_0 21 rfl rfl)
theorem dJ2_newCapacity_22 : decode cJ2_newCapacity 22 = .ok (.iconst 2, 1) := dk_5 (dk_at dksJ2_newCapacity_0 22 rfl rfl)
theorem dJ2_newCapacity_23 : decode cJ2_newCapacity 23 = .ok (.aload_n 0, 1) := dk_42 (dk_at dksJ2_newCapacity_0 23 rfl rfl)
theorem dJ2_newCapacity_24 : decode cJ2_newCapacity 24 = .ok (.getfield 22, 3) := dk_180 0 22 (dk_at dksJ2_newCapacity_1 0 rfl rfl)
theorem dJ2_newCapacity_27 : decode cJ2_newCapacity 27 = .ok (.ishl, 1) := dk_120 (dk_at dksJ2_newCapacity_1 3 rfl rfl)
theorem dJ2_newCapacity_28 : decode cJ2_newCapacity 28 = .ok (.iadd, 1) := dk_96 (dk_at dksJ2_newCapacity_1 4 rfl rfl)
theorem dJ2_newCapacity_29 : decode cJ2_newCapacity 29 = .ok (.invokestatic 114, 3) := dk_184 0 114 (dk_at dksJ2_newCapacity_1 5 rfl rfl)
theorem dJ2_newCapacity_32 : decode cJ2_newCapacity 32 = .ok (.istore 5, 2) := dk_54 5 (dk_at dksJ2_newCapacity_1 8 rfl rfl)
theorem dJ2_newCapacity_34 : decode cJ2_newCapacity 34 = .ok (.iload 5, 2) := dk_21 5 (dk_at dksJ2_newCapacity_1 10 rfl rfl)
theorem dJ2_newCapacity_36 : decode cJ2_newCapacity 36 = .ok (.ldc 39, 2) := dk_18 39 (dk_at dksJ2_newCapacity_1 12 rfl rfl)
theorem dJ2_newCapacity_38 : decode cJ2_newCapacity 38 = .ok (.if_icmp .ne 13, 3) := dk_160 0 13 (dk_at dksJ2_newCapacity_1 14 rfl rfl)
theorem dJ2_newCapacity_41 : decode cJ2_newCapacity 41 = .ok (.new 120, 3) := dk_187 0 120 (dk_at dksJ2_newCapacity_1 17 rfl rfl)
theorem dJ2_newCapacity_44 : decode cJ2_newCapacity 44 = .ok (.dup, 1) := dk_89 (dk_at dksJ2_newCapacity_1 20 rfl rfl)
theorem dJ2_newCapacity_45 : decode cJ2_newCapacity 45 = .ok (.ldc 122, 2) := dk_18 122 (dk_at dksJ2_newCapacity_1 21 rfl rfl)
theorem dJ2_newCapacity_47 : decode cJ2_newCapacity 47 = .ok (.invokespecial 124, 3) := dk_183 0 124 (dk_at dksJ2_newCapacity_2 0 rfl rfl)
theorem dJ2_newCapacity_50 : decode cJ2_newCapacity 50 = .ok (.athrow, 1) := dk_191 (dk_at dksJ2_newCapacity_2 3 rfl rfl)
theorem dJ2_newCapacity_51 : decode cJ2_newCapacity 51 = .ok (.iload 5, 2) := dk_21 5 (dk_at dksJ2_newCapacity_2 4 rfl rfl)
theorem dJ2_newCapacity_53 : decode cJ2_newCapacity 53 = .ok (.aload_n 0, 1) := dk_42 (dk_at dksJ2_newCapacity_2 6 rfl rfl)
theorem dJ2_newCapacity_54 : decode cJ2_newCapacity 54 = .ok (.getfield 22, 3) := dk_180 0 22 (dk_at dksJ2_newCapacity_2 7 rfl rfl)
theorem dJ2_newCapacity_57 : decode cJ2_newCapacity 57 = .ok (.ishr, 1) := dk_122 (dk_at dksJ2_newCapacity_2 10 rfl rfl)
theorem dJ2_newCapacity_58 : decode cJ2_newCapacity 58 = .ok (.ireturn, 1) := dk_172 (dk_at dksJ2_newCapacity_2 11 rfl rfl)
abbrev cJ2_isLatin1 : ByteArray := prog_39_method_68_code
def yJ2_isLatin1 : MethodName := ⟨RJ2, "isLatin1", "()Z"⟩
def dkwJ2_isLatin1_0 : List UInt8 := [178, 0, 18, 153, 0, 14, 42, 180, 0, 22, 154, 0, 7, 4, 167, 0, 4, 3, 172]
abbrev dktJ2_isLatin1_0 : List UInt8 := dkwJ2_isLatin1_0 ++ []
theorem dksJ2_isLatin1_0 : cJ2_isLatin1.data.toList.drop 0 = dktJ2_isLatin1_0 := by decide +kernel
theorem dJ2_isLatin1_0 : decode cJ2_isLatin1 0 = .ok (.getstatic 18, 3) := dk_178 0 18 (dk_at dksJ2_isLatin1_0 0 rfl rfl)
theorem dJ2_isLatin1_3 : decode cJ2_isLatin1 3 = .ok (.ifCond .eq 14, 3) := dk_153 0 14 (dk_at dksJ2_isLatin1_0 3 rfl rfl)
theorem dJ2_isLatin1_6 : decode cJ2_isLatin1 6 = .ok (.aload_n 0, 1) := dk_42 (dk_at dksJ2_isLatin1_0 6 rfl rfl)
theorem dJ2_isLatin1_7 : decode cJ2_isLatin1 7 = .ok (.getfield 22, 3) := dk_180 0 22 (dk_at dksJ2_isLatin1_0 7 rfl rfl)
theorem dJ2_isLatin1_10 : decode cJ2_isLatin1 10 = .ok (.ifCond .ne 7, 3) := dk_154 0 7 (dk_at dksJ2_isLatin1_0 10 rfl rfl)
theorem dJ2_isLatin1_13 : decode cJ2_isLatin1 13 = .ok (.iconst 1, 1) := dk_4 (dk_at dksJ2_isLatin1_0 13 rfl rfl)
theorem dJ2_isLatin1_14 : decode cJ2_isLatin1 14 = .ok (.goto 4, 3) := dk_167 0 4 (dk_at dksJ2_isLatin1_0 14 rfl rfl)
theorem dJ2_isLatin1_17 : decode cJ2_isLatin1 17 = .ok (.iconst 0, 1) := dk_3 (dk_at dksJ2_isLatin1_0 17 rfl rfl)
theorem dJ2_isLatin1_18 : decode cJ2_isLatin1 18 = .ok (.ireturn, 1) := dk_172 (dk_at dksJ2_isLatin1_0 18 rfl rfl)
abbrev cJ2_inflate : ByteArray := prog_39_method_11_code
def yJ2_inflate : MethodName := ⟨RJ2, "inflate", "()V"⟩
def dkwJ2_inflate_1 : List UInt8 := [42, 180, 0, 79, 184, 0, 125, 42, 43, 181, 0, 15, 42, 4, 181, 0, 22, 177]
abbrev dktJ2_inflate_1 : List UInt8 := dkwJ2_inflate_1 ++ []
def dkwJ2_inflate_0 : List UInt8 := [42, 182, 0, 83, 154, 0, 4, 177, 42, 180, 0, 15, 190, 184, 0, 26, 76, 42, 180, 0, 15, 3, 43, 3]
abbrev dktJ2_inflate_0 : List UInt8 := dkwJ2_inflate_0 ++ dktJ2_inflate_1
theorem dksJ2_inflate_0 : cJ2_inflate.data.toList.drop 0 = dktJ2_inflate_0 := by decide +kernel
theorem dksJ2_inflate_1 : cJ2_inflate.data.toList.drop 24 = dktJ2_inflate_1 := dk_seg dksJ2_inflate_0 24 rfl rfl
theorem dJ2_inflate_0 : decode cJ2_inflate 0 = .ok (.aload_n 0, 1) := dk_42 (dk_at dksJ2_inflate_0 0 rfl rfl)
theorem dJ2_inflate_1 : decode cJ2_inflate 1 = .ok (.invokevirtual 83, 3) := dk_182 0 83 (dk_at dksJ2_inflate_0 1 rfl rfl)
theorem dJ2_inflate_4 : decode cJ2_inflate 4 = .ok (.ifCond .ne 4, 3) := dk_154 0 4 (dk_at dksJ2_inflate_0 4 rfl rfl)
theorem dJ2_inflate_7 : decode cJ2_inflate 7 = .ok (.return_, 1) := dk_177 (dk_at dksJ2_inflate_0 7 rfl rfl)
theorem dJ2_inflate_8 : decode cJ2_inflate 8 = .ok (.aload_n 0, 1) := dk_42 (dk_at dksJ2_inflate_0 8 rfl rfl)
theorem dJ2_inflate_9 : decode cJ2_inflate 9 = .ok (.getfield 15, 3) := dk_180 0 15 (dk_at dksJ2_inflate_0 9 rfl rfl)
theorem dJ2_inflate_12 : decode cJ2_inflate 12 = .ok (.arraylength, 1) := dk_190 (dk_at dksJ2_inflate_0 12 rfl rfl)
theorem dJ2_inflate_13 : decode cJ2_inflate 13 = .ok (.invokestatic 26, 3) := dk_184 0 26 (dk_at dksJ2_inflate_0 13 rfl rfl)
theorem dJ2_inflate_16 : decode cJ2_inflate 16 = .ok (.astore_n 1, 1) := dk_76 (dk_at dksJ2_inflate_0 16 rfl rfl)
theorem dJ2_inflate_17 : decode cJ2_inflate 17 = .ok (.aload_n 0, 1) := dk_42 (dk_at dksJ2_inflate_0 17 rfl rfl)
theorem dJ2_inflate_18 : decode cJ2_inflate 18 = .ok (.getfield 15, 3) := dk_180 0 15 (dk_at dksJ2_inflate_0 18 rfl rfl)
theorem dJ2_inflate_21 : decode cJ2_inflate 21 = .ok (.iconst 0, 1) := dk_3 (dk_at dksJ2_inflate_0 21 rfl rfl)
theorem dJ2_inflate_22 : decode cJ2_inflate 22 = .ok (.aload_n 1, 1) := dk_43 (dk_at dksJ2_inflate_0 22 rfl rfl)
theorem dJ2_inflate_23 : decode cJ2_inflate 23 = .ok (.iconst 0, 1) := dk_3 (dk_at dksJ2_inflate_0 23 rfl rfl)
theorem dJ2_inflate_24 : decode cJ2_inflate 24 = .ok (.aload_n 0, 1) := dk_42 (dk_at dksJ2_inflate_1 0 rfl rfl)
theorem dJ2_inflate_25 : decode cJ2_inflate 25 = .ok (.getfield 79, 3) := dk_180 0 79 (dk_at dksJ2_inflate_1 1 rfl rfl)
theorem dJ2_inflate_28 : decode cJ2_inflate 28 = .ok (.invokestatic 125, 3) := dk_184 0 125 (dk_at dksJ2_inflate_1 4 rfl rfl)
theorem dJ2_inflate_31 : decode cJ2_inflate 31 = .ok (.aload_n 0, 1) := dk_42 (dk_at dksJ2_inflate_1 7 rfl rfl)
theorem dJ2_inflate_32 : decode cJ2_inflate 32 = .ok (.aload_n 1, 1) := dk_43 (dk_at dksJ2_inflate_1 8 rfl rfl)
theorem dJ2_inflate_33 : decode cJ2_inflate 33 = .ok (.putfield 15, 3) := dk_181 0 15 (dk_at dksJ2_inflate_1 9 rfl rfl)
theorem dJ2_inflate_36 : decode cJ2_inflate 36 = .ok (.aload_n 0, 1) := dk_42 (dk_at dksJ2_inflate_1 12 rfl rfl)
theorem dJ2_inflate_37 : decode cJ2_inflate 37 = .ok (.iconst 1, 1) := dk_4 (dk_at dksJ2_inflate_1 13 rfl rfl)
theorem dJ2_inflate_38 : decode cJ2_inflate 38 = .ok (.putfield 22, 3) := dk_181 0 22 (dk_at dksJ2_inflate_1 14 rfl rfl)
theorem dJ2_inflate_41 : decode cJ2_inflate 41 = .ok (.return_, 1) := dk_177 (dk_at dksJ2_inflate_1 17 rfl rfl)
abbrev cJ2_getValue : ByteArray := prog_39_method_64_code
def yJ2_getValue : MethodName := ⟨RJ2, "getValue", "()[B"⟩
theorem dJ2_getValue_0 : decode cJ2_getValue 0 = .ok (.aload_n 0, 1) := by decide +kernel
theorem dJ2_getValue_1 : decode cJ2_getValue 1 = .ok (.getfield 15, 3) := by decide +kernel
theorem dJ2_getValue_4 : decode cJ2_getValue 4 = .ok (.areturn, 1) := by decide +kernel
theorem q170 : (Jvm.Cond.initialized "java/lang/AbstractStringBuilder") ∈ lw_all := lw_g (lw_at lw_m1 10 rfl) rfl
theorem q1418 : (Jvm.Cond.instanceMethod ({ cls := "java/lang/AbstractStringBuilder", name := "<init>", desc := "(I)V" } : Jvm.MethodName)) ∈ lw_all := lw_g (lw_at lw_m6 58 rfl) rfl
theorem q1419 : (Jvm.Cond.code ({ cls := "java/lang/AbstractStringBuilder", name := "<init>", desc := "(I)V" } : Jvm.MethodName) prog_39_method_2_code (2 : Nat) (Option.none : Option Jvm.ClassFile.FieldType)) ∈ lw_all := lw_g (lw_at lw_m6 59 rfl) rfl
theorem q1420 : (Jvm.Cond.methodLink "java/lang/AbstractStringBuilder" (3 : Nat) ({ cls := "java/lang/Object", name := "<init>", desc := "()V" } : Jvm.MethodName)) ∈ lw_all := lw_g (lw_at lw_m6 60 rfl) rfl
theorem q1421 : (Jvm.Cond.fieldLink "java/lang/AbstractStringBuilder" (18 : Nat) "java/lang/String" "COMPACT_STRINGS" "Z") ∈ lw_all := lw_g (lw_at lw_m6 61 rfl) rfl
theorem q1423 : (Jvm.Cond.methodLink "java/lang/AbstractStringBuilder" (26 : Nat) ({ cls := "java/lang/StringUTF16", name := "newBytesFor", desc := "(I)[B" } : Jvm.MethodName)) ∈ lw_all := lw_g (lw_at lw_m6 63 rfl) rfl
theorem q1430 : (Jvm.Cond.fieldLink "java/lang/AbstractStringBuilder" (15 : Nat) "java/lang/AbstractStringBuilder" "value" "[B") ∈ lw_all := lw_g (lw_at lw_m6 70 rfl) rfl
theorem q1431 : (Jvm.Cond.fieldLink "java/lang/AbstractStringBuilder" (22 : Nat) "java/lang/AbstractStringBuilder" "coder" "B") ∈ lw_all := lw_g (lw_at lw_m6 71 rfl) rfl
theorem q1433 : (Jvm.Cond.fieldLink "java/lang/AbstractStringBuilder" (79 : Nat) "java/lang/AbstractStringBuilder" "count" "I") ∈ lw_all := lw_g (lw_at lw_m6 73 rfl) rfl
theorem q1435 : (Jvm.Cond.soleField "java/lang/AbstractStringBuilder" "value") ∈ lw_all := lw_g (lw_at lw_m6 75 rfl) rfl
theorem q1437 : (Jvm.Cond.soleField "java/lang/AbstractStringBuilder" "coder") ∈ lw_all := lw_g (lw_at lw_m6 77 rfl) rfl
theorem q1439 : (Jvm.Cond.soleField "java/lang/AbstractStringBuilder" "maybeLatin1") ∈ lw_all := lw_g (lw_at lw_m6 79 rfl) rfl
theorem q1441 : (Jvm.Cond.soleField "java/lang/AbstractStringBuilder" "count") ∈ lw_all := lw_g (lw_at lw_m6 81 rfl) rfl
theorem q1448 : (Jvm.Cond.instanceMethod ({ cls := "java/lang/AbstractStringBuilder", name := "length", desc := "()I" } : Jvm.MethodName)) ∈ lw_all := lw_g (lw_at lw_m6 88 rfl) rfl
theorem q1449 : (Jvm.Cond.code ({ cls := "java/lang/AbstractStringBuilder", name := "length", desc := "()I" } : Jvm.MethodName) prog_39_method_6_code (1 : Nat) (Option.some Jvm.ClassFile.FieldType.int)) ∈ lw_all := lw_g (lw_at lw_m6 89 rfl) rfl
theorem q1455 : (Jvm.Cond.instanceMethod ({ cls := "java/lang/AbstractStringBuilder", name := "append", desc := "(C)Ljava/lang/AbstractStringBuilder;" } : Jvm.MethodName)) ∈ lw_all := lw_g (lw_at lw_m6 95 rfl) rfl
theorem q1456 : (Jvm.Cond.code ({ cls := "java/lang/AbstractStringBuilder", name := "append", desc := "(C)Ljava/lang/AbstractStringBuilder;" } : Jvm.MethodName) prog_39_method_31_code (2 : Nat) (Option.some (Jvm.ClassFile.FieldType.object "java/lang/AbstractStringBuilder"))) ∈ lw_all := lw_g (lw_at lw_m6 96 rfl) rfl
theorem q1457 : (Jvm.Cond.methodLink "java/lang/AbstractStringBuilder" (100 : Nat) ({ cls := "java/lang/AbstractStringBuilder", name := "ensureCapacityInternal", desc := "(I)V" } : Jvm.MethodName)) ∈ lw_all := lw_g (lw_at lw_m6 97 rfl) rfl
theorem q1458 : (Jvm.Cond.privateMethod ({ cls := "java/lang/AbstractStringBuilder", name := "ensureCapacityInternal", desc := "(I)V" } : Jvm.MethodName)) ∈ lw_tbl := lw_at lw_m6 98 rfl
theorem q1459 : (Jvm.Cond.instanceMethod ({ cls := "java/lang/AbstractStringBuilder", name := "ensureCapacityInternal", desc := "(I)V" } : Jvm.MethodName)) ∈ lw_all := lw_g (lw_at lw_m6 99 rfl) rfl
theorem q1460 : (Jvm.Cond.code ({ cls := "java/lang/AbstractStringBuilder", name := "ensureCapacityInternal", desc := "(I)V" } : Jvm.MethodName) prog_39_method_9_code (3 : Nat) (Option.none : Option Jvm.ClassFile.FieldType)) ∈ lw_all := lw_g (lw_at lw_m6 100 rfl) rfl
theorem q1461 : (Jvm.Cond.methodLink "java/lang/AbstractStringBuilder" (104 : Nat) ({ cls := "java/lang/AbstractStringBuilder", name := "newCapacity", desc := "(I)I" } : Jvm.MethodName)) ∈ lw_all := lw_g (lw_at lw_m6 101 rfl) rfl
theorem q1462 : (Jvm.Cond.privateMethod ({ cls := "java/lang/AbstractStringBuilder", name := "newCapacity", desc := "(I)I" } : Jvm.MethodName)) ∈ lw_tbl := lw_at lw_m6 102 rfl
theorem q1463 : (Jvm.Cond.instanceMethod ({ cls := "java/lang/AbstractStringBuilder", name := "newCapacity", desc := "(I)I" } : Jvm.MethodName)) ∈ lw_all := lw_g (lw_at lw_m6 103 rfl) rfl
theorem q1464 : (Jvm.Cond.code ({ cls := "java/lang/AbstractStringBuilder", name := "newCapacity", desc := "(I)I" } : Jvm.MethodName) prog_39_method_10_code (6 : Nat) (Option.some Jvm.ClassFile.FieldType.int)) ∈ lw_all := lw_g (lw_at lw_m6 104 rfl) rfl
theorem q1465 : (Jvm.Cond.methodLink "java/lang/AbstractStringBuilder" (114 : Nat) ({ cls := "jdk/internal/util/ArraysSupport", name := "newLength", desc := "(III)I" } : Jvm.MethodName)) ∈ lw_all := lw_g (lw_at lw_m6 105 rfl) rfl
theorem q1466 : (Jvm.Cond.constant "java/lang/AbstractStringBuilder" (39 : Nat) (2147483647 : Int32)) ∈ lw_all := lw_g (lw_at lw_m6 106 rfl) rfl
theorem q1467 : (Jvm.Cond.methodLink "java/lang/AbstractStringBuilder" (108 : Nat) ({ cls := "java/util/Arrays", name := "copyOf", desc := "([BI)[B" } : Jvm.MethodName)) ∈ lw_all := lw_g (lw_at lw_m6 107 rfl) rfl
theorem q1475 : (Jvm.Cond.methodLink "java/lang/AbstractStringBuilder" (83 : Nat) ({ cls := "java/lang/AbstractStringBuilder", name := "isLatin1", desc := "()Z" } : Jvm.MethodName)) ∈ lw_all := lw_g (lw_at lw_m6 115 rfl) rfl
theorem q1476 : (Jvm.Cond.instanceMethod ({ cls := "java/lang/AbstractStringBuilder", name := "isLatin1", desc := "()Z" } : Jvm.MethodName)) ∈ lw_all := lw_g (lw_at lw_m6 116 rfl) rfl
theorem q1477 : (Jvm.Cond.sameMethod "java/lang/AbstractStringBuilder" "java/lang/AbstractStringBuilder" "isLatin1" "()Z") ∈ lw_all := lw_g (lw_at lw_m6 117 rfl) rfl
theorem q1479 : (Jvm.Cond.code ({ cls := "java/lang/AbstractStringBuilder", name := "isLatin1", desc := "()Z" } : Jvm.MethodName) prog_39_method_68_code (1 : Nat) (Option.some Jvm.ClassFile.FieldType.boolean)) ∈ lw_all := lw_g (lw_at lw_m6 119 rfl) rfl
theorem q1480 : (Jvm.Cond.methodLink "java/lang/AbstractStringBuilder" (191 : Nat) ({ cls := "java/lang/StringLatin1", name := "canEncode", desc := "(C)Z" } : Jvm.MethodName)) ∈ lw_all := lw_g (lw_at lw_m6 120 rfl) rfl
theorem q1483 : (Jvm.Cond.methodLink "java/lang/AbstractStringBuilder" (195 : Nat) ({ cls := "java/lang/AbstractStringBuilder", name := "inflate", desc := "()V" } : Jvm.MethodName)) ∈ lw_all := lw_g (lw_at lw_m6 123 rfl) rfl
theorem q1484 : (Jvm.Cond.privateMethod ({ cls := "java/lang/AbstractStringBuilder", name := "inflate", desc := "()V" } : Jvm.MethodName)) ∈ lw_tbl := lw_at lw_m6 124 rfl
theorem q1485 : (Jvm.Cond.instanceMethod ({ cls := "java/lang/AbstractStringBuilder", name := "inflate", desc := "()V" } : Jvm.MethodName)) ∈ lw_all := lw_g (lw_at lw_m6 125 rfl) rfl
theorem q1486 : (Jvm.Cond.code ({ cls := "java/lang/AbstractStringBuilder", name := "inflate", desc := "()V" } : Jvm.MethodName) prog_39_method_11_code (2 : Nat) (Option.none : Option Jvm.ClassFile.FieldType)) ∈ lw_all := lw_g (lw_at lw_m6 126 rfl) rfl
theorem q1487 : (Jvm.Cond.methodLink "java/lang/AbstractStringBuilder" (125 : Nat) ({ cls := "java/lang/StringLatin1", name := "inflate", desc := "([BI[BII)V" } : Jvm.MethodName)) ∈ lw_all := lw_g (lw_at lw_m6 127 rfl) rfl
theorem q1516 : (Jvm.Cond.methodLink "java/lang/AbstractStringBuilder" (197 : Nat) ({ cls := "java/lang/StringUTF16", name := "putCharSB", desc := "([BII)V" } : Jvm.MethodName)) ∈ lw_all := lw_g (lw_at lw_m6 156 rfl) rfl
theorem q1540 : (Jvm.Cond.instanceMethod ({ cls := "java/lang/AbstractStringBuilder", name := "getValue", desc := "()[B" } : Jvm.MethodName)) ∈ lw_all := lw_g (lw_at lw_m6 180 rfl) rfl
theorem q1541 : (Jvm.Cond.sameMethod "java/lang/AbstractStringBuilder" "java/lang/AbstractStringBuilder" "getValue" "()[B") ∈ lw_all := lw_g (lw_at lw_m6 181 rfl) rfl
theorem q1543 : (Jvm.Cond.code ({ cls := "java/lang/AbstractStringBuilder", name := "getValue", desc := "()[B" } : Jvm.MethodName) prog_39_method_64_code (1 : Nat) (Option.some (Jvm.ClassFile.FieldType.array Jvm.ClassFile.FieldType.byte))) ∈ lw_all := lw_g (lw_at lw_m6 183 rfl) rfl
theorem q3075 : (Jvm.Cond.sameMethod "java/lang/AbstractStringBuilder" "java/lang/AbstractStringBuilder" "length" "()I") ∈ lw_all := lw_g (lw_at lw_m13 35 rfl) rfl
theorem q3076 : (Jvm.Cond.sameMethod "java/lang/AbstractStringBuilder" "java/lang/AbstractStringBuilder" "append" "(C)Ljava/lang/AbstractStringBuilder;") ∈ lw_all := lw_g (lw_at lw_m13 36 rfl) rfl
theorem q3077 : (Jvm.Cond.sameMethod "java/lang/AbstractStringBuilder" "java/lang/AbstractStringBuilder" "ensureCapacityInternal" "(I)V") ∈ lw_all := lw_g (lw_at lw_m13 37 rfl) rfl
theorem q3078 : (Jvm.Cond.sameMethod "java/lang/AbstractStringBuilder" "java/lang/AbstractStringBuilder" "newCapacity" "(I)I") ∈ lw_all := lw_g (lw_at lw_m13 38 rfl) rfl
theorem q3079 : (Jvm.Cond.sameMethod "java/lang/AbstractStringBuilder" "java/lang/AbstractStringBuilder" "inflate" "()V") ∈ lw_all := lw_g (lw_at lw_m13 39 rfl) rfl

/-! java/lang/StringBuilder -/
set_option maxRecDepth 100000
def RJ3 : String := "java/lang/StringBuilder"
def TJ3 : u_T := fun k => match k with
  | 0 => ("java/lang/AbstractStringBuilder", "value", "[B", false)
  | 1 => ("java/lang/AbstractStringBuilder", "coder", "B", false)
  | 2 => ("java/lang/AbstractStringBuilder", "maybeLatin1", "Z", false)
  | _ => ("java/lang/AbstractStringBuilder", "count", "I", false)
def tyJ3 : Nat → FieldType := fun k => match k with
  | 0 => .array .byte
  | 1 => .byte
  | 2 => .boolean
  | _ => .int
abbrev wsJ30 : List Cond := u_ws RJ3 TJ3 4
theorem nmJ3 : ∀ a, a < 4 → ∀ b, b < 4 → a ≠ b → (TJ3 a).2.1 ≠ (TJ3 b).2.1 := by decide +kernel
theorem tyJ3_ok : ∀ k, k < 4 → parseFieldDescriptor (TJ3 k).2.2.1 = some (tyJ3 k) := by decide +kernel
abbrev cJ3_init : ByteArray := prog_46_method_2_code
def yJ3_init : MethodName := ⟨RJ3, "<init>", "(I)V"⟩
def dkwJ3_init_0 : List UInt8 := [42, 27, 183, 0, 1, 177]
abbrev dktJ3_init_0 : List UInt8 := dkwJ3_init_0 ++ []
theorem dksJ3_init_0 : cJ3_init.data.toList.drop 0 = dktJ3_init_0 := by decide +kernel
theorem dJ3_init_0 : decode cJ3_init 0 = .ok (.aload_n 0, 1) := dk_42 (dk_at dksJ3_init_0 0 rfl rfl)
theorem dJ3_init_1 : decode cJ3_init 1 = .ok (.iload_n 1, 1) := dk_27 (dk_at dksJ3_init_0 1 rfl rfl)
theorem dJ3_init_2 : decode cJ3_init 2 = .ok (.invokespecial 1, 3) := dk_183 0 1 (dk_at dksJ3_init_0 2 rfl rfl)
theorem dJ3_init_5 : decode cJ3_init 5 = .ok (.return_, 1) := dk_177 (dk_at dksJ3_init_0 5 rfl rfl)
abbrev cJ3_length : ByteArray := prog_46_method_93_code
def yJ3_length : MethodName := ⟨RJ3, "length", "()I"⟩
theorem dJ3_length_0 : decode cJ3_length 0 = .ok (.aload_n 0, 1) := by decide +kernel
theorem dJ3_length_1 : decode cJ3_length 1 = .ok (.invokespecial 343, 3) := by decide +kernel
theorem dJ3_length_4 : decode cJ3_length 4 = .ok (.ireturn, 1) := by decide +kernel
abbrev cJ3_append : ByteArray := prog_46_method_14_code
def yJ3_append : MethodName := ⟨RJ3, "append", "(C)Ljava/lang/StringBuilder;"⟩
def dkwJ3_append_0 : List UInt8 := [42, 27, 183, 0, 50, 87, 42, 176]
abbrev dktJ3_append_0 : List UInt8 := dkwJ3_append_0 ++ []
theorem dksJ3_append_0 : cJ3_append.data.toList.drop 0 = dktJ3_append_0 := by decide +kernel
theorem dJ3_append_0 : decode cJ3_append 0 = .ok (.aload_n 0, 1) := dk_42 (dk_at dksJ3_append_0 0 rfl rfl)
theorem dJ3_append_1 : decode cJ3_append 1 = .ok (.iload_n 1, 1) := dk_27 (dk_at dksJ3_append_0 1 rfl rfl)
theorem dJ3_append_2 : decode cJ3_append 2 = .ok (.invokespecial 50, 3) := dk_183 0 50 (dk_at dksJ3_append_0 2 rfl rfl)
theorem dJ3_append_5 : decode cJ3_append 5 = .ok (.pop, 1) := dk_87 (dk_at dksJ3_append_0 5 rfl rfl)
theorem dJ3_append_6 : decode cJ3_append 6 = .ok (.aload_n 0, 1) := dk_42 (dk_at dksJ3_append_0 6 rfl rfl)
theorem dJ3_append_7 : decode cJ3_append 7 = .ok (.areturn, 1) := dk_176 (dk_at dksJ3_append_0 7 rfl rfl)
abbrev cJ3_toString : ByteArray := prog_46_method_42_code
def yJ3_toString : MethodName := ⟨RJ3, "toString", "()Ljava/lang/String;"⟩
def dkwJ3_toString_0 : List UInt8 := [187, 0, 18, 89, 42, 183, 0, 137, 176]
abbrev dktJ3_toString_0 : List UInt8 := dkwJ3_toString_0 ++ []
theorem dksJ3_toString_0 : cJ3_toString.data.toList.drop 0 = dktJ3_toString_0 := by decide +kernel
theorem dJ3_toString_0 : decode cJ3_toString 0 = .ok (.new 18, 3) := dk_187 0 18 (dk_at dksJ3_toString_0 0 rfl rfl)
theorem dJ3_toString_3 : decode cJ3_toString 3 = .ok (.dup, 1) := dk_89 (dk_at dksJ3_toString_0 3 rfl rfl)
theorem dJ3_toString_4 : decode cJ3_toString 4 = .ok (.aload_n 0, 1) := dk_42 (dk_at dksJ3_toString_0 4 rfl rfl)
theorem dJ3_toString_5 : decode cJ3_toString 5 = .ok (.invokespecial 137, 3) := dk_183 0 137 (dk_at dksJ3_toString_0 5 rfl rfl)
theorem dJ3_toString_8 : decode cJ3_toString 8 = .ok (.areturn, 1) := dk_176 (dk_at dksJ3_toString_0 8 rfl rfl)
theorem q171 : (Jvm.Cond.initialized "java/lang/StringBuilder") ∈ lw_all := lw_g (lw_at lw_m1 11 rfl) rfl
theorem q694 : (Jvm.Cond.selects "java/lang/StringBuilder" ({ cls := "java/lang/Object", name := "getClass", desc := "()Ljava/lang/Class;" } : Jvm.MethodName) ({ cls := "java/lang/Object", name := "getClass", desc := "()Ljava/lang/Class;" } : Jvm.MethodName)) ∈ lw_all := lw_g (lw_at lw_m3 54 rfl) rfl
theorem q1413 : (Jvm.Cond.instantiable "java/lang/StringBuilder" (4 : Nat)) ∈ lw_all := lw_g (lw_at lw_m6 53 rfl) rfl
theorem q1415 : (Jvm.Cond.instanceMethod ({ cls := "java/lang/StringBuilder", name := "<init>", desc := "(I)V" } : Jvm.MethodName)) ∈ lw_all := lw_g (lw_at lw_m6 55 rfl) rfl
theorem q1416 : (Jvm.Cond.code ({ cls := "java/lang/StringBuilder", name := "<init>", desc := "(I)V" } : Jvm.MethodName) prog_46_method_2_code (2 : Nat) (Option.none : Option Jvm.ClassFile.FieldType)) ∈ lw_all := lw_g (lw_at lw_m6 56 rfl) rfl
theorem q1417 : (Jvm.Cond.methodLink "java/lang/StringBuilder" (1 : Nat) ({ cls := "java/lang/AbstractStringBuilder", name := "<init>", desc := "(I)V" } : Jvm.MethodName)) ∈ lw_all := lw_g (lw_at lw_m6 57 rfl) rfl
theorem q1434 : (Jvm.Cond.lays "java/lang/StringBuilder" "java/lang/AbstractStringBuilder" "value" "[B") ∈ lw_all := lw_g (lw_at lw_m6 74 rfl) rfl
theorem q1436 : (Jvm.Cond.lays "java/lang/StringBuilder" "java/lang/AbstractStringBuilder" "coder" "B") ∈ lw_all := lw_g (lw_at lw_m6 76 rfl) rfl
theorem q1438 : (Jvm.Cond.lays "java/lang/StringBuilder" "java/lang/AbstractStringBuilder" "maybeLatin1" "Z") ∈ lw_all := lw_g (lw_at lw_m6 78 rfl) rfl
theorem q1440 : (Jvm.Cond.lays "java/lang/StringBuilder" "java/lang/AbstractStringBuilder" "count" "I") ∈ lw_all := lw_g (lw_at lw_m6 80 rfl) rfl
theorem q1442 : (Jvm.Cond.superclass "java/lang/StringBuilder" "java/lang/AbstractStringBuilder") ∈ lw_all := lw_g (lw_at lw_m6 82 rfl) rfl
theorem q1444 : (Jvm.Cond.instanceMethod ({ cls := "java/lang/StringBuilder", name := "length", desc := "()I" } : Jvm.MethodName)) ∈ lw_all := lw_g (lw_at lw_m6 84 rfl) rfl
theorem q1445 : (Jvm.Cond.selects "java/lang/StringBuilder" ({ cls := "java/lang/StringBuilder", name := "length", desc := "()I" } : Jvm.MethodName) ({ cls := "java/lang/StringBuilder", name := "length", desc := "()I" } : Jvm.MethodName)) ∈ lw_all := lw_g (lw_at lw_m6 85 rfl) rfl
theorem q1446 : (Jvm.Cond.code ({ cls := "java/lang/StringBuilder", name := "length", desc := "()I" } : Jvm.MethodName) prog_46_method_93_code (1 : Nat) (Option.some Jvm.ClassFile.FieldType.int)) ∈ lw_all := lw_g (lw_at lw_m6 86 rfl) rfl
theorem q1447 : (Jvm.Cond.methodLink "java/lang/StringBuilder" (343 : Nat) ({ cls := "java/lang/AbstractStringBuilder", name := "length", desc := "()I" } : Jvm.MethodName)) ∈ lw_all := lw_g (lw_at lw_m6 87 rfl) rfl
theorem q1451 : (Jvm.Cond.instanceMethod ({ cls := "java/lang/StringBuilder", name := "append", desc := "(C)Ljava/lang/StringBuilder;" } : Jvm.MethodName)) ∈ lw_all := lw_g (lw_at lw_m6 91 rfl) rfl
theorem q1452 : (Jvm.Cond.selects "java/lang/StringBuilder" ({ cls := "java/lang/StringBuilder", name := "append", desc := "(C)Ljava/lang/StringBuilder;" } : Jvm.MethodName) ({ cls := "java/lang/StringBuilder", name := "append", desc := "(C)Ljava/lang/StringBuilder;" } : Jvm.MethodName)) ∈ lw_all := lw_g (lw_at lw_m6 92 rfl) rfl
theorem q1453 : (Jvm.Cond.code ({ cls := "java/lang/StringBuilder", name := "append", desc := "(C)Ljava/lang/StringBuilder;" } : Jvm.MethodName) prog_46_method_14_code (2 : Nat) (Option.some (Jvm.ClassFile.FieldType.object "java/lang/StringBuilder"))) ∈ lw_all := lw_g (lw_at lw_m6 93 rfl) rfl
theorem q1454 : (Jvm.Cond.methodLink "java/lang/StringBuilder" (50 : Nat) ({ cls := "java/lang/AbstractStringBuilder", name := "append", desc := "(C)Ljava/lang/AbstractStringBuilder;" } : Jvm.MethodName)) ∈ lw_all := lw_g (lw_at lw_m6 94 rfl) rfl
theorem q1478 : (Jvm.Cond.selects "java/lang/StringBuilder" ({ cls := "java/lang/AbstractStringBuilder", name := "isLatin1", desc := "()Z" } : Jvm.MethodName) ({ cls := "java/lang/AbstractStringBuilder", name := "isLatin1", desc := "()Z" } : Jvm.MethodName)) ∈ lw_all := lw_g (lw_at lw_m6 118 rfl) rfl
theorem q1527 : (Jvm.Cond.instanceMethod ({ cls := "java/lang/StringBuilder", name := "toString", desc := "()Ljava/lang/String;" } : Jvm.MethodName)) ∈ lw_all := lw_g (lw_at lw_m6 167 rfl) rfl
theorem q1528 : (Jvm.Cond.selects "java/lang/StringBuilder" ({ cls := "java/lang/StringBuilder", name := "toString", desc := "()Ljava/lang/String;" } : Jvm.MethodName) ({ cls := "java/lang/StringBuilder", name := "toString", desc := "()Ljava/lang/String;" } : Jvm.MethodName)) ∈ lw_all := lw_g (lw_at lw_m6 168 rfl) rfl
theorem q1529 : (Jvm.Cond.code ({ cls := "java/lang/StringBuilder", name := "toString", desc := "()Ljava/lang/String;" } : Jvm.MethodName) prog_46_method_42_code (1 : Nat) (Option.some (Jvm.ClassFile.FieldType.object "java/lang/String"))) ∈ lw_all := lw_g (lw_at lw_m6 169 rfl) rfl
theorem q1530 : (Jvm.Cond.classLink "java/lang/StringBuilder" (18 : Nat) "java/lang/String") ∈ lw_all := lw_g (lw_at lw_m6 170 rfl) rfl
theorem q1532 : (Jvm.Cond.methodLink "java/lang/StringBuilder" (137 : Nat) ({ cls := "java/lang/String", name := "<init>", desc := "(Ljava/lang/StringBuilder;)V" } : Jvm.MethodName)) ∈ lw_all := lw_g (lw_at lw_m6 172 rfl) rfl
theorem q1542 : (Jvm.Cond.selects "java/lang/StringBuilder" ({ cls := "java/lang/AbstractStringBuilder", name := "getValue", desc := "()[B" } : Jvm.MethodName) ({ cls := "java/lang/AbstractStringBuilder", name := "getValue", desc := "()[B" } : Jvm.MethodName)) ∈ lw_all := lw_g (lw_at lw_m6 182 rfl) rfl
theorem q3080 : (Jvm.Cond.selects "java/lang/StringBuilder" ({ cls := "java/lang/AbstractStringBuilder", name := "length", desc := "()I" } : Jvm.MethodName) ({ cls := "java/lang/StringBuilder", name := "length", desc := "()I" } : Jvm.MethodName)) ∈ lw_all := lw_g (lw_at lw_m13 40 rfl) rfl
theorem q3104 : (Jvm.Cond.castable "java/lang/StringBuilder" "java/lang/Object") ∈ lw_tbl := lw_at lw_m13 64 rfl
theorem in_J3 : ∀ w ∈ wsJ30, w ∈ lw_all := lw_in wsJ30 [1434, 1436, 1438, 1440] (by decide +kernel) (by decide +kernel)

/-! java/lang/String -/
set_option maxRecDepth 100000
def RJ4 : String := "java/lang/String"
def TJ4 : u_T := fun k => match k with
  | 0 => ("java/lang/String", "value", "[B", true)
  | 1 => ("java/lang/String", "coder", "B", true)
  | 2 => ("java/lang/String", "hash", "I", false)
  | _ => ("java/lang/String", "hashIsZero", "Z", false)
def tyJ4 : Nat → FieldType := fun k => match k with
  | 0 => .array .byte
  | 1 => .byte
  | 2 => .int
  | _ => .boolean
abbrev wsJ40 : List Cond := u_ws RJ4 TJ4 4
theorem nmJ4 : ∀ a, a < 4 → ∀ b, b < 4 → a ≠ b → (TJ4 a).2.1 ≠ (TJ4 b).2.1 := by decide +kernel
theorem tyJ4_ok : ∀ k, k < 4 → parseFieldDescriptor (TJ4 k).2.2.1 = some (tyJ4 k) := by decide +kernel
abbrev cJ4_checkBoundsOffCount : ByteArray := prog_45_method_157_code
def yJ4_checkBoundsOffCount : MethodName := ⟨RJ4, "checkBoundsOffCount", "(III)I"⟩
def dkwJ4_checkBoundsOffCount_0 : List UInt8 := [26, 27, 28, 178, 4, 29, 184, 4, 41, 172]
abbrev dktJ4_checkBoundsOffCount_0 : List UInt8 := dkwJ4_checkBoundsOffCount_0 ++ []
theorem dksJ4_checkBoundsOffCount_0 : cJ4_checkBoundsOffCount.data.toList.drop 0 = dktJ4_checkBoundsOffCount_0 := by decide +kernel
theorem dJ4_checkBoundsOffCount_0 : decode cJ4_checkBoundsOffCount 0 = .ok (.iload_n 0, 1) := dk_26 (dk_at dksJ4_checkBoundsOffCount_0 0 rfl rfl)
theorem dJ4_checkBoundsOffCount_1 : decode cJ4_checkBoundsOffCount 1 = .ok (.iload_n 1, 1) := dk_27 (dk_at dksJ4_checkBoundsOffCount_0 1 rfl rfl)
theorem dJ4_checkBoundsOffCount_2 : decode cJ4_checkBoundsOffCount 2 = .ok (.iload_n 2, 1) := dk_28 (dk_at dksJ4_checkBoundsOffCount_0 2 rfl rfl)
theorem dJ4_checkBoundsOffCount_3 : decode cJ4_checkBoundsOffCount 3 = .ok (.getstatic 1053, 3) := dk_178 4 29 (dk_at dksJ4_checkBoundsOffCount_0 3 rfl rfl)
theorem dJ4_checkBoundsOffCount_6 : decode cJ4_checkBoundsOffCount 6 = .ok (.invokestatic 1065, 3) := dk_184 4 41 (dk_at dksJ4_checkBoundsOffCount_0 6 rfl rfl)
theorem dJ4_checkBoundsOffCount_9 : decode cJ4_checkBoundsOffCount 9 = .ok (.ireturn, 1) := dk_172 (dk_at dksJ4_checkBoundsOffCount_0 9 rfl rfl)
abbrev cJ4_checkIndex : ByteArray := prog_45_method_155_code
def yJ4_checkIndex : MethodName := ⟨RJ4, "checkIndex", "(II)V"⟩
def dkwJ4_checkIndex_0 : List UInt8 := [26, 27, 178, 4, 29, 184, 4, 35, 87, 177]
abbrev dktJ4_checkIndex_0 : List UInt8 := dkwJ4_checkIndex_0 ++ []
theorem dksJ4_checkIndex_0 : cJ4_checkIndex.data.toList.drop 0 = dktJ4_checkIndex_0 := by decide +kernel
theorem dJ4_checkIndex_0 : decode cJ4_checkIndex 0 = .ok (.iload_n 0, 1) := dk_26 (dk_at dksJ4_checkIndex_0 0 rfl rfl)
theorem dJ4_checkIndex_1 : decode cJ4_checkIndex 1 = .ok (.iload_n 1, 1) := dk_27 (dk_at dksJ4_checkIndex_0 1 rfl rfl)
theorem dJ4_checkIndex_2 : decode cJ4_checkIndex 2 = .ok (.getstatic 1053, 3) := dk_178 4 29 (dk_at dksJ4_checkIndex_0 2 rfl rfl)
theorem dJ4_checkIndex_5 : decode cJ4_checkIndex 5 = .ok (.invokestatic 1059, 3) := dk_184 4 35 (dk_at dksJ4_checkIndex_0 5 rfl rfl)
theorem dJ4_checkIndex_8 : decode cJ4_checkIndex 8 = .ok (.pop, 1) := dk_87 (dk_at dksJ4_checkIndex_0 8 rfl rfl)
theorem dJ4_checkIndex_9 : decode cJ4_checkIndex 9 = .ok (.return_, 1) := dk_177 (dk_at dksJ4_checkIndex_0 9 rfl rfl)
abbrev cJ4_init : ByteArray := prog_45_method_53_code
def yJ4_init : MethodName := ⟨RJ4, "<init>", "(Ljava/lang/StringBuilder;)V"⟩
def dkwJ4_init_0 : List UInt8 := [42, 43, 1, 183, 1, 233, 177]
abbrev dktJ4_init_0 : List UInt8 := dkwJ4_init_0 ++ []
theorem dksJ4_init_0 : cJ4_init.data.toList.drop 0 = dktJ4_init_0 := by decide +kernel
theorem dJ4_init_0 : decode cJ4_init 0 = .ok (.aload_n 0, 1) := dk_42 (dk_at dksJ4_init_0 0 rfl rfl)
theorem dJ4_init_1 : decode cJ4_init 1 = .ok (.aload_n 1, 1) := dk_43 (dk_at dksJ4_init_0 1 rfl rfl)
theorem dJ4_init_2 : decode cJ4_init 2 = .ok (.aconst_null, 1) := dk_1 (dk_at dksJ4_init_0 2 rfl rfl)
theorem dJ4_init_3 : decode cJ4_init 3 = .ok (.invokespecial 489, 3) := dk_183 1 233 (dk_at dksJ4_init_0 3 rfl rfl)
theorem dJ4_init_6 : decode cJ4_init 6 = .ok (.return_, 1) := dk_177 (dk_at dksJ4_init_0 6 rfl rfl)
abbrev cJ4_init_2 : ByteArray := prog_45_method_150_code
def yJ4_init_2 : MethodName := ⟨RJ4, "<init>", "(Ljava/lang/AbstractStringBuilder;Ljava/lang/Void;)V"⟩
def dkwJ4_init_2_4 : List UInt8 := [181, 0, 9, 177]
abbrev dktJ4_init_2_4 : List UInt8 := dkwJ4_init_2_4 ++ []
def dkwJ4_init_2_3 : List UInt8 := [184, 0, 47, 181, 0, 15, 177, 42, 4, 181, 0, 15, 42, 45, 3, 21, 4, 4, 120, 184, 0, 54]
abbrev dktJ4_init_2_3 : List UInt8 := dkwJ4_init_2_3 ++ dktJ4_init_2_4
def dkwJ4_init_2_2 : List UInt8 := [180, 4, 24, 153, 0, 28, 42, 45, 3, 21, 4, 184, 4, 27, 181, 0, 9, 42, 42, 180, 0, 9, 21, 4]
abbrev dktJ4_init_2_2 : List UInt8 := dkwJ4_init_2_2 ++ dktJ4_init_2_3
def dkwJ4_init_2_1 : List UInt8 := [181, 0, 15, 42, 45, 3, 21, 4, 184, 0, 54, 181, 0, 9, 167, 0, 59, 178, 0, 38, 153, 0, 35, 43]
abbrev dktJ4_init_2_1 : List UInt8 := dkwJ4_init_2_1 ++ dktJ4_init_2_2
def dkwJ4_init_2_0 : List UInt8 := [42, 183, 0, 1, 43, 182, 2, 40, 78, 43, 182, 2, 37, 54, 4, 43, 182, 4, 23, 153, 0, 22, 42, 3]
abbrev dktJ4_init_2_0 : List UInt8 := dkwJ4_init_2_0 ++ dktJ4_init_2_1
theorem dksJ4_init_2_0 : cJ4_init_2.data.toList.drop 0 = dktJ4_init_2_0 := by decide +kernel
theorem dksJ4_init_2_1 : cJ4_init_2.data.toList.drop 24 = dktJ4_init_2_1 := dk_seg dksJ4_init_2_0 24 rfl rfl
theorem dksJ4_init_2_2 : cJ4_init_2.data.toList.drop 48 = dktJ4_init_2_2 := dk_seg dksJ4_init_2_1 24 rfl rfl
theorem dksJ4_init_2_3 : cJ4_init_2.data.toList.drop 72 = dktJ4_init_2_3 := dk_seg dksJ4_init_2_2 24 rfl rfl
theorem dksJ4_init_2_4 : cJ4_init_2.data.toList.drop 94 = dktJ4_init_2_4 := dk_seg dksJ4_init_2_3 22 rfl rfl
theorem dJ4_init_2_0 : decode cJ4_init_2 0 = .ok (.aload_n 0, 1) := dk_42 (dk_at dksJ4_init_2_0 0 rfl rfl)
theorem dJ4_init_2_1 : decode cJ4_init_2 1 = .ok (.invokespecial 1, 3) := dk_183 0 1 (dk_at dksJ4_init_2_0 1 rfl rfl)
theorem dJ4_init_2_4 : decode cJ4_init_2 4 = .ok (.aload_n 1, 1) := dk_43 (dk_at dksJ4_init_2_0 4 rfl rfl)
theorem dJ4_init_2_5 : decode cJ4_init_2 5 = .ok (.invokevirtual 552, 3) := dk_182 2 40 (dk_at dksJ4_init_2_0 5 rfl rfl)
theorem dJ4_init_2_8 : decode cJ4_init_2 8 = .ok (.astore_n 3, 1) := dk_78 (dk_at dksJ4_init_2_0 8 rfl rfl)
theorem dJ4_init_2_9 : decode cJ4_init_2 9 = .ok (.aload_n 1, 1) := dk_43 (dk_at dksJ4_init_2_0 9 rfl rfl)
theorem dJ4_init_2_10 : decode cJ4_init_2 10 = .ok (.invokevirtual 549, 3) := dk_182 2 37 (dk_at dksJ4_init_2_0 10 rfl rfl)
theorem dJ4_init_2_13 : decode cJ4_init_2 13 = .ok (.istore 4, 2) := dk_54 4 (dk_at dksJ4_init_2_0 13 rfl rfl)
theorem dJ4_init_2_15 : decode cJ4_init_2 15 = .ok (.aload_n 1, 1) := dk_43 (dk_at dksJ4_init_2_0 15 rfl rfl)
theorem dJ4_init_2_16 : decode cJ4_init_2 16 = .ok (.invokevirtual 1047, 3) := dk_182 4 23 (dk_at dksJ4_init_2_0 16 rfl rfl)
theorem dJ4_init_2_19 : decode cJ4_init_2 19 = .ok (.ifCond .eq 22, 3) := dk_153 0 22 (dk_at dksJ4_init_2_0 19 rfl rfl)
theorem dJ4_init_2_22 : decode cJ4_init_2 22 = .ok (.aload_n 0, 1) := dk_42 (dk_at dksJ4_init_2_0 22 rfl rfl)
theorem dJ4_init_2_23 : decode cJ4_init_2 23 = .ok (.iconst 0, 1) := dk_3 (dk_at dksJ4_init_2_0 23 rfl rfl)
theorem dJ4_init_2_24 : decode cJ4_init_2 24 = .ok (.putfield 15, 3) := dk_181 0 15 (dk_at dksJ4_init_2_1 0 rfl rfl)
theorem dJ4_init_2_27 : decode cJ4_init_2 27 = .ok (.aload_n 0, 1) := dk_42 (dk_at dksJ4_init_2_1 3 rfl rfl)
theorem dJ4_init_2_28 : decode cJ4_init_2 28 = .ok (.aload_n 3, 1) := dk_45 (dk_at dksJ4_init_2_1 4 rfl rfl)
theorem dJ4_init_2_29 : decode cJ4_init_2 29 = .ok (.iconst 0, 1) := dk_3 (dk_at dksJ4_init_2_1 5 rfl rfl)
theorem dJ4_init_2_30 : decode cJ4_init_2 30 = .ok (.iload 4, 2) := dk_21 4 (dk_at dksJ4_init_2_1 6 rfl rfl)
theorem dJ4_init_2_32 : decode cJ4_init_2 32 = .ok (.invokestatic 54, 3) := dk_184 0 54 (dk_at dksJ4_init_2_1 8 rfl rfl)
theorem dJ4_init_2_35 : decode cJ4_init_2 35 = .ok (.putfield 9, 3) := dk_181 0 9 (dk_at dksJ4_init_2_1 11 rfl rfl)
theorem dJ4_init_2_38 : decode cJ4_init_2 38 = .ok (.goto 59, 3) := dk_167 0 59 (dk_at dksJ4_init_2_1 14 rfl rfl)
theorem dJ4_init_2_41 : decode cJ4_init_2 41 = .ok (.getstatic 38, 3) := dk_178 0 38 (dk_at dksJ4_init_2_1 17 rfl rfl)
theorem dJ4_init_2_44 : decode cJ4_init_2 44 = .ok (.ifCond .eq 35, 3) := dk_153 0 35 (dk_at dksJ4_init_2_1 20 rfl rfl)
theorem dJ4_init_2_47 : decode cJ4_init_2 47 = .ok (.aload_n 1, 1) := dk_43 (dk_at dksJ4_init_2_1 23 rfl rfl)
theorem dJ4_init_2_48 : decode cJ4_init_2 48 = .ok (.getfield 1048, 3) := dk_180 4 24 (dk_at dksJ4_init_2_2 0 rfl rfl)
theorem dJ4_init_2_51 : decode cJ4_init_2 51 = .ok (.ifCond .eq 28, 3) := dk_153 0 28 (dk_at dksJ4_init_2_2 3 rfl rfl)
theorem dJ4_init_2_54 : decode cJ4_init_2 54 = .ok (.aload_n 0, 1) := dk_42 (dk_at dksJ4_init_2_2 6 rfl rfl)
theorem dJ4_init_2_55 : decode cJ4_init_2 55 = .ok (.aload_n 3, 1) := dk_45 (dk_at dksJ4_init_2_2 7 rfl rfl)
theorem dJ4_init_2_56 : decode cJ4_init_2 56 = .ok (.iconst 0, 1) := dk_3 (dk_at dksJ4_init_2_2 8 rfl rfl)
theorem dJ4_init_2_57 : decode cJ4_init_2 57 = .ok (.iload 4, 2) := dk_21 4 (dk_at dksJ4_init_2_2 9 rfl rfl)
theorem dJ4_init_2_59 : decode cJ4_init_2 59 = .ok (.invokestatic 1051, 3) := dk_184 4 27 (dk_at dksJ4_init_2_2 11 rfl rfl)
theorem dJ4_init_2_62 : decode cJ4_init_2 62 = .ok (.putfield 9, 3) := dk_181 0 9 (dk_at dksJ4_init_2_2 14 rfl rfl)
theorem dJ4_init_2_65 : decode cJ4_init_2 65 = .ok (.aload_n 0, 1) := dk_42 (dk_at dksJ4_init_2_2 17 rfl rfl)
theorem dJ4_init_2_66 : decode cJ4_init_2 66 = .ok (.aload_n 0, 1) := dk_42 (dk_at dksJ4_init_2_2 18 rfl rfl)
theorem dJ4_init_2_67 : decode cJ4_init_2 67 = .ok (.getfield 9, 3) := dk_180 0 9 (dk_at dksJ4_init_2_2 19 rfl rfl)
theorem dJ4_init_2_70 : decode cJ4_init_2 70 = .ok (.iload 4, 2) := dk_21 4 (dk_at dksJ4_init_2_2 22 rfl rfl)
theorem dJ4_init_2_72 : decode cJ4_init_2 72 = .ok (.invokestatic 47, 3) := dk_184 0 47 (dk_at dksJ4_init_2_3 0 rfl rfl)
theorem dJ4_init_2_75 : decode cJ4_init_2 75 = .ok (.putfield 15, 3) := dk_181 0 15 (dk_at dksJ4_init_2_3 3 rfl rfl)
theorem dJ4_init_2_78 : decode cJ4_init_2 78 = .ok (.return_, 1) := dk_177 (dk_at dksJ4_init_2_3 6 rfl rfl)
theorem dJ4_init_2_79 : decode cJ4_init_2 79 = .ok (.aload_n 0, 1) := dk_42 (dk_at dksJ4_init_2_3 7 rfl rfl)
theorem dJ4_init_2_80 : decode cJ4_init_2 80 = .ok (.iconst 1, 1) := dk_4 (dk_at dksJ4_init_2_3 8 rfl rfl)
theorem dJ4_init_2_81 : decode cJ4_init_2 81 = .ok (.putfield 15, 3) := dk_181 0 15 (dk_at dksJ4_init_2_3 9 rfl rfl)
theorem dJ4_init_2_84 : decode cJ4_init_2 84 = .ok (.aload_n 0, 1) := dk_42 (dk_at dksJ4_init_2_3 12 rfl rfl)
theorem dJ4_init_2_85 : decode cJ4_init_2 85 = .ok (.aload_n 3, 1) := dk_45 (dk_at dksJ4_init_2_3 13 rfl rfl)
theorem dJ4_init_2_86 : decode cJ4_init_2 86 = .ok (.iconst 0, 1) := dk_3 (dk_at dksJ4_init_2_3 14 rfl rfl)
theorem dJ4_init_2_87 : decode cJ4_init_2 87 = .ok (.iload 4, 2) := dk_21 4 (dk_at dksJ4_init_2_3 15 rfl rfl)
theorem dJ4_init_2_89 : decode cJ4_init_2 89 = .ok (.iconst 1, 1) := dk_4 (dk_at dksJ4_init_2_3 17 rfl rfl)
theorem dJ4_init_2_90 : decode cJ4_init_2 90 = .ok (.ishl, 1) := dk_120 (dk_at dksJ4_init_2_3 18 rfl rfl)
theorem dJ4_init_2_91 : decode cJ4_init_2 91 = .ok (.invokestatic 54, 3) := dk_184 0 54 (dk_at dksJ4_init_2_3 19 rfl rfl)
theorem dJ4_init_2_94 : decode cJ4_init_2 94 = .ok (.putfield 9, 3) := dk_181 0 9 (dk_at dksJ4_init_2_4 0 rfl rfl)
theorem dJ4_init_2_97 : decode cJ4_init_2 97 = .ok (.return_, 1) := dk_177 (dk_at dksJ4_init_2_4 3 rfl rfl)
abbrev cJ4_equals : ByteArray := prog_45_method_66_code
def yJ4_equals : MethodName := ⟨RJ4, "equals", "(Ljava/lang/Object;)Z"⟩
def dkwJ4_equals_2 : List UInt8 := [184, 2, 29, 153, 0, 7, 4, 167, 0, 4, 3, 172]
abbrev dktJ4_equals_2 : List UInt8 := dkwJ4_equals_2 ++ []
def dkwJ4_equals_1 : List UInt8 := [153, 0, 14, 42, 180, 0, 15, 44, 180, 0, 15, 160, 0, 21, 42, 180, 0, 9, 44, 180, 0, 9]
abbrev dktJ4_equals_1 : List UInt8 := dkwJ4_equals_1 ++ dktJ4_equals_2
def dkwJ4_equals_0 : List UInt8 := [42, 43, 166, 0, 5, 4, 172, 43, 193, 0, 10, 153, 0, 43, 43, 192, 0, 10, 77, 178, 0, 38]
abbrev dktJ4_equals_0 : List UInt8 := dkwJ4_equals_0 ++ dktJ4_equals_1
theorem dksJ4_equals_0 : cJ4_equals.data.toList.drop 0 = dktJ4_equals_0 := by decide +kernel
theorem dksJ4_equals_1 : cJ4_equals.data.toList.drop 22 = dktJ4_equals_1 := dk_seg dksJ4_equals_0 22 rfl rfl
theorem dksJ4_equals_2 : cJ4_equals.data.toList.drop 44 = dktJ4_equals_2 := dk_seg dksJ4_equals_1 22 rfl rfl
theorem dJ4_equals_0 : decode cJ4_equals 0 = .ok (.aload_n 0, 1) := dk_42 (dk_at dksJ4_equals_0 0 rfl rfl)
theorem dJ4_equals_1 : decode cJ4_equals 1 = .ok (.aload_n 1, 1) := dk_43 (dk_at dksJ4_equals_0 1 rfl rfl)
theorem dJ4_equals_2 : decode cJ4_equals 2 = .ok (.if_acmp .ne 5, 3) := dk_166 0 5 (dk_at dksJ4_equals_0 2 rfl rfl)
theorem dJ4_equals_5 : decode cJ4_equals 5 = .ok (.iconst 1, 1) := dk_4 (dk_at dksJ4_equals_0 5 rfl rfl)
theorem dJ4_equals_6 : decode cJ4_equals 6 = .ok (.ireturn, 1) := dk_172 (dk_at dksJ4_equals_0 6 rfl rfl)
theorem dJ4_equals_7 : decode cJ4_equals 7 = .ok (.aload_n 1, 1) := dk_43 (dk_at dksJ4_equals_0 7 rfl rfl)
theorem dJ4_equals_8 : decode cJ4_equals 8 = .ok (.instanceof 10, 3) := dk_193 0 10 (dk_at dksJ4_equals_0 8 rfl rfl)
theorem dJ4_equals_11 : decode cJ4_equals 11 = .ok (.ifCond .eq 43, 3) := dk_153 0 43 (dk_at dksJ4_equals_0 11 rfl rfl)
theorem dJ4_equals_14 : decode cJ4_equals 14 = .ok (.aload_n 1, 1) := dk_43 (dk_at dksJ4_equals_0 14 rfl rfl)
theorem dJ4_equals_15 : decode cJ4_equals 15 = .ok (.checkcast 10, 3) := dk_192 0 10 (dk_at dksJ4_equals_0 15 rfl rfl)
theorem dJ4_equals_18 : decode cJ4_equals 18 = .ok (.astore_n 2, 1) := dk_77 (dk_at dksJ4_equals_0 18 rfl rfl)
theorem dJ4_equals_19 : decode cJ4_equals 19 = .ok (.getstatic 38, 3) := dk_178 0 38 (dk_at dksJ4_equals_0 19 rfl rfl)
theorem dJ4_equals_22 : decode cJ4_equals 22 = .ok (.ifCond .eq 14, 3) := dk_153 0 14 (dk_at dksJ4_equals_1 0 rfl rfl)
theorem dJ4_equals_25 : decode cJ4_equals 25 = .ok (.aload_n 0, 1) := dk_42 (dk_at dksJ4_equals_1 3 rfl rfl)
theorem dJ4_equals_26 : decode cJ4_equals 26 = .ok (.getfield 15, 3) := dk_180 0 15 (dk_at dksJ4_equals_1 4 rfl rfl)
theorem dJ4_equals_29 : decode cJ4_equals 29 = .ok (.aload_n 2, 1) := dk_44 (dk_at dksJ4_equals_1 7 rfl rfl)
theorem dJ4_equals_30 : decode cJ4_equals 30 = .ok (.getfield 15, 3) := dk_180 0 15 (dk_at dksJ4_equals_1 8 rfl rfl)
theorem dJ4_equals_33 : decode cJ4_equals 33 = .ok (.if_icmp .ne 21, 3) := dk_160 0 21 (dk_at dksJ4_equals_1 11 rfl rfl)
theorem dJ4_equals_36 : decode cJ4_equals 36 = .ok (.aload_n 0, 1) := dk_42 (dk_at dksJ4_equals_1 14 rfl rfl)
theorem dJ4_equals_37 : decode cJ4_equals 37 = .ok (.getfield 9, 3) := dk_180 0 9 (dk_at dksJ4_equals_1 15 rfl rfl)
theorem dJ4_equals_40 : decode cJ4_equals 40 = .ok (.aload_n 2, 1) := dk_44 (dk_at dksJ4_equals_1 18 rfl rfl)
theorem dJ4_equals_41 : decode cJ4_equals 41 = .ok (.getfield 9, 3) := dk_180 0 9 (dk_at dksJ4_equals_1 19 rfl rfl)
theorem dJ4_equals_44 : decode cJ4_equals 44 = .ok (.invokestatic 541, 3) := dk_184 2 29 (dk_at dksJ4_equals_2 0 rfl rfl)
theorem dJ4_equals_47 : decode cJ4_equals 47 = .ok (.ifCond .eq 7, 3) := dk_153 0 7 (dk_at dksJ4_equals_2 3 rfl rfl)
theorem dJ4_equals_50 : decode cJ4_equals 50 = .ok (.iconst 1, 1) := dk_4 (dk_at dksJ4_equals_2 6 rfl rfl)
theorem dJ4_equals_51 : decode cJ4_equals 51 = .ok (.goto 4, 3) := dk_167 0 4 (dk_at dksJ4_equals_2 7 rfl rfl)
theorem dJ4_equals_54 : decode cJ4_equals 54 = .ok (.iconst 0, 1) := dk_3 (dk_at dksJ4_equals_2 10 rfl rfl)
theorem dJ4_equals_55 : decode cJ4_equals 55 = .ok (.ireturn, 1) := dk_172 (dk_at dksJ4_equals_2 11 rfl rfl)
abbrev cJ4_indexOf : ByteArray := prog_45_method_79_code
def yJ4_indexOf : MethodName := ⟨RJ4, "indexOf", "(I)I"⟩
def dkwJ4_indexOf_0 : List UInt8 := [42, 27, 3, 182, 2, 121, 172]
abbrev dktJ4_indexOf_0 : List UInt8 := dkwJ4_indexOf_0 ++ []
theorem dksJ4_indexOf_0 : cJ4_indexOf.data.toList.drop 0 = dktJ4_indexOf_0 := by decide +kernel
theorem dJ4_indexOf_0 : decode cJ4_indexOf 0 = .ok (.aload_n 0, 1) := dk_42 (dk_at dksJ4_indexOf_0 0 rfl rfl)
theorem dJ4_indexOf_1 : decode cJ4_indexOf 1 = .ok (.iload_n 1, 1) := dk_27 (dk_at dksJ4_indexOf_0 1 rfl rfl)
theorem dJ4_indexOf_2 : decode cJ4_indexOf 2 = .ok (.iconst 0, 1) := dk_3 (dk_at dksJ4_indexOf_0 2 rfl rfl)
theorem dJ4_indexOf_3 : decode cJ4_indexOf 3 = .ok (.invokevirtual 633, 3) := dk_182 2 121 (dk_at dksJ4_indexOf_0 3 rfl rfl)
theorem dJ4_indexOf_6 : decode cJ4_indexOf 6 = .ok (.ireturn, 1) := dk_172 (dk_at dksJ4_indexOf_0 6 rfl rfl)
abbrev cJ4_indexOf_2 : ByteArray := prog_45_method_80_code
def yJ4_indexOf_2 : MethodName := ⟨RJ4, "indexOf", "(II)I"⟩
def dkwJ4_indexOf_2_1 : List UInt8 := [180, 0, 9, 27, 28, 42, 182, 1, 249, 184, 2, 128, 172]
abbrev dktJ4_indexOf_2_1 : List UInt8 := dkwJ4_indexOf_2_1 ++ []
def dkwJ4_indexOf_2_0 : List UInt8 := [42, 182, 1, 236, 153, 0, 19, 42, 180, 0, 9, 27, 28, 42, 182, 1, 249, 184, 2, 125, 167, 0, 16, 42]
abbrev dktJ4_indexOf_2_0 : List UInt8 := dkwJ4_indexOf_2_0 ++ dktJ4_indexOf_2_1
theorem dksJ4_indexOf_2_0 : cJ4_indexOf_2.data.toList.drop 0 = dktJ4_indexOf_2_0 := by decide +kernel
theorem dksJ4_indexOf_2_1 : cJ4_indexOf_2.data.toList.drop 24 = dktJ4_indexOf_2_1 := dk_seg dksJ4_indexOf_2_0 24 rfl rfl
theorem dJ4_indexOf_2_0 : decode cJ4_indexOf_2 0 = .ok (.aload_n 0, 1) := dk_42 (dk_at dksJ4_indexOf_2_0 0 rfl rfl)
theorem dJ4_indexOf_2_1 : decode cJ4_indexOf_2 1 = .ok (.invokevirtual 492, 3) := dk_182 1 236 (dk_at dksJ4_indexOf_2_0 1 rfl rfl)
theorem dJ4_indexOf_2_4 : decode cJ4_indexOf_2 4 = .ok (.ifCond .eq 19, 3) := dk_153 0 19 (dk_at dksJ4_indexOf_2_0 4 rfl rfl)
theorem dJ4_indexOf_2_7 : decode cJ4_indexOf_2 7 = .ok (.aload_n 0, 1) := dk_42 (dk_at dksJ4_indexOf_2_0 7 rfl rfl)
theorem dJ4_indexOf_2_8 : decode cJ4_indexOf_2 8 = .ok (.getfield 9, 3) := dk_180 0 9 (dk_at dksJ4_indexOf_2_0 8 rfl rfl)
theorem dJ4_indexOf_2_11 : decode cJ4_indexOf_2 11 = .ok (.iload_n 1, 1) := dk_27 (dk_at dksJ4_indexOf_2_0 11 rfl rfl)
theorem dJ4_indexOf_2_12 : decode cJ4_indexOf_2 12 = .ok (.iload_n 2, 1) := dk_28 (dk_at dksJ4_indexOf_2_0 12 rfl rfl)
theorem dJ4_indexOf_2_13 : decode cJ4_indexOf_2 13 = .ok (.aload_n 0, 1) := dk_42 (dk_at dksJ4_indexOf_2_0 13 rfl rfl)
theorem dJ4_indexOf_2_14 : decode cJ4_indexOf_2 14 = .ok (.invokevirtual 505, 3) := dk_182 1 249 (dk_at dksJ4_indexOf_2_0 14 rfl rfl)
theorem dJ4_indexOf_2_17 : decode cJ4_indexOf_2 17 = .ok (.invokestatic 637, 3) := dk_184 2 125 (dk_at dksJ4_indexOf_2_0 17 rfl rfl)
theorem dJ4_indexOf_2_20 : decode cJ4_indexOf_2 20 = .ok (.goto 16, 3) := dk_167 0 16 (dk_at dksJ4_indexOf_2_0 20 rfl rfl)
theorem dJ4_indexOf_2_23 : decode cJ4_indexOf_2 23 = .ok (.aload_n 0, 1) := dk_42 (dk_at dksJ4_indexOf_2_0 23 rfl rfl)
theorem dJ4_indexOf_2_24 : decode cJ4_indexOf_2 24 = .ok (.getfield 9, 3) := dk_180 0 9 (dk_at dksJ4_indexOf_2_1 0 rfl rfl)
theorem dJ4_indexOf_2_27 : decode cJ4_indexOf_2 27 = .ok (.iload_n 1, 1) := dk_27 (dk_at dksJ4_indexOf_2_1 3 rfl rfl)
theorem dJ4_indexOf_2_28 : decode cJ4_indexOf_2 28 = .ok (.iload_n 2, 1) := dk_28 (dk_at dksJ4_indexOf_2_1 4 rfl rfl)
theorem dJ4_indexOf_2_29 : decode cJ4_indexOf_2 29 = .ok (.aload_n 0, 1) := dk_42 (dk_at dksJ4_indexOf_2_1 5 rfl rfl)
theorem dJ4_indexOf_2_30 : decode cJ4_indexOf_2 30 = .ok (.invokevirtual 505, 3) := dk_182 1 249 (dk_at dksJ4_indexOf_2_1 6 rfl rfl)
theorem dJ4_indexOf_2_33 : decode cJ4_indexOf_2 33 = .ok (.invokestatic 640, 3) := dk_184 2 128 (dk_at dksJ4_indexOf_2_1 9 rfl rfl)
theorem dJ4_indexOf_2_36 : decode cJ4_indexOf_2 36 = .ok (.ireturn, 1) := dk_172 (dk_at dksJ4_indexOf_2_1 12 rfl rfl)
abbrev cJ4_isLatin1 : ByteArray := prog_45_method_154_code
def yJ4_isLatin1 : MethodName := ⟨RJ4, "isLatin1", "()Z"⟩
def dkwJ4_isLatin1_0 : List UInt8 := [178, 0, 38, 153, 0, 14, 42, 180, 0, 15, 154, 0, 7, 4, 167, 0, 4, 3, 172]
abbrev dktJ4_isLatin1_0 : List UInt8 := dkwJ4_isLatin1_0 ++ []
theorem dksJ4_isLatin1_0 : cJ4_isLatin1.data.toList.drop 0 = dktJ4_isLatin1_0 := by decide +kernel
theorem dJ4_isLatin1_0 : decode cJ4_isLatin1 0 = .ok (.getstatic 38, 3) := dk_178 0 38 (dk_at dksJ4_isLatin1_0 0 rfl rfl)
theorem dJ4_isLatin1_3 : decode cJ4_isLatin1 3 = .ok (.ifCond .eq 14, 3) := dk_153 0 14 (dk_at dksJ4_isLatin1_0 3 rfl rfl)
theorem dJ4_isLatin1_6 : decode cJ4_isLatin1 6 = .ok (.aload_n 0, 1) := dk_42 (dk_at dksJ4_isLatin1_0 6 rfl rfl)
theorem dJ4_isLatin1_7 : decode cJ4_isLatin1 7 = .ok (.getfield 15, 3) := dk_180 0 15 (dk_at dksJ4_isLatin1_0 7 rfl rfl)
theorem dJ4_isLatin1_10 : decode cJ4_isLatin1 10 = .ok (.ifCond .ne 7, 3) := dk_154 0 7 (dk_at dksJ4_isLatin1_0 10 rfl rfl)
theorem dJ4_isLatin1_13 : decode cJ4_isLatin1 13 = .ok (.iconst 1, 1) := dk_4 (dk_at dksJ4_isLatin1_0 13 rfl rfl)
theorem dJ4_isLatin1_14 : decode cJ4_isLatin1 14 = .ok (.goto 4, 3) := dk_167 0 4 (dk_at dksJ4_isLatin1_0 14 rfl rfl)
theorem dJ4_isLatin1_17 : decode cJ4_isLatin1 17 = .ok (.iconst 0, 1) := dk_3 (dk_at dksJ4_isLatin1_0 17 rfl rfl)
theorem dJ4_isLatin1_18 : decode cJ4_isLatin1 18 = .ok (.ireturn, 1) := dk_172 (dk_at dksJ4_isLatin1_0 18 rfl rfl)
abbrev cJ4_length : ByteArray := prog_45_method_54_code
def yJ4_length : MethodName := ⟨RJ4, "length", "()I"⟩
def dkwJ4_length_0 : List UInt8 := [42, 180, 0, 9, 190, 42, 182, 1, 79, 122, 172]
abbrev dktJ4_length_0 : List UInt8 := dkwJ4_length_0 ++ []
theorem dksJ4_length_0 : cJ4_length.data.toList.drop 0 = dktJ4_length_0 := by decide +kernel
theorem dJ4_length_0 : decode cJ4_length 0 = .ok (.aload_n 0, 1) := dk_42 (dk_at dksJ4_length_0 0 rfl rfl)
theorem dJ4_length_1 : decode cJ4_length 1 = .ok (.getfield 9, 3) := dk_180 0 9 (dk_at dksJ4_length_0 1 rfl rfl)
theorem dJ4_length_4 : decode cJ4_length 4 = .ok (.arraylength, 1) := dk_190 (dk_at dksJ4_length_0 4 rfl rfl)
theorem dJ4_length_5 : decode cJ4_length 5 = .ok (.aload_n 0, 1) := dk_42 (dk_at dksJ4_length_0 5 rfl rfl)
theorem dJ4_length_6 : decode cJ4_length 6 = .ok (.invokevirtual 335, 3) := dk_182 1 79 (dk_at dksJ4_length_0 6 rfl rfl)
theorem dJ4_length_9 : decode cJ4_length 9 = .ok (.ishr, 1) := dk_122 (dk_at dksJ4_length_0 9 rfl rfl)
theorem dJ4_length_10 : decode cJ4_length 10 = .ok (.ireturn, 1) := dk_172 (dk_at dksJ4_length_0 10 rfl rfl)
abbrev cJ4_coder : ByteArray := prog_45_method_152_code
def yJ4_coder : MethodName := ⟨RJ4, "coder", "()B"⟩
def dkwJ4_coder_0 : List UInt8 := [178, 0, 38, 153, 0, 10, 42, 180, 0, 15, 167, 0, 4, 4, 172]
abbrev dktJ4_coder_0 : List UInt8 := dkwJ4_coder_0 ++ []
theorem dksJ4_coder_0 : cJ4_coder.data.toList.drop 0 = dktJ4_coder_0 := by decide +kernel
theorem dJ4_coder_0 : decode cJ4_coder 0 = .ok (.getstatic 38, 3) := dk_178 0 38 (dk_at dksJ4_coder_0 0 rfl rfl)
theorem dJ4_coder_3 : decode cJ4_coder 3 = .ok (.ifCond .eq 10, 3) := dk_153 0 10 (dk_at dksJ4_coder_0 3 rfl rfl)
theorem dJ4_coder_6 : decode cJ4_coder 6 = .ok (.aload_n 0, 1) := dk_42 (dk_at dksJ4_coder_0 6 rfl rfl)
theorem dJ4_coder_7 : decode cJ4_coder 7 = .ok (.getfield 15, 3) := dk_180 0 15 (dk_at dksJ4_coder_0 7 rfl rfl)
theorem dJ4_coder_10 : decode cJ4_coder 10 = .ok (.goto 4, 3) := dk_167 0 4 (dk_at dksJ4_coder_0 10 rfl rfl)
theorem dJ4_coder_13 : decode cJ4_coder 13 = .ok (.iconst 1, 1) := dk_4 (dk_at dksJ4_coder_0 13 rfl rfl)
theorem dJ4_coder_14 : decode cJ4_coder 14 = .ok (.ireturn, 1) := dk_172 (dk_at dksJ4_coder_0 14 rfl rfl)
abbrev cJ4_checkBoundsBeginEnd : ByteArray := prog_45_method_158_code
def yJ4_checkBoundsBeginEnd : MethodName := ⟨RJ4, "checkBoundsBeginEnd", "(III)V"⟩
def dkwJ4_checkBoundsBeginEnd_0 : List UInt8 := [26, 27, 28, 178, 4, 29, 184, 4, 38, 87, 177]
abbrev dktJ4_checkBoundsBeginEnd_0 : List UInt8 := dkwJ4_checkBoundsBeginEnd_0 ++ []
theorem dksJ4_checkBoundsBeginEnd_0 : cJ4_checkBoundsBeginEnd.data.toList.drop 0 = dktJ4_checkBoundsBeginEnd_0 := by decide +kernel
theorem dJ4_checkBoundsBeginEnd_0 : decode cJ4_checkBoundsBeginEnd 0 = .ok (.iload_n 0, 1) := dk_26 (dk_at dksJ4_checkBoundsBeginEnd_0 0 rfl rfl)
theorem dJ4_checkBoundsBeginEnd_1 : decode cJ4_checkBoundsBeginEnd 1 = .ok (.iload_n 1, 1) := dk_27 (dk_at dksJ4_checkBoundsBeginEnd_0 1 rfl rfl)
theorem dJ4_checkBoundsBeginEnd_2 : decode cJ4_checkBoundsBeginEnd 2 = .ok (.iload_n 2, 1) := dk_28 (dk_at dksJ4_checkBoundsBeginEnd_0 2 rfl rfl)
theorem dJ4_checkBoundsBeginEnd_3 : decode cJ4_checkBoundsBeginEnd 3 = .ok (.getstatic 1053, 3) := dk_178 4 29 (dk_at dksJ4_checkBoundsBeginEnd_0 3 rfl rfl)
theorem dJ4_checkBoundsBeginEnd_6 : decode cJ4_checkBoundsBeginEnd 6 = .ok (.invokestatic 1062, 3) := dk_184 4 38 (dk_at dksJ4_checkBoundsBeginEnd_0 6 rfl rfl)
theorem dJ4_checkBoundsBeginEnd_9 : decode cJ4_checkBoundsBeginEnd 9 = .ok (.pop, 1) := dk_87 (dk_at dksJ4_checkBoundsBeginEnd_0 9 rfl rfl)
theorem dJ4_checkBoundsBeginEnd_10 : decode cJ4_checkBoundsBeginEnd 10 = .ok (.return_, 1) := dk_177 (dk_at dksJ4_checkBoundsBeginEnd_0 10 rfl rfl)
theorem q172 : (Jvm.Cond.initialized "java/lang/String") ∈ lw_all := lw_g (lw_at lw_m1 12 rfl) rfl
theorem q693 : (Jvm.Cond.selects "java/lang/String" ({ cls := "java/lang/Object", name := "getClass", desc := "()Ljava/lang/Class;" } : Jvm.MethodName) ({ cls := "java/lang/Object", name := "getClass", desc := "()Ljava/lang/Class;" } : Jvm.MethodName)) ∈ lw_all := lw_g (lw_at lw_m3 53 rfl) rfl
theorem q1422 : (Jvm.Cond.laysStatic "java/lang/String" "COMPACT_STRINGS" "Z") ∈ lw_tbl := lw_at lw_m6 62 rfl
theorem q1432 : (Jvm.Cond.fieldLink "java/lang/String" (1048 : Nat) "java/lang/AbstractStringBuilder" "maybeLatin1" "Z") ∈ lw_all := lw_g (lw_at lw_m6 72 rfl) rfl
theorem q1500 : (Jvm.Cond.static ({ cls := "java/lang/String", name := "checkBoundsOffCount", desc := "(III)I" } : Jvm.MethodName)) ∈ lw_all := lw_g (lw_at lw_m6 140 rfl) rfl
theorem q1501 : (Jvm.Cond.code ({ cls := "java/lang/String", name := "checkBoundsOffCount", desc := "(III)I" } : Jvm.MethodName) prog_45_method_157_code (3 : Nat) (Option.some Jvm.ClassFile.FieldType.int)) ∈ lw_all := lw_g (lw_at lw_m6 141 rfl) rfl
theorem q1502 : (Jvm.Cond.fieldLink "java/lang/String" (1053 : Nat) "jdk/internal/util/Preconditions" "SIOOBE_FORMATTER" "Ljava/util/function/BiFunction;") ∈ lw_all := lw_g (lw_at lw_m6 142 rfl) rfl
theorem q1504 : (Jvm.Cond.methodLink "java/lang/String" (1065 : Nat) ({ cls := "jdk/internal/util/Preconditions", name := "checkFromIndexSize", desc := "(IIILjava/util/function/BiFunction;)I" } : Jvm.MethodName)) ∈ lw_all := lw_g (lw_at lw_m6 144 rfl) rfl
theorem q1523 : (Jvm.Cond.static ({ cls := "java/lang/String", name := "checkIndex", desc := "(II)V" } : Jvm.MethodName)) ∈ lw_all := lw_g (lw_at lw_m6 163 rfl) rfl
theorem q1524 : (Jvm.Cond.code ({ cls := "java/lang/String", name := "checkIndex", desc := "(II)V" } : Jvm.MethodName) prog_45_method_155_code (2 : Nat) (Option.none : Option Jvm.ClassFile.FieldType)) ∈ lw_all := lw_g (lw_at lw_m6 164 rfl) rfl
theorem q1525 : (Jvm.Cond.methodLink "java/lang/String" (1059 : Nat) ({ cls := "jdk/internal/util/Preconditions", name := "checkIndex", desc := "(IILjava/util/function/BiFunction;)I" } : Jvm.MethodName)) ∈ lw_all := lw_g (lw_at lw_m6 165 rfl) rfl
theorem q1531 : (Jvm.Cond.instantiable "java/lang/String" (4 : Nat)) ∈ lw_all := lw_g (lw_at lw_m6 171 rfl) rfl
theorem q1533 : (Jvm.Cond.instanceMethod ({ cls := "java/lang/String", name := "<init>", desc := "(Ljava/lang/StringBuilder;)V" } : Jvm.MethodName)) ∈ lw_all := lw_g (lw_at lw_m6 173 rfl) rfl
theorem q1534 : (Jvm.Cond.code ({ cls := "java/lang/String", name := "<init>", desc := "(Ljava/lang/StringBuilder;)V" } : Jvm.MethodName) prog_45_method_53_code (2 : Nat) (Option.none : Option Jvm.ClassFile.FieldType)) ∈ lw_all := lw_g (lw_at lw_m6 174 rfl) rfl
theorem q1535 : (Jvm.Cond.methodLink "java/lang/String" (489 : Nat) ({ cls := "java/lang/String", name := "<init>", desc := "(Ljava/lang/AbstractStringBuilder;Ljava/lang/Void;)V" } : Jvm.MethodName)) ∈ lw_all := lw_g (lw_at lw_m6 175 rfl) rfl
theorem q1536 : (Jvm.Cond.instanceMethod ({ cls := "java/lang/String", name := "<init>", desc := "(Ljava/lang/AbstractStringBuilder;Ljava/lang/Void;)V" } : Jvm.MethodName)) ∈ lw_all := lw_g (lw_at lw_m6 176 rfl) rfl
theorem q1537 : (Jvm.Cond.code ({ cls := "java/lang/String", name := "<init>", desc := "(Ljava/lang/AbstractStringBuilder;Ljava/lang/Void;)V" } : Jvm.MethodName) prog_45_method_150_code (5 : Nat) (Option.none : Option Jvm.ClassFile.FieldType)) ∈ lw_all := lw_g (lw_at lw_m6 177 rfl) rfl
theorem q1538 : (Jvm.Cond.methodLink "java/lang/String" (1 : Nat) ({ cls := "java/lang/Object", name := "<init>", desc := "()V" } : Jvm.MethodName)) ∈ lw_all := lw_g (lw_at lw_m6 178 rfl) rfl
theorem q1539 : (Jvm.Cond.methodLink "java/lang/String" (552 : Nat) ({ cls := "java/lang/AbstractStringBuilder", name := "getValue", desc := "()[B" } : Jvm.MethodName)) ∈ lw_all := lw_g (lw_at lw_m6 179 rfl) rfl
theorem q1544 : (Jvm.Cond.methodLink "java/lang/String" (549 : Nat) ({ cls := "java/lang/AbstractStringBuilder", name := "length", desc := "()I" } : Jvm.MethodName)) ∈ lw_all := lw_g (lw_at lw_m6 184 rfl) rfl
theorem q1545 : (Jvm.Cond.methodLink "java/lang/String" (1047 : Nat) ({ cls := "java/lang/AbstractStringBuilder", name := "isLatin1", desc := "()Z" } : Jvm.MethodName)) ∈ lw_all := lw_g (lw_at lw_m6 185 rfl) rfl
theorem q1546 : (Jvm.Cond.methodLink "java/lang/String" (54 : Nat) ({ cls := "java/util/Arrays", name := "copyOfRange", desc := "([BII)[B" } : Jvm.MethodName)) ∈ lw_all := lw_g (lw_at lw_m6 186 rfl) rfl
theorem q1555 : (Jvm.Cond.fieldLink "java/lang/String" (38 : Nat) "java/lang/String" "COMPACT_STRINGS" "Z") ∈ lw_all := lw_g (lw_at lw_m6 195 rfl) rfl
theorem q1556 : (Jvm.Cond.methodLink "java/lang/String" (1051 : Nat) ({ cls := "java/lang/StringUTF16", name := "compress", desc := "([BII)[B" } : Jvm.MethodName)) ∈ lw_all := lw_g (lw_at lw_m6 196 rfl) rfl
theorem q1566 : (Jvm.Cond.methodLink "java/lang/String" (47 : Nat) ({ cls := "java/lang/StringUTF16", name := "coderFromArrayLen", desc := "([BI)B" } : Jvm.MethodName)) ∈ lw_all := lw_g (lw_at lw_m6 206 rfl) rfl
theorem q1569 : (Jvm.Cond.fieldLink "java/lang/String" (9 : Nat) "java/lang/String" "value" "[B") ∈ lw_all := lw_g (lw_at lw_m6 209 rfl) rfl
theorem q1570 : (Jvm.Cond.fieldLink "java/lang/String" (15 : Nat) "java/lang/String" "coder" "B") ∈ lw_all := lw_g (lw_at lw_m6 210 rfl) rfl
theorem q1571 : (Jvm.Cond.laysFinal "java/lang/String" "java/lang/String" "value" "[B") ∈ lw_all := lw_g (lw_at lw_m6 211 rfl) rfl
theorem q1572 : (Jvm.Cond.soleField "java/lang/String" "value") ∈ lw_all := lw_g (lw_at lw_m6 212 rfl) rfl
theorem q1573 : (Jvm.Cond.laysFinal "java/lang/String" "java/lang/String" "coder" "B") ∈ lw_all := lw_g (lw_at lw_m6 213 rfl) rfl
theorem q1574 : (Jvm.Cond.soleField "java/lang/String" "coder") ∈ lw_all := lw_g (lw_at lw_m6 214 rfl) rfl
theorem q1575 : (Jvm.Cond.lays "java/lang/String" "java/lang/String" "hash" "I") ∈ lw_all := lw_g (lw_at lw_m6 215 rfl) rfl
theorem q1576 : (Jvm.Cond.soleField "java/lang/String" "hash") ∈ lw_all := lw_g (lw_at lw_m6 216 rfl) rfl
theorem q1577 : (Jvm.Cond.lays "java/lang/String" "java/lang/String" "hashIsZero" "Z") ∈ lw_all := lw_g (lw_at lw_m6 217 rfl) rfl
theorem q1578 : (Jvm.Cond.soleField "java/lang/String" "hashIsZero") ∈ lw_all := lw_g (lw_at lw_m6 218 rfl) rfl
theorem q1579 : (Jvm.Cond.superclass "java/lang/String" "java/lang/Object") ∈ lw_all := lw_g (lw_at lw_m6 219 rfl) rfl
theorem q1584 : (Jvm.Cond.instanceMethod ({ cls := "java/lang/String", name := "equals", desc := "(Ljava/lang/Object;)Z" } : Jvm.MethodName)) ∈ lw_all := lw_g (lw_at lw_m6 224 rfl) rfl
theorem q1585 : (Jvm.Cond.selects "java/lang/String" ({ cls := "java/lang/String", name := "equals", desc := "(Ljava/lang/Object;)Z" } : Jvm.MethodName) ({ cls := "java/lang/String", name := "equals", desc := "(Ljava/lang/Object;)Z" } : Jvm.MethodName)) ∈ lw_all := lw_g (lw_at lw_m6 225 rfl) rfl
theorem q1586 : (Jvm.Cond.code ({ cls := "java/lang/String", name := "equals", desc := "(Ljava/lang/Object;)Z" } : Jvm.MethodName) prog_45_method_66_code (3 : Nat) (Option.some Jvm.ClassFile.FieldType.boolean)) ∈ lw_all := lw_g (lw_at lw_m6 226 rfl) rfl
theorem q1587 : (Jvm.Cond.classLink "java/lang/String" (10 : Nat) "java/lang/String") ∈ lw_all := lw_g (lw_at lw_m6 227 rfl) rfl
theorem q1588 : (Jvm.Cond.methodLink "java/lang/String" (541 : Nat) ({ cls := "java/lang/StringLatin1", name := "equals", desc := "([B[B)Z" } : Jvm.MethodName)) ∈ lw_all := lw_g (lw_at lw_m6 228 rfl) rfl
theorem q1609 : (Jvm.Cond.instanceMethod ({ cls := "java/lang/String", name := "indexOf", desc := "(I)I" } : Jvm.MethodName)) ∈ lw_all := lw_g (lw_at lw_m7 9 rfl) rfl
theorem q1610 : (Jvm.Cond.selects "java/lang/String" ({ cls := "java/lang/String", name := "indexOf", desc := "(I)I" } : Jvm.MethodName) ({ cls := "java/lang/String", name := "indexOf", desc := "(I)I" } : Jvm.MethodName)) ∈ lw_all := lw_g (lw_at lw_m7 10 rfl) rfl
theorem q1611 : (Jvm.Cond.code ({ cls := "java/lang/String", name := "indexOf", desc := "(I)I" } : Jvm.MethodName) prog_45_method_79_code (2 : Nat) (Option.some Jvm.ClassFile.FieldType.int)) ∈ lw_all := lw_g (lw_at lw_m7 11 rfl) rfl
theorem q1612 : (Jvm.Cond.methodLink "java/lang/String" (633 : Nat) ({ cls := "java/lang/String", name := "indexOf", desc := "(II)I" } : Jvm.MethodName)) ∈ lw_all := lw_g (lw_at lw_m7 12 rfl) rfl
theorem q1613 : (Jvm.Cond.instanceMethod ({ cls := "java/lang/String", name := "indexOf", desc := "(II)I" } : Jvm.MethodName)) ∈ lw_all := lw_g (lw_at lw_m7 13 rfl) rfl
theorem q1614 : (Jvm.Cond.selects "java/lang/String" ({ cls := "java/lang/String", name := "indexOf", desc := "(II)I" } : Jvm.MethodName) ({ cls := "java/lang/String", name := "indexOf", desc := "(II)I" } : Jvm.MethodName)) ∈ lw_all := lw_g (lw_at lw_m7 14 rfl) rfl
theorem q1615 : (Jvm.Cond.code ({ cls := "java/lang/String", name := "indexOf", desc := "(II)I" } : Jvm.MethodName) prog_45_method_80_code (3 : Nat) (Option.some Jvm.ClassFile.FieldType.int)) ∈ lw_all := lw_g (lw_at lw_m7 15 rfl) rfl
theorem q1616 : (Jvm.Cond.methodLink "java/lang/String" (492 : Nat) ({ cls := "java/lang/String", name := "isLatin1", desc := "()Z" } : Jvm.MethodName)) ∈ lw_all := lw_g (lw_at lw_m7 16 rfl) rfl
theorem q1617 : (Jvm.Cond.instanceMethod ({ cls := "java/lang/String", name := "isLatin1", desc := "()Z" } : Jvm.MethodName)) ∈ lw_all := lw_g (lw_at lw_m7 17 rfl) rfl
theorem q1618 : (Jvm.Cond.selects "java/lang/String" ({ cls := "java/lang/String", name := "isLatin1", desc := "()Z" } : Jvm.MethodName) ({ cls := "java/lang/String", name := "isLatin1", desc := "()Z" } : Jvm.MethodName)) ∈ lw_all := lw_g (lw_at lw_m7 18 rfl) rfl
theorem q1619 : (Jvm.Cond.code ({ cls := "java/lang/String", name := "isLatin1", desc := "()Z" } : Jvm.MethodName) prog_45_method_154_code (1 : Nat) (Option.some Jvm.ClassFile.FieldType.boolean)) ∈ lw_all := lw_g (lw_at lw_m7 19 rfl) rfl
theorem q1620 : (Jvm.Cond.methodLink "java/lang/String" (505 : Nat) ({ cls := "java/lang/String", name := "length", desc := "()I" } : Jvm.MethodName)) ∈ lw_all := lw_g (lw_at lw_m7 20 rfl) rfl
theorem q1621 : (Jvm.Cond.instanceMethod ({ cls := "java/lang/String", name := "length", desc := "()I" } : Jvm.MethodName)) ∈ lw_all := lw_g (lw_at lw_m7 21 rfl) rfl
theorem q1622 : (Jvm.Cond.selects "java/lang/String" ({ cls := "java/lang/String", name := "length", desc := "()I" } : Jvm.MethodName) ({ cls := "java/lang/String", name := "length", desc := "()I" } : Jvm.MethodName)) ∈ lw_all := lw_g (lw_at lw_m7 22 rfl) rfl
theorem q1623 : (Jvm.Cond.code ({ cls := "java/lang/String", name := "length", desc := "()I" } : Jvm.MethodName) prog_45_method_54_code (1 : Nat) (Option.some Jvm.ClassFile.FieldType.int)) ∈ lw_all := lw_g (lw_at lw_m7 23 rfl) rfl
theorem q1624 : (Jvm.Cond.methodLink "java/lang/String" (335 : Nat) ({ cls := "java/lang/String", name := "coder", desc := "()B" } : Jvm.MethodName)) ∈ lw_all := lw_g (lw_at lw_m7 24 rfl) rfl
theorem q1625 : (Jvm.Cond.instanceMethod ({ cls := "java/lang/String", name := "coder", desc := "()B" } : Jvm.MethodName)) ∈ lw_all := lw_g (lw_at lw_m7 25 rfl) rfl
theorem q1626 : (Jvm.Cond.selects "java/lang/String" ({ cls := "java/lang/String", name := "coder", desc := "()B" } : Jvm.MethodName) ({ cls := "java/lang/String", name := "coder", desc := "()B" } : Jvm.MethodName)) ∈ lw_all := lw_g (lw_at lw_m7 26 rfl) rfl
theorem q1627 : (Jvm.Cond.code ({ cls := "java/lang/String", name := "coder", desc := "()B" } : Jvm.MethodName) prog_45_method_152_code (1 : Nat) (Option.some Jvm.ClassFile.FieldType.byte)) ∈ lw_all := lw_g (lw_at lw_m7 27 rfl) rfl
theorem q1628 : (Jvm.Cond.methodLink "java/lang/String" (637 : Nat) ({ cls := "java/lang/StringLatin1", name := "indexOf", desc := "([BIII)I" } : Jvm.MethodName)) ∈ lw_all := lw_g (lw_at lw_m7 28 rfl) rfl
theorem q1639 : (Jvm.Cond.methodLink "java/lang/String" (640 : Nat) ({ cls := "java/lang/StringUTF16", name := "indexOf", desc := "([BIII)I" } : Jvm.MethodName)) ∈ lw_all := lw_g (lw_at lw_m7 39 rfl) rfl
theorem q1652 : (Jvm.Cond.static ({ cls := "java/lang/String", name := "checkBoundsBeginEnd", desc := "(III)V" } : Jvm.MethodName)) ∈ lw_all := lw_g (lw_at lw_m7 52 rfl) rfl
theorem q1653 : (Jvm.Cond.code ({ cls := "java/lang/String", name := "checkBoundsBeginEnd", desc := "(III)V" } : Jvm.MethodName) prog_45_method_158_code (3 : Nat) (Option.none : Option Jvm.ClassFile.FieldType)) ∈ lw_all := lw_g (lw_at lw_m7 53 rfl) rfl
theorem q1654 : (Jvm.Cond.methodLink "java/lang/String" (1062 : Nat) ({ cls := "jdk/internal/util/Preconditions", name := "checkFromToIndex", desc := "(IIILjava/util/function/BiFunction;)I" } : Jvm.MethodName)) ∈ lw_all := lw_g (lw_at lw_m7 54 rfl) rfl
theorem q3091 : (Jvm.Cond.castable "java/lang/String" "java/lang/Object") ∈ lw_tbl := lw_at lw_m13 51 rfl
theorem in_J4 : ∀ w ∈ wsJ40, w ∈ lw_all := lw_in wsJ40 [1571, 1573, 1575, 1577] (by decide +kernel) (by decide +kernel)

/-! java/lang/StringUTF16 -/
set_option maxRecDepth 100000
def RJ5 : String := "java/lang/StringUTF16"
abbrev cJ5_newBytesFor : ByteArray := prog_48_method_2_code
def yJ5_newBytesFor : MethodName := ⟨RJ5, "newBytesFor", "(I)[B"⟩
def dkwJ5_newBytesFor_0 : List UInt8 := [26, 184, 0, 11, 188, 8, 176]
abbrev dktJ5_newBytesFor_0 : List UInt8 := dkwJ5_newBytesFor_0 ++ []
theorem dksJ5_newBytesFor_0 : cJ5_newBytesFor.data.toList.drop 0 = dktJ5_newBytesFor_0 := by decide +kernel
theorem dJ5_newBytesFor_0 : decode cJ5_newBytesFor 0 = .ok (.iload_n 0, 1) := dk_26 (dk_at dksJ5_newBytesFor_0 0 rfl rfl)
theorem dJ5_newBytesFor_1 : decode cJ5_newBytesFor 1 = .ok (.invokestatic 11, 3) := dk_184 0 11 (dk_at dksJ5_newBytesFor_0 1 rfl rfl)
theorem dJ5_newBytesFor_4 : decode cJ5_newBytesFor 4 = .ok (.newarray .byte, 2) := dk_188_8 (dk_at dksJ5_newBytesFor_0 4 rfl rfl)
theorem dJ5_newBytesFor_6 : decode cJ5_newBytesFor 6 = .ok (.areturn, 1) := dk_176 (dk_at dksJ5_newBytesFor_0 6 rfl rfl)
abbrev cJ5_newBytesLength : ByteArray := prog_48_method_3_code
def yJ5_newBytesLength : MethodName := ⟨RJ5, "newBytesLength", "(I)I"⟩
def dkwJ5_newBytesLength_2 : List UInt8 := [182, 0, 32, 182, 0, 37, 183, 0, 41, 191, 26, 4, 120, 172]
abbrev dktJ5_newBytesLength_2 : List UInt8 := dkwJ5_newBytesLength_2 ++ []
def dkwJ5_newBytesLength_1 : List UInt8 := [187, 0, 23, 89, 183, 0, 25, 18, 26, 182, 0, 28, 26, 182, 0, 32, 18, 35, 182, 0, 28, 18, 20]
abbrev dktJ5_newBytesLength_1 : List UInt8 := dkwJ5_newBytesLength_1 ++ dktJ5_newBytesLength_2
def dkwJ5_newBytesLength_0 : List UInt8 := [26, 156, 0, 11, 187, 0, 17, 89, 183, 0, 19, 191, 26, 18, 20, 161, 0, 40, 187, 0, 21, 89]
abbrev dktJ5_newBytesLength_0 : List UInt8 := dkwJ5_newBytesLength_0 ++ dktJ5_newBytesLength_1
theorem dksJ5_newBytesLength_0 : cJ5_newBytesLength.data.toList.drop 0 = dktJ5_newBytesLength_0 := by decide +kernel
theorem dksJ5_newBytesLength_1 : cJ5_newBytesLength.data.toList.drop 22 = dktJ5_newBytesLength_1 := dk_seg dksJ5_newBytesLength_0 22 rfl rfl
theorem dksJ5_newBytesLength_2 : cJ5_newBytesLength.data.toList.drop 45 = dktJ5_newBytesLength_2 := dk_seg dksJ5_newBytesLength_1 23 rfl rfl
theorem dJ5_newBytesLength_0 : decode cJ5_newBytesLength 0 = .ok (.iload_n 0, 1) := dk_26 (dk_at dksJ5_newBytesLength_0 0 rfl rfl)
theorem dJ5_newBytesLength_1 : decode cJ5_newBytesLength 1 = .ok (.ifCond .ge 11, 3) := dk_156 0 11 (dk_at dksJ5_newBytesLength_0 1 rfl rfl)
theorem dJ5_newBytesLength_4 : decode cJ5_newBytesLength 4 = .ok (.new 17, 3) := dk_187 0 17 (dk_at dksJ5_newBytesLength_0 4 rfl rfl)
theorem dJ5_newBytesLength_7 : decode cJ5_newBytesLength 7 = .ok (.dup, 1) := dk_89 (dk_at dksJ5_newBytesLength_0 7 rfl rfl)
theorem dJ5_newBytesLength_8 : decode cJ5_newBytesLength 8 = .ok (.invokespecial 19, 3) := dk_183 0 19 (dk_at dksJ5_newBytesLength_0 8 rfl rfl)
theorem dJ5_newBytesLength_11 : decode cJ5_newBytesLength 11 = .ok (.athrow, 1) := dk_191 (dk_at dksJ5_newBytesLength_0 11 rfl rfl)
theorem dJ5_newBytesLength_12 : decode cJ5_newBytesLength 12 = .ok (.iload_n 0, 1) := dk_26 (dk_at dksJ5_newBytesLength_0 12 rfl rfl)
theorem dJ5_newBytesLength_13 : decode cJ5_newBytesLength 13 = .ok (.ldc 20, 2) := dk_18 20 (dk_at dksJ5_newBytesLength_0 13 rfl rfl)
theorem dJ5_newBytesLength_15 : decode cJ5_newBytesLength 15 = .ok (.if_icmp .lt 40, 3) := dk_161 0 40 (dk_at dksJ5_newBytesLength_0 15 rfl rfl)
theorem dJ5_newBytesLength_18 : decode cJ5_newBytesLength 18 = .ok (.new 21, 3) := dk_187 0 21 (dk_at dksJ5_newBytesLength_0 18 rfl rfl)
theorem dJ5_newBytesLength_21 : decode cJ5_newBytesLength 21 = .ok (.dup, 1) := dk_89 (dk_at dksJ5_newBytesLength_0 21 rfl rfl)
theorem dJ5_newBytesLength_22 : decode cJ5_newBytesLength 22 = .ok (.new 23, 3) := dk_187 0 23 (dk_at dksJ5_newBytesLength_1 0 rfl rfl)
theorem dJ5_newBytesLength_25 : decode cJ5_newBytesLength 25 = .ok (.dup, 1) := dk_89 (dk_at dksJ5_newBytesLength_1 3 rfl rfl)
theorem dJ5_newBytesLength_26 : decode cJ5_newBytesLength 26 = .ok (.invokespecial 25, 3) := dk_183 0 25 (dk_at dksJ5_newBytesLength_1 4 rfl rfl)
theorem dJ5_newBytesLength_29 : decode cJ5_newBytesLength 29 = .ok (.ldc 26, 2) := dk_18 26 (dk_at dksJ5_newBytesLength_1 7 rfl rfl)
theorem dJ5_newBytesLength_31 : decode cJ5_newBytesLength 31 = .ok (.invokevirtual 28, 3) := dk_182 0 28 (dk_at dksJ5_newBytesLength_1 9 rfl rfl)
theorem dJ5_newBytesLength_34 : decode cJ5_newBytesLength 34 = .ok (.iload_n 0, 1) := dk_26 (dk_at dksJ5_newBytesLength_1 12 rfl rfl)
theorem dJ5_newBytesLength_35 : decode cJ5_newBytesLength 35 = .ok (.invokevirtual 32, 3) := dk_182 0 32 (dk_at dksJ5_newBytesLength_1 13 rfl rfl)
theorem dJ5_newBytesLength_38 : decode cJ5_newBytesLength 38 = .ok (.ldc 35, 2) := dk_18 35 (dk_at dksJ5_newBytesLength_1 16 rfl rfl)
theorem dJ5_newBytesLength_40 : decode cJ5_newBytesLength 40 = .ok (.invokevirtual 28, 3) := dk_182 0 28 (dk_at dksJ5_newBytesLength_1 18 rfl rfl)
theorem dJ5_newBytesLength_43 : decode cJ5_newBytesLength 43 = .ok (.ldc 20, 2) := dk_18 20 (dk_at dksJ5_newBytesLength_1 21 rfl rfl)
theorem dJ5_newBytesLength_45 : decode cJ5_newBytesLength 45 = .ok (.invokevirtual 32, 3) := dk_182 0 32 (dk_at dksJ5_newBytesLength_2 0 rfl rfl)
theorem dJ5_newBytesLength_48 : decode cJ5_newBytesLength 48 = .ok (.invokevirtual 37, 3) := dk_182 0 37 (dk_at dksJ5_newBytesLength_2 3 rfl rfl)
theorem dJ5_newBytesLength_51 : decode cJ5_newBytesLength 51 = .ok (.invokespecial 41, 3) := dk_183 0 41 (dk_at dksJ5_newBytesLength_2 6 rfl rfl)
theorem dJ5_newBytesLength_54 : decode cJ5_newBytesLength 54 = .ok (.athrow, 1) := dk_191 (dk_at dksJ5_newBytesLength_2 9 rfl rfl)
theorem dJ5_newBytesLength_55 : decode cJ5_newBytesLength 55 = .ok (.iload_n 0, 1) := dk_26 (dk_at dksJ5_newBytesLength_2 10 rfl rfl)
theorem dJ5_newBytesLength_56 : decode cJ5_newBytesLength 56 = .ok (.iconst 1, 1) := dk_4 (dk_at dksJ5_newBytesLength_2 11 rfl rfl)
theorem dJ5_newBytesLength_57 : decode cJ5_newBytesLength 57 = .ok (.ishl, 1) := dk_120 (dk_at dksJ5_newBytesLength_2 12 rfl rfl)
theorem dJ5_newBytesLength_58 : decode cJ5_newBytesLength 58 = .ok (.ireturn, 1) := dk_172 (dk_at dksJ5_newBytesLength_2 13 rfl rfl)
abbrev cJ5_inflate : ByteArray := prog_48_method_86_code
def yJ5_inflate : MethodName := ⟨RJ5, "inflate", "([BI[BII)V"⟩
def dkwJ5_inflate_1 : List UInt8 := [132, 1, 1, 51, 17, 0, 255, 126, 184, 0, 111, 132, 5, 1, 167, 255, 228, 177]
abbrev dktJ5_inflate_1 : List UInt8 := dkwJ5_inflate_1 ++ []
def dkwJ5_inflate_0 : List UInt8 := [29, 21, 4, 44, 184, 0, 173, 3, 54, 5, 21, 5, 21, 4, 162, 0, 27, 44, 29, 132, 3, 1, 42, 27]
abbrev dktJ5_inflate_0 : List UInt8 := dkwJ5_inflate_0 ++ dktJ5_inflate_1
theorem dksJ5_inflate_0 : cJ5_inflate.data.toList.drop 0 = dktJ5_inflate_0 := by decide +kernel
theorem dksJ5_inflate_1 : cJ5_inflate.data.toList.drop 24 = dktJ5_inflate_1 := dk_seg dksJ5_inflate_0 24 rfl rfl
theorem dJ5_inflate_0 : decode cJ5_inflate 0 = .ok (.iload_n 3, 1) := dk_29 (dk_at dksJ5_inflate_0 0 rfl rfl)
theorem dJ5_inflate_1 : decode cJ5_inflate 1 = .ok (.iload 4, 2) := dk_21 4 (dk_at dksJ5_inflate_0 1 rfl rfl)
theorem dJ5_inflate_3 : decode cJ5_inflate 3 = .ok (.aload_n 2, 1) := dk_44 (dk_at dksJ5_inflate_0 3 rfl rfl)
theorem dJ5_inflate_4 : decode cJ5_inflate 4 = .ok (.invokestatic 173, 3) := dk_184 0 173 (dk_at dksJ5_inflate_0 4 rfl rfl)
theorem dJ5_inflate_7 : decode cJ5_inflate 7 = .ok (.iconst 0, 1) := dk_3 (dk_at dksJ5_inflate_0 7 rfl rfl)
theorem dJ5_inflate_8 : decode cJ5_inflate 8 = .ok (.istore 5, 2) := dk_54 5 (dk_at dksJ5_inflate_0 8 rfl rfl)
theorem dJ5_inflate_10 : decode cJ5_inflate 10 = .ok (.iload 5, 2) := dk_21 5 (dk_at dksJ5_inflate_0 10 rfl rfl)
theorem dJ5_inflate_12 : decode cJ5_inflate 12 = .ok (.iload 4, 2) := dk_21 4 (dk_at dksJ5_inflate_0 12 rfl rfl)
theorem dJ5_inflate_14 : decode cJ5_inflate 14 = .ok (.if_icmp .ge 27, 3) := dk_162 0 27 (dk_at dksJ5_inflate_0 14 rfl rfl)
theorem dJ5_inflate_17 : decode cJ5_inflate 17 = .ok (.aload_n 2, 1) := dk_44 (dk_at dksJ5_inflate_0 17 rfl rfl)
theorem dJ5_inflate_18 : decode cJ5_inflate 18 = .ok (.iload_n 3, 1) := dk_29 (dk_at dksJ5_inflate_0 18 rfl rfl)
theorem dJ5_inflate_19 : decode cJ5_inflate 19 = .ok (.iinc 3 1, 3) := dk_132 3 1 (dk_at dksJ5_inflate_0 19 rfl rfl)
theorem dJ5_inflate_22 : decode cJ5_inflate 22 = .ok (.aload_n 0, 1) := dk_42 (dk_at dksJ5_inflate_0 22 rfl rfl)
theorem dJ5_inflate_23 : decode cJ5_inflate 23 = .ok (.iload_n 1, 1) := dk_27 (dk_at dksJ5_inflate_0 23 rfl rfl)
theorem dJ5_inflate_24 : decode cJ5_inflate 24 = .ok (.iinc 1 1, 3) := dk_132 1 1 (dk_at dksJ5_inflate_1 0 rfl rfl)
theorem dJ5_inflate_27 : decode cJ5_inflate 27 = .ok (.baload, 1) := dk_51 (dk_at dksJ5_inflate_1 3 rfl rfl)
theorem dJ5_inflate_28 : decode cJ5_inflate 28 = .ok (.sipush 255, 3) := dk_17 0 255 (dk_at dksJ5_inflate_1 4 rfl rfl)
theorem dJ5_inflate_31 : decode cJ5_inflate 31 = .ok (.iand, 1) := dk_126 (dk_at dksJ5_inflate_1 7 rfl rfl)
theorem dJ5_inflate_32 : decode cJ5_inflate 32 = .ok (.invokestatic 111, 3) := dk_184 0 111 (dk_at dksJ5_inflate_1 8 rfl rfl)
theorem dJ5_inflate_35 : decode cJ5_inflate 35 = .ok (.iinc 5 1, 3) := dk_132 5 1 (dk_at dksJ5_inflate_1 11 rfl rfl)
theorem dJ5_inflate_38 : decode cJ5_inflate 38 = .ok (.goto (-28), 3) := dk_167 255 228 (dk_at dksJ5_inflate_1 14 rfl rfl)
theorem dJ5_inflate_41 : decode cJ5_inflate 41 = .ok (.return_, 1) := dk_177 (dk_at dksJ5_inflate_1 17 rfl rfl)
abbrev cJ5_checkBoundsOffCount : ByteArray := prog_48_method_94_code
def yJ5_checkBoundsOffCount : MethodName := ⟨RJ5, "checkBoundsOffCount", "(II[B)V"⟩
def dkwJ5_checkBoundsOffCount_0 : List UInt8 := [26, 27, 44, 184, 0, 48, 184, 1, 163, 87, 177]
abbrev dktJ5_checkBoundsOffCount_0 : List UInt8 := dkwJ5_checkBoundsOffCount_0 ++ []
theorem dksJ5_checkBoundsOffCount_0 : cJ5_checkBoundsOffCount.data.toList.drop 0 = dktJ5_checkBoundsOffCount_0 := by decide +kernel
theorem dJ5_checkBoundsOffCount_0 : decode cJ5_checkBoundsOffCount 0 = .ok (.iload_n 0, 1) := dk_26 (dk_at dksJ5_checkBoundsOffCount_0 0 rfl rfl)
theorem dJ5_checkBoundsOffCount_1 : decode cJ5_checkBoundsOffCount 1 = .ok (.iload_n 1, 1) := dk_27 (dk_at dksJ5_checkBoundsOffCount_0 1 rfl rfl)
theorem dJ5_checkBoundsOffCount_2 : decode cJ5_checkBoundsOffCount 2 = .ok (.aload_n 2, 1) := dk_44 (dk_at dksJ5_checkBoundsOffCount_0 2 rfl rfl)
theorem dJ5_checkBoundsOffCount_3 : decode cJ5_checkBoundsOffCount 3 = .ok (.invokestatic 48, 3) := dk_184 0 48 (dk_at dksJ5_checkBoundsOffCount_0 3 rfl rfl)
theorem dJ5_checkBoundsOffCount_6 : decode cJ5_checkBoundsOffCount 6 = .ok (.invokestatic 419, 3) := dk_184 1 163 (dk_at dksJ5_checkBoundsOffCount_0 6 rfl rfl)
theorem dJ5_checkBoundsOffCount_9 : decode cJ5_checkBoundsOffCount 9 = .ok (.pop, 1) := dk_87 (dk_at dksJ5_checkBoundsOffCount_0 9 rfl rfl)
theorem dJ5_checkBoundsOffCount_10 : decode cJ5_checkBoundsOffCount 10 = .ok (.return_, 1) := dk_177 (dk_at dksJ5_checkBoundsOffCount_0 10 rfl rfl)
abbrev cJ5_length : ByteArray := prog_48_method_6_code
def yJ5_length : MethodName := ⟨RJ5, "length", "([B)I"⟩
def dkwJ5_length_0 : List UInt8 := [42, 190, 4, 122, 172]
abbrev dktJ5_length_0 : List UInt8 := dkwJ5_length_0 ++ []
theorem dksJ5_length_0 : cJ5_length.data.toList.drop 0 = dktJ5_length_0 := by decide +kernel
theorem dJ5_length_0 : decode cJ5_length 0 = .ok (.aload_n 0, 1) := dk_42 (dk_at dksJ5_length_0 0 rfl rfl)
theorem dJ5_length_1 : decode cJ5_length 1 = .ok (.arraylength, 1) := dk_190 (dk_at dksJ5_length_0 1 rfl rfl)
theorem dJ5_length_2 : decode cJ5_length 2 = .ok (.iconst 1, 1) := dk_4 (dk_at dksJ5_length_0 2 rfl rfl)
theorem dJ5_length_3 : decode cJ5_length 3 = .ok (.ishr, 1) := dk_122 (dk_at dksJ5_length_0 3 rfl rfl)
theorem dJ5_length_4 : decode cJ5_length 4 = .ok (.ireturn, 1) := dk_172 (dk_at dksJ5_length_0 4 rfl rfl)
abbrev cJ5_putChar : ByteArray := prog_48_method_4_code
def yJ5_putChar : MethodName := ⟨RJ5, "putChar", "([BII)V"⟩
def dkwJ5_putChar_2 : List UInt8 := [178, 0, 63, 122, 145, 84, 177]
abbrev dktJ5_putChar_2 : List UInt8 := dkwJ5_putChar_2 ++ []
def dkwJ5_putChar_1 : List UInt8 := [183, 0, 56, 191, 27, 4, 120, 60, 42, 27, 132, 1, 1, 28, 178, 0, 59, 122, 145, 84, 42, 27, 28]
abbrev dktJ5_putChar_1 : List UInt8 := dkwJ5_putChar_1 ++ dktJ5_putChar_2
def dkwJ5_putChar_0 : List UInt8 := [178, 0, 44, 154, 0, 25, 27, 155, 0, 11, 27, 42, 184, 0, 48, 161, 0, 13, 187, 0, 52, 89, 18, 54]
abbrev dktJ5_putChar_0 : List UInt8 := dkwJ5_putChar_0 ++ dktJ5_putChar_1
theorem dksJ5_putChar_0 : cJ5_putChar.data.toList.drop 0 = dktJ5_putChar_0 := by decide +kernel
theorem dksJ5_putChar_1 : cJ5_putChar.data.toList.drop 24 = dktJ5_putChar_1 := dk_seg dksJ5_putChar_0 24 rfl rfl
theorem dksJ5_putChar_2 : cJ5_putChar.data.toList.drop 47 = dktJ5_putChar_2 := dk_seg dksJ5_putChar_1 23 rfl rfl
theorem dJ5_putChar_0 : decode cJ5_putChar 0 = .ok (.getstatic 44, 3) := dk_178 0 44 (dk_at dksJ5_putChar_0 0 rfl rfl)
theorem dJ5_putChar_3 : decode cJ5_putChar 3 = .ok (.ifCond .ne 25, 3) := dk_154 0 25 (dk_at dksJ5_putChar_0 3 rfl rfl)
theorem dJ5_putChar_6 : decode cJ5_putChar 6 = .ok (.iload_n 1, 1) := dk_27 (dk_at dksJ5_putChar_0 6 rfl rfl)
theorem dJ5_putChar_7 : decode cJ5_putChar 7 = .ok (.ifCond .lt 11, 3) := dk_155 0 11 (dk_at dksJ5_putChar_0 7 rfl rfl)
theorem dJ5_putChar_10 : decode cJ5_putChar 10 = .ok (.iload_n 1, 1) := dk_27 (dk_at dksJ5_putChar_0 10 rfl rfl)
theorem dJ5_putChar_11 : decode cJ5_putChar 11 = .ok (.aload_n 0, 1) := dk_42 (dk_at dksJ5_putChar_0 11 rfl rfl)
theorem dJ5_putChar_12 : decode cJ5_putChar 12 = .ok (.invokestatic 48, 3) := dk_184 0 48 (dk_at dksJ5_putChar_0 12 rfl rfl)
theorem dJ5_putChar_15 : decode cJ5_putChar 15 = .ok (.if_icmp .lt 13, 3) := dk_161 0 13 (dk_at dksJ5_putChar_0 15 rfl rfl)
theorem dJ5_putChar_18 : decode cJ5_putChar 18 = .ok (.new 52, 3) := dk_187 0 52 (dk_at dksJ5_putChar_0 18 rfl rfl)
theorem dJ5_putChar_21 : decode cJ5_putChar 21 = .ok (.dup, 1) := dk_89 (dk_at dksJ5_putChar_0 21 rfl rfl)
theorem dJ5_putChar_22 : decode cJ5_putChar 22 = .ok (.ldc 54, 2) := dk_18 54 (dk_at dksJ5_putChar_0 22 rfl rfl)
theorem dJ5_putChar_24 : decode cJ5_putChar 24 = .ok (.invokespecial 56, 3) := dk_183 0 56 (dk_at dksJ5_putChar_1 0 rfl rfl)
theorem dJ5_putChar_27 : decode cJ5_putChar 27 = .ok (.athrow, 1) := dk_191 (dk_at dksJ5_putChar_1 3 rfl rfl)
theorem dJ5_putChar_28 : decode cJ5_putChar 28 = .ok (.iload_n 1, 1) := dk_27 (dk_at dksJ5_putChar_1 4 rfl rfl)
theorem dJ5_putChar_29 : decode cJ5_putChar 29 = .ok (.iconst 1, 1) := dk_4 (dk_at dksJ5_putChar_1 5 rfl rfl)
theorem dJ5_putChar_30 : decode cJ5_putChar 30 = .ok (.ishl, 1) := dk_120 (dk_at dksJ5_putChar_1 6 rfl rfl)
theorem dJ5_putChar_31 : decode cJ5_putChar 31 = .ok (.istore_n 1, 1) := dk_60 (dk_at dksJ5_putChar_1 7 rfl rfl)
theorem dJ5_putChar_32 : decode cJ5_putChar 32 = .ok (.aload_n 0, 1) := dk_42 (dk_at dksJ5_putChar_1 8 rfl rfl)
theorem dJ5_putChar_33 : decode cJ5_putChar 33 = .ok (.iload_n 1, 1) := dk_27 (dk_at dksJ5_putChar_1 9 rfl rfl)
theorem dJ5_putChar_34 : decode cJ5_putChar 34 = .ok (.iinc 1 1, 3) := dk_132 1 1 (dk_at dksJ5_putChar_1 10 rfl rfl)
theorem dJ5_putChar_37 : decode cJ5_putChar 37 = .ok (.iload_n 2, 1) := dk_28 (dk_at dksJ5_putChar_1 13 rfl rfl)
theorem dJ5_putChar_38 : decode cJ5_putChar 38 = .ok (.getstatic 59, 3) := dk_178 0 59 (dk_at dksJ5_putChar_1 14 rfl rfl)
theorem dJ5_putChar_41 : decode cJ5_putChar 41 = .ok (.ishr, 1) := dk_122 (dk_at dksJ5_putChar_1 17 rfl rfl)
theorem dJ5_putChar_42 : decode cJ5_putChar 42 = .ok (.i2b, 1) := dk_145 (dk_at dksJ5_putChar_1 18 rfl rfl)
theorem dJ5_putChar_43 : decode cJ5_putChar 43 = .ok (.bastore, 1) := dk_84 (dk_at dksJ5_putChar_1 19 rfl rfl)
theorem dJ5_putChar_44 : decode cJ5_putChar 44 = .ok (.aload_n 0, 1) := dk_42 (dk_at dksJ5_putChar_1 20 rfl rfl)
theorem dJ5_putChar_45 : decode cJ5_putChar 45 = .ok (.iload_n 1, 1) := dk_27 (dk_at dksJ5_putChar_1 21 rfl rfl)
theorem dJ5_putChar_46 : decode cJ5_putChar 46 = .ok (.iload_n 2, 1) := dk_28 (dk_at dksJ5_putChar_1 22 rfl rfl)
theorem dJ5_putChar_47 : decode cJ5_putChar 47 = .ok (.getstatic 63, 3) := dk_178 0 63 (dk_at dksJ5_putChar_2 0 rfl rfl)
theorem dJ5_putChar_50 : decode cJ5_putChar 50 = .ok (.ishr, 1) := dk_122 (dk_at dksJ5_putChar_2 3 rfl rfl)
theorem dJ5_putChar_51 : decode cJ5_putChar 51 = .ok (.i2b, 1) := dk_145 (dk_at dksJ5_putChar_2 4 rfl rfl)
theorem dJ5_putChar_52 : decode cJ5_putChar 52 = .ok (.bastore, 1) := dk_84 (dk_at dksJ5_putChar_2 5 rfl rfl)
theorem dJ5_putChar_53 : decode cJ5_putChar 53 = .ok (.return_, 1) := dk_177 (dk_at dksJ5_putChar_2 6 rfl rfl)
abbrev cJ5_putCharSB : ByteArray := prog_48_method_71_code
def yJ5_putCharSB : MethodName := ⟨RJ5, "putCharSB", "([BII)V"⟩
def dkwJ5_putCharSB_0 : List UInt8 := [27, 42, 184, 0, 67, 42, 27, 28, 184, 0, 111, 177]
abbrev dktJ5_putCharSB_0 : List UInt8 := dkwJ5_putCharSB_0 ++ []
theorem dksJ5_putCharSB_0 : cJ5_putCharSB.data.toList.drop 0 = dktJ5_putCharSB_0 := by decide +kernel
theorem dJ5_putCharSB_0 : decode cJ5_putCharSB 0 = .ok (.iload_n 1, 1) := dk_27 (dk_at dksJ5_putCharSB_0 0 rfl rfl)
theorem dJ5_putCharSB_1 : decode cJ5_putCharSB 1 = .ok (.aload_n 0, 1) := dk_42 (dk_at dksJ5_putCharSB_0 1 rfl rfl)
theorem dJ5_putCharSB_2 : decode cJ5_putCharSB 2 = .ok (.invokestatic 67, 3) := dk_184 0 67 (dk_at dksJ5_putCharSB_0 2 rfl rfl)
theorem dJ5_putCharSB_5 : decode cJ5_putCharSB 5 = .ok (.aload_n 0, 1) := dk_42 (dk_at dksJ5_putCharSB_0 5 rfl rfl)
theorem dJ5_putCharSB_6 : decode cJ5_putCharSB 6 = .ok (.iload_n 1, 1) := dk_27 (dk_at dksJ5_putCharSB_0 6 rfl rfl)
theorem dJ5_putCharSB_7 : decode cJ5_putCharSB 7 = .ok (.iload_n 2, 1) := dk_28 (dk_at dksJ5_putCharSB_0 7 rfl rfl)
theorem dJ5_putCharSB_8 : decode cJ5_putCharSB 8 = .ok (.invokestatic 111, 3) := dk_184 0 111 (dk_at dksJ5_putCharSB_0 8 rfl rfl)
theorem dJ5_putCharSB_11 : decode cJ5_putCharSB 11 = .ok (.return_, 1) := dk_177 (dk_at dksJ5_putCharSB_0 11 rfl rfl)
abbrev cJ5_checkIndex : ByteArray := prog_48_method_91_code
def yJ5_checkIndex : MethodName := ⟨RJ5, "checkIndex", "(I[B)V"⟩
def dkwJ5_checkIndex_0 : List UInt8 := [26, 43, 184, 0, 48, 184, 1, 158, 177]
abbrev dktJ5_checkIndex_0 : List UInt8 := dkwJ5_checkIndex_0 ++ []
theorem dksJ5_checkIndex_0 : cJ5_checkIndex.data.toList.drop 0 = dktJ5_checkIndex_0 := by decide +kernel
theorem dJ5_checkIndex_0 : decode cJ5_checkIndex 0 = .ok (.iload_n 0, 1) := dk_26 (dk_at dksJ5_checkIndex_0 0 rfl rfl)
theorem dJ5_checkIndex_1 : decode cJ5_checkIndex 1 = .ok (.aload_n 1, 1) := dk_43 (dk_at dksJ5_checkIndex_0 1 rfl rfl)
theorem dJ5_checkIndex_2 : decode cJ5_checkIndex 2 = .ok (.invokestatic 48, 3) := dk_184 0 48 (dk_at dksJ5_checkIndex_0 2 rfl rfl)
theorem dJ5_checkIndex_5 : decode cJ5_checkIndex 5 = .ok (.invokestatic 414, 3) := dk_184 1 158 (dk_at dksJ5_checkIndex_0 5 rfl rfl)
theorem dJ5_checkIndex_8 : decode cJ5_checkIndex 8 = .ok (.return_, 1) := dk_177 (dk_at dksJ5_checkIndex_0 8 rfl rfl)
abbrev cJ5_compress : ByteArray := prog_48_method_17_code
def yJ5_compress : MethodName := ⟨RJ5, "compress", "([BII)[B"⟩
def dkwJ5_compress_2 : List UInt8 := [25, 5, 3, 45, 3, 28, 184, 0, 123, 28, 159, 0, 6, 25, 5, 176, 45, 176]
abbrev dktJ5_compress_2 : List UInt8 := dkwJ5_compress_2 ++ []
def dkwJ5_compress_1 : List UInt8 := [27, 28, 96, 184, 0, 11, 184, 0, 126, 58, 5, 25, 5, 21, 4, 184, 0, 71, 17, 0, 255, 163, 0, 16]
abbrev dktJ5_compress_1 : List UInt8 := dkwJ5_compress_1 ++ dktJ5_compress_2
def dkwJ5_compress_0 : List UInt8 := [28, 188, 8, 78, 42, 27, 45, 3, 28, 184, 0, 123, 54, 4, 21, 4, 28, 159, 0, 47, 42, 27, 4, 120]
abbrev dktJ5_compress_0 : List UInt8 := dkwJ5_compress_0 ++ dktJ5_compress_1
theorem dksJ5_compress_0 : cJ5_compress.data.toList.drop 0 = dktJ5_compress_0 := by decide +kernel
theorem dksJ5_compress_1 : cJ5_compress.data.toList.drop 24 = dktJ5_compress_1 := dk_seg dksJ5_compress_0 24 rfl rfl
theorem dksJ5_compress_2 : cJ5_compress.data.toList.drop 48 = dktJ5_compress_2 := dk_seg dksJ5_compress_1 24 rfl rfl
theorem dJ5_compress_0 : decode cJ5_compress 0 = .ok (.iload_n 2, 1) := dk_28 (dk_at dksJ5_compress_0 0 rfl rfl)
theorem dJ5_compress_1 : decode cJ5_compress 1 = .ok (.newarray .byte, 2) := dk_188_8 (dk_at dksJ5_compress_0 1 rfl rfl)
theorem dJ5_compress_3 : decode cJ5_compress 3 = .ok (.astore_n 3, 1) := dk_78 (dk_at dksJ5_compress_0 3 rfl rfl)
theorem dJ5_compress_4 : decode cJ5_compress 4 = .ok (.aload_n 0, 1) := dk_42 (dk_at dksJ5_compress_0 4 rfl rfl)
theorem dJ5_compress_5 : decode cJ5_compress 5 = .ok (.iload_n 1, 1) := dk_27 (dk_at dksJ5_compress_0 5 rfl rfl)
theorem dJ5_compress_6 : decode cJ5_compress 6 = .ok (.aload_n 3, 1) := dk_45 (dk_at dksJ5_compress_0 6 rfl rfl)
theorem dJ5_compress_7 : decode cJ5_compress 7 = .ok (.iconst 0, 1) := dk_3 (dk_at dksJ5_compress_0 7 rfl rfl)
theorem dJ5_compress_8 : decode cJ5_compress 8 = .ok (.iload_n 2, 1) := dk_28 (dk_at dksJ5_compress_0 8 rfl rfl)
theorem dJ5_compress_9 : decode cJ5_compress 9 = .ok (.invokestatic 123, 3) := dk_184 0 123 (dk_at dksJ5_compress_0 9 rfl rfl)
theorem dJ5_compress_12 : decode cJ5_compress 12 = .ok (.istore 4, 2) := dk_54 4 (dk_at dksJ5_compress_0 12 rfl rfl)
theorem dJ5_compress_14 : decode cJ5_compress 14 = .ok (.iload 4, 2) := dk_21 4 (dk_at dksJ5_compress_0 14 rfl rfl)
theorem dJ5_compress_16 : decode cJ5_compress 16 = .ok (.iload_n 2, 1) := dk_28 (dk_at dksJ5_compress_0 16 rfl rfl)
theorem dJ5_compress_17 : decode cJ5_compress 17 = .ok (.if_icmp .eq 47, 3) := dk_159 0 47 (dk_at dksJ5_compress_0 17 rfl rfl)
theorem dJ5_compress_20 : decode cJ5_compress 20 = .ok (.aload_n 0, 1) := dk_42 (dk_at dksJ5_compress_0 20 rfl rfl)
theorem dJ5_compress_21 : decode cJ5_compress 21 = .ok (.iload_n 1, 1) := dk_27 (dk_at dksJ5_compress_0 21 rfl rfl)
theorem dJ5_compress_22 : decode cJ5_compress 22 = .ok (.iconst 1, 1) := dk_4 (dk_at dksJ5_compress_0 22 rfl rfl)
theorem dJ5_compress_23 : decode cJ5_compress 23 = .ok (.ishl, 1) := dk_120 (dk_at dksJ5_compress_0 23 rfl rfl)
theorem dJ5_compress_24 : decode cJ5_compress 24 = .ok (.iload_n 1, 1) := dk_27 (dk_at dksJ5_compress_1 0 rfl rfl)
theorem dJ5_compress_25 : decode cJ5_compress 25 = .ok (.iload_n 2, 1) := dk_28 (dk_at dksJ5_compress_1 1 rfl rfl)
theorem dJ5_compress_26 : decode cJ5_compress 26 = .ok (.iadd, 1) := dk_96 (dk_at dksJ5_compress_1 2 rfl rfl)
theorem dJ5_compress_27 : decode cJ5_compress 27 = .ok (.invokestatic 11, 3) := dk_184 0 11 (dk_at dksJ5_compress_1 3 rfl rfl)
theorem dJ5_compress_30 : decode cJ5_compress 30 = .ok (.invokestatic 126, 3) := dk_184 0 126 (dk_at dksJ5_compress_1 6 rfl rfl)
theorem dJ5_compress_33 : decode cJ5_compress 33 = .ok (.astore 5, 2) := dk_58 5 (dk_at dksJ5_compress_1 9 rfl rfl)
theorem dJ5_compress_35 : decode cJ5_compress 35 = .ok (.aload 5, 2) := dk_25 5 (dk_at dksJ5_compress_1 11 rfl rfl)
theorem dJ5_compress_37 : decode cJ5_compress 37 = .ok (.iload 4, 2) := dk_21 4 (dk_at dksJ5_compress_1 13 rfl rfl)
theorem dJ5_compress_39 : decode cJ5_compress 39 = .ok (.invokestatic 71, 3) := dk_184 0 71 (dk_at dksJ5_compress_1 15 rfl rfl)
theorem dJ5_compress_42 : decode cJ5_compress 42 = .ok (.sipush 255, 3) := dk_17 0 255 (dk_at dksJ5_compress_1 18 rfl rfl)
theorem dJ5_compress_45 : decode cJ5_compress 45 = .ok (.if_icmp .gt 16, 3) := dk_163 0 16 (dk_at dksJ5_compress_1 21 rfl rfl)
theorem dJ5_compress_48 : decode cJ5_compress 48 = .ok (.aload 5, 2) := dk_25 5 (dk_at dksJ5_compress_2 0 rfl rfl)
theorem dJ5_compress_50 : decode cJ5_compress 50 = .ok (.iconst 0, 1) := dk_3 (dk_at dksJ5_compress_2 2 rfl rfl)
theorem dJ5_compress_51 : decode cJ5_compress 51 = .ok (.aload_n 3, 1) := dk_45 (dk_at dksJ5_compress_2 3 rfl rfl)
theorem dJ5_compress_52 : decode cJ5_compress 52 = .ok (.iconst 0, 1) := dk_3 (dk_at dksJ5_compress_2 4 rfl rfl)
theorem dJ5_compress_53 : decode cJ5_compress 53 = .ok (.iload_n 2, 1) := dk_28 (dk_at dksJ5_compress_2 5 rfl rfl)
theorem dJ5_compress_54 : decode cJ5_compress 54 = .ok (.invokestatic 123, 3) := dk_184 0 123 (dk_at dksJ5_compress_2 6 rfl rfl)
theorem dJ5_compress_57 : decode cJ5_compress 57 = .ok (.iload_n 2, 1) := dk_28 (dk_at dksJ5_compress_2 9 rfl rfl)
theorem dJ5_compress_58 : decode cJ5_compress 58 = .ok (.if_icmp .eq 6, 3) := dk_159 0 6 (dk_at dksJ5_compress_2 10 rfl rfl)
theorem dJ5_compress_61 : decode cJ5_compress 61 = .ok (.aload 5, 2) := dk_25 5 (dk_at dksJ5_compress_2 13 rfl rfl)
theorem dJ5_compress_63 : decode cJ5_compress 63 = .ok (.areturn, 1) := dk_176 (dk_at dksJ5_compress_2 15 rfl rfl)
theorem dJ5_compress_64 : decode cJ5_compress 64 = .ok (.aload_n 3, 1) := dk_45 (dk_at dksJ5_compress_2 16 rfl rfl)
theorem dJ5_compress_65 : decode cJ5_compress 65 = .ok (.areturn, 1) := dk_176 (dk_at dksJ5_compress_2 17 rfl rfl)
abbrev cJ5_compress_2 : ByteArray := prog_48_method_22_code
def yJ5_compress_2 : MethodName := ⟨RJ5, "compress", "([BI[BII)I"⟩
def dkwJ5_compress_2_2 : List UInt8 := [132, 5, 1, 167, 255, 216, 21, 4, 172]
abbrev dktJ5_compress_2_2 : List UInt8 := dkwJ5_compress_2_2 ++ []
def dkwJ5_compress_2_1 : List UInt8 := [21, 6, 17, 0, 255, 164, 0, 6, 21, 5, 172, 44, 29, 21, 6, 145, 84, 132, 1, 1, 132, 3, 1]
abbrev dktJ5_compress_2_1 : List UInt8 := dkwJ5_compress_2_1 ++ dktJ5_compress_2_2
def dkwJ5_compress_2_0 : List UInt8 := [27, 21, 4, 42, 184, 0, 173, 3, 54, 5, 21, 5, 21, 4, 162, 0, 39, 42, 27, 184, 0, 71, 54, 6]
abbrev dktJ5_compress_2_0 : List UInt8 := dkwJ5_compress_2_0 ++ dktJ5_compress_2_1
theorem dksJ5_compress_2_0 : cJ5_compress_2.data.toList.drop 0 = dktJ5_compress_2_0 := by decide +kernel
theorem dksJ5_compress_2_1 : cJ5_compress_2.data.toList.drop 24 = dktJ5_compress_2_1 := dk_seg dksJ5_compress_2_0 24 rfl rfl
theorem dksJ5_compress_2_2 : cJ5_compress_2.data.toList.drop 47 = dktJ5_compress_2_2 := dk_seg dksJ5_compress_2_1 23 rfl rfl
theorem dJ5_compress_2_0 : decode cJ5_compress_2 0 = .ok (.iload_n 1, 1) := dk_27 (dk_at dksJ5_compress_2_0 0 rfl rfl)
theorem dJ5_compress_2_1 : decode cJ5_compress_2 1 = .ok (.iload 4, 2) := dk_21 4 (dk_at dksJ5_compress_2_0 1 rfl rfl)
theorem dJ5_compress_2_3 : decode cJ5_compress_2 3 = .ok (.aload_n 0, 1) := dk_42 (dk_at dksJ5_compress_2_0 3 rfl rfl)
theorem dJ5_compress_2_4 : decode cJ5_compress_2 4 = .ok (.invokestatic 173, 3) := dk_184 0 173 (dk_at dksJ5_compress_2_0 4 rfl rfl)
theorem dJ5_compress_2_7 : decode cJ5_compress_2 7 = .ok (.iconst 0, 1) := dk_3 (dk_at dksJ5_compress_2_0 7 rfl rfl)
theorem dJ5_compress_2_8 : decode cJ5_compress_2 8 = .ok (.istore 5, 2) := dk_54 5 (dk_at dksJ5_compress_2_0 8 rfl rfl)
theorem dJ5_compress_2_10 : decode cJ5_compress_2 10 = .ok (.iload 5, 2) := dk_21 5 (dk_at dksJ5_compress_2_0 10 rfl rfl)
theorem dJ5_compress_2_12 : decode cJ5_compress_2 12 = .ok (.iload 4, 2) := dk_21 4 (dk_at dksJ5_compress_2_0 12 rfl rfl)
theorem dJ5_compress_2_14 : decode cJ5_compress_2 14 = .ok (.if_icmp .ge 39, 3) := dk_162 0 39 (dk_at dksJ5_compress_2_0 14 rfl rfl)
theorem dJ5_compress_2_17 : decode cJ5_compress_2 17 = .ok (.aload_n 0, 1) := dk_42 (dk_at dksJ5_compress_2_0 17 rfl rfl)
theorem dJ5_compress_2_18 : decode cJ5_compress_2 18 = .ok (.iload_n 1, 1) := dk_27 (dk_at dksJ5_compress_2_0 18 rfl rfl)
theorem dJ5_compress_2_19 : decode cJ5_compress_2 19 = .ok (.invokestatic 71, 3) := dk_184 0 71 (dk_at dksJ5_compress_2_0 19 rfl rfl)
theorem dJ5_compress_2_22 : decode cJ5_compress_2 22 = .ok (.istore 6, 2) := dk_54 6 (dk_at dksJ5_compress_2_0 22 rfl rfl)
theorem dJ5_compress_2_24 : decode cJ5_compress_2 24 = .ok (.iload 6, 2) := dk_21 6 (dk_at dksJ5_compress_2_1 0 rfl rfl)
theorem dJ5_compress_2_26 : decode cJ5_compress_2 26 = .ok (.sipush 255, 3) := dk_17 0 255 (dk_at dksJ5_compress_2_1 2 rfl rfl)
theorem dJ5_compress_2_29 : decode cJ5_compress_2 29 = .ok (.if_icmp .le 6, 3) := dk_164 0 6 (dk_at dksJ5_compress_2_1 5 rfl rfl)
theorem dJ5_compress_2_32 : decode cJ5_compress_2 32 = .ok (.iload 5, 2) := dk_21 5 (dk_at dksJ5_compress_2_1 8 rfl rfl)
theorem dJ5_compress_2_34 : decode cJ5_compress_2 34 = .ok (.ireturn, 1) := dk_172 (dk_at dksJ5_compress_2_1 10 rfl rfl)
theorem dJ5_compress_2_35 : decode cJ5_compress_2 35 = .ok (.aload_n 2, 1) := dk_44 (dk_at dksJ5_compress_2_1 11 rfl rfl)
theorem dJ5_compress_2_36 : decode cJ5_compress_2 36 = .ok (.iload_n 3, 1) := dk_29 (dk_at dksJ5_compress_2_1 12 rfl rfl)
theorem dJ5_compress_2_37 : decode cJ5_compress_2 37 = .ok (.iload 6, 2) := dk_21 6 (dk_at dksJ5_compress_2_1 13 rfl rfl)
theorem dJ5_compress_2_39 : decode cJ5_compress_2 39 = .ok (.i2b, 1) := dk_145 (dk_at dksJ5_compress_2_1 15 rfl rfl)
theorem dJ5_compress_2_40 : decode cJ5_compress_2 40 = .ok (.bastore, 1) := dk_84 (dk_at dksJ5_compress_2_1 16 rfl rfl)
theorem dJ5_compress_2_41 : decode cJ5_compress_2 41 = .ok (.iinc 1 1, 3) := dk_132 1 1 (dk_at dksJ5_compress_2_1 17 rfl rfl)
theorem dJ5_compress_2_44 : decode cJ5_compress_2 44 = .ok (.iinc 3 1, 3) := dk_132 3 1 (dk_at dksJ5_compress_2_1 20 rfl rfl)
theorem dJ5_compress_2_47 : decode cJ5_compress_2 47 = .ok (.iinc 5 1, 3) := dk_132 5 1 (dk_at dksJ5_compress_2_2 0 rfl rfl)
theorem dJ5_compress_2_50 : decode cJ5_compress_2 50 = .ok (.goto (-40), 3) := dk_167 255 216 (dk_at dksJ5_compress_2_2 3 rfl rfl)
theorem dJ5_compress_2_53 : decode cJ5_compress_2 53 = .ok (.iload 4, 2) := dk_21 4 (dk_at dksJ5_compress_2_2 6 rfl rfl)
theorem dJ5_compress_2_55 : decode cJ5_compress_2 55 = .ok (.ireturn, 1) := dk_172 (dk_at dksJ5_compress_2_2 8 rfl rfl)
abbrev cJ5_getChar : ByteArray := prog_48_method_5_code
def yJ5_getChar : MethodName := ⟨RJ5, "getChar", "([BI)C"⟩
def dkwJ5_getChar_2 : List UInt8 := [51, 17, 0, 255, 126, 178, 0, 63, 120, 128, 146, 172]
abbrev dktJ5_getChar_2 : List UInt8 := dkwJ5_getChar_2 ++ []
def dkwJ5_getChar_1 : List UInt8 := [183, 0, 56, 191, 27, 4, 120, 60, 42, 27, 132, 1, 1, 51, 17, 0, 255, 126, 178, 0, 59, 120, 42, 27]
abbrev dktJ5_getChar_1 : List UInt8 := dkwJ5_getChar_1 ++ dktJ5_getChar_2
def dkwJ5_getChar_0 : List UInt8 := [178, 0, 44, 154, 0, 25, 27, 155, 0, 11, 27, 42, 184, 0, 48, 161, 0, 13, 187, 0, 52, 89, 18, 54]
abbrev dktJ5_getChar_0 : List UInt8 := dkwJ5_getChar_0 ++ dktJ5_getChar_1
theorem dksJ5_getChar_0 : cJ5_getChar.data.toList.drop 0 = dktJ5_getChar_0 := by decide +kernel
theorem dksJ5_getChar_1 : cJ5_getChar.data.toList.drop 24 = dktJ5_getChar_1 := dk_seg dksJ5_getChar_0 24 rfl rfl
theorem dksJ5_getChar_2 : cJ5_getChar.data.toList.drop 48 = dktJ5_getChar_2 := dk_seg dksJ5_getChar_1 24 rfl rfl
theorem dJ5_getChar_0 : decode cJ5_getChar 0 = .ok (.getstatic 44, 3) := dk_178 0 44 (dk_at dksJ5_getChar_0 0 rfl rfl)
theorem dJ5_getChar_3 : decode cJ5_getChar 3 = .ok (.ifCond .ne 25, 3) := dk_154 0 25 (dk_at dksJ5_getChar_0 3 rfl rfl)
theorem dJ5_getChar_6 : decode cJ5_getChar 6 = .ok (.iload_n 1, 1) := dk_27 (dk_at dksJ5_getChar_0 6 rfl rfl)
theorem dJ5_getChar_7 : decode cJ5_getChar 7 = .ok (.ifCond .lt 11, 3) := dk_155 0 11 (dk_at dksJ5_getChar_0 7 rfl rfl)
theorem dJ5_getChar_10 : decode cJ5_getChar 10 = .ok (.iload_n 1, 1) := dk_27 (dk_at dksJ5_getChar_0 10 rfl rfl)
theorem dJ5_getChar_11 : decode cJ5_getChar 11 = .ok (.aload_n 0, 1) := dk_42 (dk_at dksJ5_getChar_0 11 rfl rfl)
theorem dJ5_getChar_12 : decode cJ5_getChar 12 = .ok (.invokestatic 48, 3) := dk_184 0 48 (dk_at dksJ5_getChar_0 12 rfl rfl)
theorem dJ5_getChar_15 : decode cJ5_getChar 15 = .ok (.if_icmp .lt 13, 3) := dk_161 0 13 (dk_at dksJ5_getChar_0 15 rfl rfl)
theorem dJ5_getChar_18 : decode cJ5_getChar 18 = .ok (.new 52, 3) := dk_187 0 52 (dk_at dksJ5_getChar_0 18 rfl rfl)
theorem dJ5_getChar_21 : decode cJ5_getChar 21 = .ok (.dup, 1) := dk_89 (dk_at dksJ5_getChar_0 21 rfl rfl)
theorem dJ5_getChar_22 : decode cJ5_getChar 22 = .ok (.ldc 54, 2) := dk_18 54 (dk_at dksJ5_getChar_0 22 rfl rfl)
theorem dJ5_getChar_24 : decode cJ5_getChar 24 = .ok (.invokespecial 56, 3) := dk_183 0 56 (dk_at dksJ5_getChar_1 0 rfl rfl)
theorem dJ5_getChar_27 : decode cJ5_getChar 27 = .ok (.athrow, 1) := dk_191 (dk_at dksJ5_getChar_1 3 rfl rfl)
theorem dJ5_getChar_28 : decode cJ5_getChar 28 = .ok (.iload_n 1, 1) := dk_27 (dk_at dksJ5_getChar_1 4 rfl rfl)
theorem dJ5_getChar_29 : decode cJ5_getChar 29 = .ok (.iconst 1, 1) := dk_4 (dk_at dksJ5_getChar_1 5 rfl rfl)
theorem dJ5_getChar_30 : decode cJ5_getChar 30 = .ok (.ishl, 1) := dk_120 (dk_at dksJ5_getChar_1 6 rfl rfl)
theorem dJ5_getChar_31 : decode cJ5_getChar 31 = .ok (.istore_n 1, 1) := dk_60 (dk_at dksJ5_getChar_1 7 rfl rfl)
theorem dJ5_getChar_32 : decode cJ5_getChar 32 = .ok (.aload_n 0, 1) := dk_42 (dk_at dksJ5_getChar_1 8 rfl rfl)
theorem dJ5_getChar_33 : decode cJ5_getChar 33 = .ok (.iload_n 1, 1) := dk_27 (dk_at dksJ5_getChar_1 9 rfl rfl)
theorem dJ5_getChar_34 : decode cJ5_getChar 34 = .ok (.iinc 1 1, 3) := dk_132 1 1 (dk_at dksJ5_getChar_1 10 rfl rfl)
theorem dJ5_getChar_37 : decode cJ5_getChar 37 = .ok (.baload, 1) := dk_51 (dk_at dksJ5_getChar_1 13 rfl rfl)
theorem dJ5_getChar_38 : decode cJ5_getChar 38 = .ok (.sipush 255, 3) := dk_17 0 255 (dk_at dksJ5_getChar_1 14 rfl rfl)
theorem dJ5_getChar_41 : decode cJ5_getChar 41 = .ok (.iand, 1) := dk_126 (dk_at dksJ5_getChar_1 17 rfl rfl)
theorem dJ5_getChar_42 : decode cJ5_getChar 42 = .ok (.getstatic 59, 3) := dk_178 0 59 (dk_at dksJ5_getChar_1 18 rfl rfl)
theorem dJ5_getChar_45 : decode cJ5_getChar 45 = .ok (.ishl, 1) := dk_120 (dk_at dksJ5_getChar_1 21 rfl rfl)
theorem dJ5_getChar_46 : decode cJ5_getChar 46 = .ok (.aload_n 0, 1) := dk_42 (dk_at dksJ5_getChar_1 22 rfl rfl)
theorem dJ5_getChar_47 : decode cJ5_getChar 47 = .ok (.iload_n 1, 1) := dk_27 (dk_at dksJ5_getChar_1 23 rfl rfl)
theorem dJ5_getChar_48 : decode cJ5_getChar 48 = .ok (.baload, 1) := dk_51 (dk_at dksJ5_getChar_2 0 rfl rfl)
theorem dJ5_getChar_49 : decode cJ5_getChar 49 = .ok (.sipush 255, 3) := dk_17 0 255 (dk_at dksJ5_getChar_2 1 rfl rfl)
theorem dJ5_getChar_52 : decode cJ5_getChar 52 = .ok (.iand, 1) := dk_126 (dk_at dksJ5_getChar_2 4 rfl rfl)
theorem dJ5_getChar_53 : decode cJ5_getChar 53 = .ok (.getstatic 63, 3) := dk_178 0 63 (dk_at dksJ5_getChar_2 5 rfl rfl)
theorem dJ5_getChar_56 : decode cJ5_getChar 56 = .ok (.ishl, 1) := dk_120 (dk_at dksJ5_getChar_2 8 rfl rfl)
theorem dJ5_getChar_57 : decode cJ5_getChar 57 = .ok (.ior, 1) := dk_128 (dk_at dksJ5_getChar_2 9 rfl rfl)
theorem dJ5_getChar_58 : decode cJ5_getChar 58 = .ok (.i2c, 1) := dk_146 (dk_at dksJ5_getChar_2 10 rfl rfl)
theorem dJ5_getChar_59 : decode cJ5_getChar 59 = .ok (.ireturn, 1) := dk_172 (dk_at dksJ5_getChar_2 11 rfl rfl)
abbrev cJ5_coderFromArrayLen : ByteArray := prog_48_method_15_code
def yJ5_coderFromArrayLen : MethodName := ⟨RJ5, "coderFromArrayLen", "([BI)B"⟩
def dkwJ5_coderFromArrayLen_0 : List UInt8 := [27, 42, 190, 100, 16, 31, 124, 145, 172]
abbrev dktJ5_coderFromArrayLen_0 : List UInt8 := dkwJ5_coderFromArrayLen_0 ++ []
theorem dksJ5_coderFromArrayLen_0 : cJ5_coderFromArrayLen.data.toList.drop 0 = dktJ5_coderFromArrayLen_0 := by decide +kernel
theorem dJ5_coderFromArrayLen_0 : decode cJ5_coderFromArrayLen 0 = .ok (.iload_n 1, 1) := dk_27 (dk_at dksJ5_coderFromArrayLen_0 0 rfl rfl)
theorem dJ5_coderFromArrayLen_1 : decode cJ5_coderFromArrayLen 1 = .ok (.aload_n 0, 1) := dk_42 (dk_at dksJ5_coderFromArrayLen_0 1 rfl rfl)
theorem dJ5_coderFromArrayLen_2 : decode cJ5_coderFromArrayLen 2 = .ok (.arraylength, 1) := dk_190 (dk_at dksJ5_coderFromArrayLen_0 2 rfl rfl)
theorem dJ5_coderFromArrayLen_3 : decode cJ5_coderFromArrayLen 3 = .ok (.isub, 1) := dk_100 (dk_at dksJ5_coderFromArrayLen_0 3 rfl rfl)
theorem dJ5_coderFromArrayLen_4 : decode cJ5_coderFromArrayLen 4 = .ok (.bipush 31, 2) := dk_16 31 (dk_at dksJ5_coderFromArrayLen_0 4 rfl rfl)
theorem dJ5_coderFromArrayLen_6 : decode cJ5_coderFromArrayLen 6 = .ok (.iushr, 1) := dk_124 (dk_at dksJ5_coderFromArrayLen_0 6 rfl rfl)
theorem dJ5_coderFromArrayLen_7 : decode cJ5_coderFromArrayLen 7 = .ok (.i2b, 1) := dk_145 (dk_at dksJ5_coderFromArrayLen_0 7 rfl rfl)
theorem dJ5_coderFromArrayLen_8 : decode cJ5_coderFromArrayLen 8 = .ok (.ireturn, 1) := dk_172 (dk_at dksJ5_coderFromArrayLen_0 8 rfl rfl)
abbrev cJ5_indexOf : ByteArray := prog_48_method_40_code
def yJ5_indexOf : MethodName := ⟨RJ5, "indexOf", "([BIII)I"⟩
def dkwJ5_indexOf_1 : List UInt8 := [18, 227, 162, 0, 11, 42, 27, 28, 29, 184, 0, 228, 172, 42, 27, 28, 29, 184, 0, 232, 172]
abbrev dktJ5_indexOf_1 : List UInt8 := dkwJ5_indexOf_1 ++ []
def dkwJ5_indexOf_0 : List UInt8 := [28, 3, 184, 0, 224, 61, 29, 42, 190, 4, 122, 184, 0, 183, 62, 28, 29, 161, 0, 5, 2, 172, 27]
abbrev dktJ5_indexOf_0 : List UInt8 := dkwJ5_indexOf_0 ++ dktJ5_indexOf_1
theorem dksJ5_indexOf_0 : cJ5_indexOf.data.toList.drop 0 = dktJ5_indexOf_0 := by decide +kernel
theorem dksJ5_indexOf_1 : cJ5_indexOf.data.toList.drop 23 = dktJ5_indexOf_1 := dk_seg dksJ5_indexOf_0 23 rfl rfl
theorem dJ5_indexOf_0 : decode cJ5_indexOf 0 = .ok (.iload_n 2, 1) := dk_28 (dk_at dksJ5_indexOf_0 0 rfl rfl)
theorem dJ5_indexOf_1 : decode cJ5_indexOf 1 = .ok (.iconst 0, 1) := dk_3 (dk_at dksJ5_indexOf_0 1 rfl rfl)
theorem dJ5_indexOf_2 : decode cJ5_indexOf 2 = .ok (.invokestatic 224, 3) := dk_184 0 224 (dk_at dksJ5_indexOf_0 2 rfl rfl)
theorem dJ5_indexOf_5 : decode cJ5_indexOf 5 = .ok (.istore_n 2, 1) := dk_61 (dk_at dksJ5_indexOf_0 5 rfl rfl)
theorem dJ5_indexOf_6 : decode cJ5_indexOf 6 = .ok (.iload_n 3, 1) := dk_29 (dk_at dksJ5_indexOf_0 6 rfl rfl)
theorem dJ5_indexOf_7 : decode cJ5_indexOf 7 = .ok (.aload_n 0, 1) := dk_42 (dk_at dksJ5_indexOf_0 7 rfl rfl)
theorem dJ5_indexOf_8 : decode cJ5_indexOf 8 = .ok (.arraylength, 1) := dk_190 (dk_at dksJ5_indexOf_0 8 rfl rfl)
theorem dJ5_indexOf_9 : decode cJ5_indexOf 9 = .ok (.iconst 1, 1) := dk_4 (dk_at dksJ5_indexOf_0 9 rfl rfl)
theorem dJ5_indexOf_10 : decode cJ5_indexOf 10 = .ok (.ishr, 1) := dk_122 (dk_at dksJ5_indexOf_0 10 rfl rfl)
theorem dJ5_indexOf_11 : decode cJ5_indexOf 11 = .ok (.invokestatic 183, 3) := dk_184 0 183 (dk_at dksJ5_indexOf_0 11 rfl rfl)
theorem dJ5_indexOf_14 : decode cJ5_indexOf 14 = .ok (.istore_n 3, 1) := dk_62 (dk_at dksJ5_indexOf_0 14 rfl rfl)
theorem dJ5_indexOf_15 : decode cJ5_indexOf 15 = .ok (.iload_n 2, 1) := dk_28 (dk_at dksJ5_indexOf_0 15 rfl rfl)
theorem dJ5_indexOf_16 : decode cJ5_indexOf 16 = .ok (.iload_n 3, 1) := dk_29 (dk_at dksJ5_indexOf_0 16 rfl rfl)
theorem dJ5_indexOf_17 : decode cJ5_indexOf 17 = .ok (.if_icmp .lt 5, 3) := dk_161 0 5 (dk_at dksJ5_indexOf_0 17 rfl rfl)
theorem dJ5_indexOf_20 : decode cJ5_indexOf 20 = .ok (.iconst (-1), 1) := dk_2 (dk_at dksJ5_indexOf_0 20 rfl rfl)
theorem dJ5_indexOf_21 : decode cJ5_indexOf 21 = .ok (.ireturn, 1) := dk_172 (dk_at dksJ5_indexOf_0 21 rfl rfl)
theorem dJ5_indexOf_22 : decode cJ5_indexOf 22 = .ok (.iload_n 1, 1) := dk_27 (dk_at dksJ5_indexOf_0 22 rfl rfl)
theorem dJ5_indexOf_23 : decode cJ5_indexOf 23 = .ok (.ldc 227, 2) := dk_18 227 (dk_at dksJ5_indexOf_1 0 rfl rfl)
theorem dJ5_indexOf_25 : decode cJ5_indexOf 25 = .ok (.if_icmp .ge 11, 3) := dk_162 0 11 (dk_at dksJ5_indexOf_1 2 rfl rfl)
theorem dJ5_indexOf_28 : decode cJ5_indexOf 28 = .ok (.aload_n 0, 1) := dk_42 (dk_at dksJ5_indexOf_1 5 rfl rfl)
theorem dJ5_indexOf_29 : decode cJ5_indexOf 29 = .ok (.iload_n 1, 1) := dk_27 (dk_at dksJ5_indexOf_1 6 rfl rfl)
theorem dJ5_indexOf_30 : decode cJ5_indexOf 30 = .ok (.iload_n 2, 1) := dk_28 (dk_at dksJ5_indexOf_1 7 rfl rfl)
theorem dJ5_indexOf_31 : decode cJ5_indexOf 31 = .ok (.iload_n 3, 1) := dk_29 (dk_at dksJ5_indexOf_1 8 rfl rfl)
theorem dJ5_indexOf_32 : decode cJ5_indexOf 32 = .ok (.invokestatic 228, 3) := dk_184 0 228 (dk_at dksJ5_indexOf_1 9 rfl rfl)
theorem dJ5_indexOf_35 : decode cJ5_indexOf 35 = .ok (.ireturn, 1) := dk_172 (dk_at dksJ5_indexOf_1 12 rfl rfl)
theorem dJ5_indexOf_36 : decode cJ5_indexOf 36 = .ok (.aload_n 0, 1) := dk_42 (dk_at dksJ5_indexOf_1 13 rfl rfl)
theorem dJ5_indexOf_37 : decode cJ5_indexOf 37 = .ok (.iload_n 1, 1) := dk_27 (dk_at dksJ5_indexOf_1 14 rfl rfl)
theorem dJ5_indexOf_38 : decode cJ5_indexOf 38 = .ok (.iload_n 2, 1) := dk_28 (dk_at dksJ5_indexOf_1 15 rfl rfl)
theorem dJ5_indexOf_39 : decode cJ5_indexOf 39 = .ok (.iload_n 3, 1) := dk_29 (dk_at dksJ5_indexOf_1 16 rfl rfl)
theorem dJ5_indexOf_40 : decode cJ5_indexOf 40 = .ok (.invokestatic 232, 3) := dk_184 0 232 (dk_at dksJ5_indexOf_1 17 rfl rfl)
theorem dJ5_indexOf_43 : decode cJ5_indexOf 43 = .ok (.ireturn, 1) := dk_172 (dk_at dksJ5_indexOf_1 20 rfl rfl)
abbrev cJ5_indexOfChar : ByteArray := prog_48_method_47_code
def yJ5_indexOfChar : MethodName := ⟨RJ5, "indexOfChar", "([BIII)I"⟩
def dkwJ5_indexOfChar_0 : List UInt8 := [28, 29, 42, 184, 0, 96, 42, 27, 28, 29, 184, 0, 244, 172]
abbrev dktJ5_indexOfChar_0 : List UInt8 := dkwJ5_indexOfChar_0 ++ []
theorem dksJ5_indexOfChar_0 : cJ5_indexOfChar.data.toList.drop 0 = dktJ5_indexOfChar_0 := by decide +kernel
theorem dJ5_indexOfChar_0 : decode cJ5_indexOfChar 0 = .ok (.iload_n 2, 1) := dk_28 (dk_at dksJ5_indexOfChar_0 0 rfl rfl)
theorem dJ5_indexOfChar_1 : decode cJ5_indexOfChar 1 = .ok (.iload_n 3, 1) := dk_29 (dk_at dksJ5_indexOfChar_0 1 rfl rfl)
theorem dJ5_indexOfChar_2 : decode cJ5_indexOfChar 2 = .ok (.aload_n 0, 1) := dk_42 (dk_at dksJ5_indexOfChar_0 2 rfl rfl)
theorem dJ5_indexOfChar_3 : decode cJ5_indexOfChar 3 = .ok (.invokestatic 96, 3) := dk_184 0 96 (dk_at dksJ5_indexOfChar_0 3 rfl rfl)
theorem dJ5_indexOfChar_6 : decode cJ5_indexOfChar 6 = .ok (.aload_n 0, 1) := dk_42 (dk_at dksJ5_indexOfChar_0 6 rfl rfl)
theorem dJ5_indexOfChar_7 : decode cJ5_indexOfChar 7 = .ok (.iload_n 1, 1) := dk_27 (dk_at dksJ5_indexOfChar_0 7 rfl rfl)
theorem dJ5_indexOfChar_8 : decode cJ5_indexOfChar 8 = .ok (.iload_n 2, 1) := dk_28 (dk_at dksJ5_indexOfChar_0 8 rfl rfl)
theorem dJ5_indexOfChar_9 : decode cJ5_indexOfChar 9 = .ok (.iload_n 3, 1) := dk_29 (dk_at dksJ5_indexOfChar_0 9 rfl rfl)
theorem dJ5_indexOfChar_10 : decode cJ5_indexOfChar 10 = .ok (.invokestatic 244, 3) := dk_184 0 244 (dk_at dksJ5_indexOfChar_0 10 rfl rfl)
theorem dJ5_indexOfChar_13 : decode cJ5_indexOfChar 13 = .ok (.ireturn, 1) := dk_172 (dk_at dksJ5_indexOfChar_0 13 rfl rfl)
abbrev cJ5_checkBoundsBeginEnd : ByteArray := prog_48_method_93_code
def yJ5_checkBoundsBeginEnd : MethodName := ⟨RJ5, "checkBoundsBeginEnd", "(II[B)V"⟩
def dkwJ5_checkBoundsBeginEnd_0 : List UInt8 := [26, 27, 44, 184, 0, 48, 184, 0, 241, 177]
abbrev dktJ5_checkBoundsBeginEnd_0 : List UInt8 := dkwJ5_checkBoundsBeginEnd_0 ++ []
theorem dksJ5_checkBoundsBeginEnd_0 : cJ5_checkBoundsBeginEnd.data.toList.drop 0 = dktJ5_checkBoundsBeginEnd_0 := by decide +kernel
theorem dJ5_checkBoundsBeginEnd_0 : decode cJ5_checkBoundsBeginEnd 0 = .ok (.iload_n 0, 1) := dk_26 (dk_at dksJ5_checkBoundsBeginEnd_0 0 rfl rfl)
theorem dJ5_checkBoundsBeginEnd_1 : decode cJ5_checkBoundsBeginEnd 1 = .ok (.iload_n 1, 1) := dk_27 (dk_at dksJ5_checkBoundsBeginEnd_0 1 rfl rfl)
theorem dJ5_checkBoundsBeginEnd_2 : decode cJ5_checkBoundsBeginEnd 2 = .ok (.aload_n 2, 1) := dk_44 (dk_at dksJ5_checkBoundsBeginEnd_0 2 rfl rfl)
theorem dJ5_checkBoundsBeginEnd_3 : decode cJ5_checkBoundsBeginEnd 3 = .ok (.invokestatic 48, 3) := dk_184 0 48 (dk_at dksJ5_checkBoundsBeginEnd_0 3 rfl rfl)
theorem dJ5_checkBoundsBeginEnd_6 : decode cJ5_checkBoundsBeginEnd 6 = .ok (.invokestatic 241, 3) := dk_184 0 241 (dk_at dksJ5_checkBoundsBeginEnd_0 6 rfl rfl)
theorem dJ5_checkBoundsBeginEnd_9 : decode cJ5_checkBoundsBeginEnd 9 = .ok (.return_, 1) := dk_177 (dk_at dksJ5_checkBoundsBeginEnd_0 9 rfl rfl)
abbrev cJ5_indexOfCharUnsafe : ByteArray := prog_48_method_48_code
def yJ5_indexOfCharUnsafe : MethodName := ⟨RJ5, "indexOfCharUnsafe", "([BIII)I"⟩
def dkwJ5_indexOfCharUnsafe_1 : List UInt8 := [132, 4, 1, 167, 255, 234, 2, 172]
abbrev dktJ5_indexOfCharUnsafe_1 : List UInt8 := dkwJ5_indexOfCharUnsafe_1 ++ []
def dkwJ5_indexOfCharUnsafe_0 : List UInt8 := [28, 54, 4, 21, 4, 29, 162, 0, 22, 42, 21, 4, 184, 0, 71, 27, 160, 0, 6, 21, 4, 172]
abbrev dktJ5_indexOfCharUnsafe_0 : List UInt8 := dkwJ5_indexOfCharUnsafe_0 ++ dktJ5_indexOfCharUnsafe_1
theorem dksJ5_indexOfCharUnsafe_0 : cJ5_indexOfCharUnsafe.data.toList.drop 0 = dktJ5_indexOfCharUnsafe_0 := by decide +kernel
theorem dksJ5_indexOfCharUnsafe_1 : cJ5_indexOfCharUnsafe.data.toList.drop 22 = dktJ5_indexOfCharUnsafe_1 := dk_seg dksJ5_indexOfCharUnsafe_0 22 rfl rfl
theorem dJ5_indexOfCharUnsafe_0 : decode cJ5_indexOfCharUnsafe 0 = .ok (.iload_n 2, 1) := dk_28 (dk_at dksJ5_indexOfCharUnsafe_0 0 rfl rfl)
theorem dJ5_indexOfCharUnsafe_1 : decode cJ5_indexOfCharUnsafe 1 = .ok (.istore 4, 2) := dk_54 4 (dk_at dksJ5_indexOfCharUnsafe_0 1 rfl rfl)
theorem dJ5_indexOfCharUnsafe_3 : decode cJ5_indexOfCharUnsafe 3 = .ok (.iload 4, 2) := dk_21 4 (dk_at dksJ5_indexOfCharUnsafe_0 3 rfl rfl)
theorem dJ5_indexOfCharUnsafe_5 : decode cJ5_indexOfCharUnsafe 5 = .ok (.iload_n 3, 1) := dk_29 (dk_at dksJ5_indexOfCharUnsafe_0 5 rfl rfl)
theorem dJ5_indexOfCharUnsafe_6 : decode cJ5_indexOfCharUnsafe 6 = .ok (.if_icmp .ge 22, 3) := dk_162 0 22 (dk_at dksJ5_indexOfCharUnsafe_0 6 rfl rfl)
theorem dJ5_indexOfCharUnsafe_9 : decode cJ5_indexOfCharUnsafe 9 = .ok (.aload_n 0, 1) := dk_42 (dk_at dksJ5_indexOfCharUnsafe_0 9 rfl rfl)
theorem dJ5_indexOfCharUnsafe_10 : decode cJ5_indexOfCharUnsafe 10 = .ok (.iload 4, 2) := dk_21 4 (dk_at dksJ5_indexOfCharUnsafe_0 10 rfl rfl)
theorem dJ5_indexOfCharUnsafe_12 : decode cJ5_indexOfCharUnsafe 12 = .ok (.invokestatic 71, 3) := dk_184 0 71 (dk_at dksJ5_indexOfCharUnsafe_0 12 rfl rfl)
theorem dJ5_indexOfCharUnsafe_15 : decode cJ5_indexOfCharUnsafe 15 = .ok (.iload_n 1, 1) := dk_27 (dk_at dksJ5_indexOfCharUnsafe_0 15 rfl rfl)
theorem dJ5_indexOfCharUnsafe_16 : decode cJ5_indexOfCharUnsafe 16 = .ok (.if_icmp .ne 6, 3) := dk_160 0 6 (dk_at dksJ5_indexOfCharUnsafe_0 16 rfl rfl)
theorem dJ5_indexOfCharUnsafe_19 : decode cJ5_indexOfCharUnsafe 19 = .ok (.iload 4, 2) := dk_21 4 (dk_at dksJ5_indexOfCharUnsafe_0 19 rfl rfl)
theorem dJ5_indexOfCharUnsafe_21 : decode cJ5_indexOfCharUnsafe 21 = .ok (.ireturn, 1) := dk_172 (dk_at dksJ5_indexOfCharUnsafe_0 21 rfl rfl)
theorem dJ5_indexOfCharUnsafe_22 : decode cJ5_indexOfCharUnsafe 22 = .ok (.iinc 4 1, 3) := dk_132 4 1 (dk_at dksJ5_indexOfCharUnsafe_1 0 rfl rfl)
theorem dJ5_indexOfCharUnsafe_25 : decode cJ5_indexOfCharUnsafe 25 = .ok (.goto (-22), 3) := dk_167 255 234 (dk_at dksJ5_indexOfCharUnsafe_1 3 rfl rfl)
theorem dJ5_indexOfCharUnsafe_28 : decode cJ5_indexOfCharUnsafe 28 = .ok (.iconst (-1), 1) := dk_2 (dk_at dksJ5_indexOfCharUnsafe_1 6 rfl rfl)
theorem dJ5_indexOfCharUnsafe_29 : decode cJ5_indexOfCharUnsafe 29 = .ok (.ireturn, 1) := dk_172 (dk_at dksJ5_indexOfCharUnsafe_1 7 rfl rfl)
abbrev cJ5_indexOfSupplementary : ByteArray := prog_48_method_49_code
def yJ5_indexOfSupplementary : MethodName := ⟨RJ5, "indexOfSupplementary", "([BIII)I"⟩
def dkwJ5_indexOfSupplementary_3 : List UInt8 := [167, 255, 218, 2, 172]
abbrev dktJ5_indexOfSupplementary_3 : List UInt8 := dkwJ5_indexOfSupplementary_3 ++ []
def dkwJ5_indexOfSupplementary_2 : List UInt8 := [160, 0, 19, 42, 21, 6, 4, 96, 184, 0, 71, 21, 5, 160, 0, 6, 21, 6, 172, 132, 6, 1]
abbrev dktJ5_indexOfSupplementary_2 : List UInt8 := dkwJ5_indexOfSupplementary_2 ++ dktJ5_indexOfSupplementary_3
def dkwJ5_indexOfSupplementary_1 : List UInt8 := [184, 0, 96, 28, 54, 6, 21, 6, 29, 4, 100, 162, 0, 36, 42, 21, 6, 184, 0, 71, 21, 4]
abbrev dktJ5_indexOfSupplementary_1 : List UInt8 := dkwJ5_indexOfSupplementary_1 ++ dktJ5_indexOfSupplementary_2
def dkwJ5_indexOfSupplementary_0 : List UInt8 := [27, 184, 0, 164, 153, 0, 65, 27, 184, 0, 157, 54, 4, 27, 184, 0, 161, 54, 5, 28, 29, 42]
abbrev dktJ5_indexOfSupplementary_0 : List UInt8 := dkwJ5_indexOfSupplementary_0 ++ dktJ5_indexOfSupplementary_1
theorem dksJ5_indexOfSupplementary_0 : cJ5_indexOfSupplementary.data.toList.drop 0 = dktJ5_indexOfSupplementary_0 := by decide +kernel
theorem dksJ5_indexOfSupplementary_1 : cJ5_indexOfSupplementary.data.toList.drop 22 = dktJ5_indexOfSupplementary_1 := dk_seg dksJ5_indexOfSupplementary_0 22 rfl rfl
theorem dksJ5_indexOfSupplementary_2 : cJ5_indexOfSupplementary.data.toList.drop 44 = dktJ5_indexOfSupplementary_2 := dk_seg dksJ5_indexOfSupplementary_1 22 rfl rfl
theorem dksJ5_indexOfSupplementary_3 : cJ5_indexOfSupplementary.data.toList.drop 66 = dktJ5_indexOfSupplementary_3 := dk_seg dksJ5_indexOfSupplementary_2 22 rfl rfl
theorem dJ5_indexOfSupplementary_0 : decode cJ5_indexOfSupplementary 0 = .ok (.iload_n 1, 1) := dk_27 (dk_at dksJ5_indexOfSupplementary_0 0 rfl rfl)
theorem dJ5_indexOfSupplementary_1 : decode cJ5_indexOfSupplementary 1 = .ok (.invokestatic 164, 3) := dk_184 0 164 (dk_at dksJ5_indexOfSupplementary_0 1 rfl rfl)
theorem dJ5_indexOfSupplementary_4 : decode cJ5_indexOfSupplementary 4 = .ok (.ifCond .eq 65, 3) := dk_153 0 65 (dk_at dksJ5_indexOfSupplementary_0 4 rfl rfl)
theorem dJ5_indexOfSupplementary_7 : decode cJ5_indexOfSupplementary 7 = .ok (.iload_n 1, 1) := dk_27 (dk_at dksJ5_indexOfSupplementary_0 7 rfl rfl)
theorem dJ5_indexOfSupplementary_8 : decode cJ5_indexOfSupplementary 8 = .ok (.invokestatic 157, 3) := dk_184 0 157 (dk_at dksJ5_indexOfSupplementary_0 8 rfl rfl)
theorem dJ5_indexOfSupplementary_11 : decode cJ5_indexOfSupplementary 11 = .ok (.istore 4, 2) := dk_54 4 (dk_at dksJ5_indexOfSupplementary_0 11 rfl rfl)
theorem dJ5_indexOfSupplementary_13 : decode cJ5_indexOfSupplementary 13 = .ok (.iload_n 1, 1) := dk_27 (dk_at dksJ5_indexOfSupplementary_0 13 rfl rfl)
theorem dJ5_indexOfSupplementary_14 : decode cJ5_indexOfSupplementary 14 = .ok (.invokestatic 161, 3) := dk_184 0 161 (dk_at dksJ5_indexOfSupplementary_0 14 rfl rfl)
theorem dJ5_indexOfSupplementary_17 : decode cJ5_indexOfSupplementary 17 = .ok (.istore 5, 2) := dk_54 5 (dk_at dksJ5_indexOfSupplementary_0 17 rfl rfl)
theorem dJ5_indexOfSupplementary_19 : decode cJ5_indexOfSupplementary 19 = .ok (.iload_n 2, 1) := dk_28 (dk_at dksJ5_indexOfSupplementary_0 19 rfl rfl)
theorem dJ5_indexOfSupplementary_20 : decode cJ5_indexOfSupplementary 20 = .ok (.iload_n 3, 1) := dk_29 (dk_at dksJ5_indexOfSupplementary_0 20 rfl rfl)
theorem dJ5_indexOfSupplementary_21 : decode cJ5_indexOfSupplementary 21 = .ok (.aload_n 0, 1) := dk_42 (dk_at dksJ5_indexOfSupplementary_0 21 rfl rfl)
theorem dJ5_indexOfSupplementary_22 : decode cJ5_indexOfSupplementary 22 = .ok (.invokestatic 96, 3) := dk_184 0 96 (dk_at dksJ5_indexOfSupplementary_1 0 rfl rfl)
theorem dJ5_indexOfSupplementary_25 : decode cJ5_indexOfSupplementary 25 = .ok (.iload_n 2, 1) := dk_28 (dk_at dksJ5_indexOfSupplementary_1 3 rfl rfl)
theorem dJ5_indexOfSupplementary_26 : decode cJ5_indexOfSupplementary 26 = .ok (.istore 6, 2) := dk_54 6 (dk_at dksJ5_indexOfSupplementary_1 4 rfl rfl)
theorem dJ5_indexOfSupplementary_28 : decode cJ5_indexOfSupplementary 28 = .ok (.iload 6, 2) := dk_21 6 (dk_at dksJ5_indexOfSupplementary_1 6 rfl rfl)
theorem dJ5_indexOfSupplementary_30 : decode cJ5_indexOfSupplementary 30 = .ok (.iload_n 3, 1) := dk_29 (dk_at dksJ5_indexOfSupplementary_1 8 rfl rfl)
theorem dJ5_indexOfSupplementary_31 : decode cJ5_indexOfSupplementary 31 = .ok (.iconst 1, 1) := dk_4 (dk_at dksJ5_indexOfSupplementary_1 9 rfl rfl)
theorem dJ5_indexOfSupplementary_32 : decode cJ5_indexOfSupplementary 32 = .ok (.isub, 1) := dk_100 (dk_at dksJ5_indexOfSupplementary_1 10 rfl rfl)
theorem dJ5_indexOfSupplementary_33 : decode cJ5_indexOfSupplementary 33 = .ok (.if_icmp .ge 36, 3) := dk_162 0 36 (dk_at dksJ5_indexOfSupplementary_1 11 rfl rfl)
theorem dJ5_indexOfSupplementary_36 : decode cJ5_indexOfSupplementary 36 = .ok (.aload_n 0, 1) := dk_42 (dk_at dksJ5_indexOfSupplementary_1 14 rfl rfl)
theorem dJ5_indexOfSupplementary_37 : decode cJ5_indexOfSupplementary 37 = .ok (.iload 6, 2) := dk_21 6 (dk_at dksJ5_indexOfSupplementary_1 15 rfl rfl)
theorem dJ5_indexOfSupplementary_39 : decode cJ5_indexOfSupplementary 39 = .ok (.invokestatic 71, 3) := dk_184 0 71 (dk_at dksJ5_indexOfSupplementary_1 17 rfl rfl)
theorem dJ5_indexOfSupplementary_42 : decode cJ5_indexOfSupplementary 42 = .ok (.iload 4, 2) := dk_21 4 (dk_at dksJ5_indexOfSupplementary_1 20 rfl rfl)
theorem dJ5_indexOfSupplementary_44 : decode cJ5_indexOfSupplementary 44 = .ok (.if_icmp .ne 19, 3) := dk_160 0 19 (dk_at dksJ5_indexOfSupplementary_2 0 rfl rfl)
theorem dJ5_indexOfSupplementary_47 : decode cJ5_indexOfSupplementary 47 = .ok (.aload_n 0, 1) := dk_42 (dk_at dksJ5_indexOfSupplementary_2 3 rfl rfl)
theorem dJ5_indexOfSupplementary_48 : decode cJ5_indexOfSupplementary 48 = .ok (.iload 6, 2) := dk_21 6 (dk_at dksJ5_indexOfSupplementary_2 4 rfl rfl)
theorem dJ5_indexOfSupplementary_50 : decode cJ5_indexOfSupplementary 50 = .ok (.iconst 1, 1) := dk_4 (dk_at dksJ5_indexOfSupplementary_2 6 rfl rfl)
theorem dJ5_indexOfSupplementary_51 : decode cJ5_indexOfSupplementary 51 = .ok (.iadd, 1) := dk_96 (dk_at dksJ5_indexOfSupplementary_2 7 rfl rfl)
theorem dJ5_indexOfSupplementary_52 : decode cJ5_indexOfSupplementary 52 = .ok (.invokestatic 71, 3) := dk_184 0 71 (dk_at dksJ5_indexOfSupplementary_2 8 rfl rfl)
theorem dJ5_indexOfSupplementary_55 : decode cJ5_indexOfSupplementary 55 = .ok (.iload 5, 2) := dk_21 5 (dk_at dksJ5_indexOfSupplementary_2 11 rfl rfl)
theorem dJ5_indexOfSupplementary_57 : decode cJ5_indexOfSupplementary 57 = .ok (.if_icmp .ne 6, 3) := dk_160 0 6 (dk_at dksJ5_indexOfSupplementary_2 13 rfl rfl)
theorem dJ5_indexOfSupplementary_60 : decode cJ5_indexOfSupplementary 60 = .ok (.iload 6, 2) := dk_21 6 (dk_at dksJ5_indexOfSupplementary_2 16 rfl rfl)
theorem dJ5_indexOfSupplementary_62 : decode cJ5_indexOfSupplementary 62 = .ok (.ireturn, 1) := dk_172 (dk_at dksJ5_indexOfSupplementary_2 18 rfl rfl)
theorem dJ5_indexOfSupplementary_63 : decode cJ5_indexOfSupplementary 63 = .ok (.iinc 6 1, 3) := dk_132 6 1 (dk_at dksJ5_indexOfSupplementary_2 19 rfl rfl)
theorem dJ5_indexOfSupplementary_66 : decode cJ5_indexOfSupplementary 66 = .ok (.goto (-38), 3) := dk_167 255 218 (dk_at dksJ5_indexOfSupplementary_3 0 rfl rfl)
theorem dJ5_indexOfSupplementary_69 : decode cJ5_indexOfSupplementary 69 = .ok (.iconst (-1), 1) := dk_2 (dk_at dksJ5_indexOfSupplementary_3 3 rfl rfl)
theorem dJ5_indexOfSupplementary_70 : decode cJ5_indexOfSupplementary 70 = .ok (.ireturn, 1) := dk_172 (dk_at dksJ5_indexOfSupplementary_3 4 rfl rfl)
theorem q173 : (Jvm.Cond.initialized "java/lang/StringUTF16") ∈ lw_all := lw_g (lw_at lw_m1 13 rfl) rfl
theorem q1424 : (Jvm.Cond.static ({ cls := "java/lang/StringUTF16", name := "newBytesFor", desc := "(I)[B" } : Jvm.MethodName)) ∈ lw_all := lw_g (lw_at lw_m6 64 rfl) rfl
theorem q1425 : (Jvm.Cond.code ({ cls := "java/lang/StringUTF16", name := "newBytesFor", desc := "(I)[B" } : Jvm.MethodName) prog_48_method_2_code (1 : Nat) (Option.some (Jvm.ClassFile.FieldType.array Jvm.ClassFile.FieldType.byte))) ∈ lw_all := lw_g (lw_at lw_m6 65 rfl) rfl
theorem q1426 : (Jvm.Cond.methodLink "java/lang/StringUTF16" (11 : Nat) ({ cls := "java/lang/StringUTF16", name := "newBytesLength", desc := "(I)I" } : Jvm.MethodName)) ∈ lw_all := lw_g (lw_at lw_m6 66 rfl) rfl
theorem q1427 : (Jvm.Cond.static ({ cls := "java/lang/StringUTF16", name := "newBytesLength", desc := "(I)I" } : Jvm.MethodName)) ∈ lw_all := lw_g (lw_at lw_m6 67 rfl) rfl
theorem q1428 : (Jvm.Cond.code ({ cls := "java/lang/StringUTF16", name := "newBytesLength", desc := "(I)I" } : Jvm.MethodName) prog_48_method_3_code (1 : Nat) (Option.some Jvm.ClassFile.FieldType.int)) ∈ lw_all := lw_g (lw_at lw_m6 68 rfl) rfl
theorem q1429 : (Jvm.Cond.constant "java/lang/StringUTF16" (20 : Nat) (1073741823 : Int32)) ∈ lw_all := lw_g (lw_at lw_m6 69 rfl) rfl
theorem q1491 : (Jvm.Cond.static ({ cls := "java/lang/StringUTF16", name := "inflate", desc := "([BI[BII)V" } : Jvm.MethodName)) ∈ lw_all := lw_g (lw_at lw_m6 131 rfl) rfl
theorem q1492 : (Jvm.Cond.code ({ cls := "java/lang/StringUTF16", name := "inflate", desc := "([BI[BII)V" } : Jvm.MethodName) prog_48_method_86_code (6 : Nat) (Option.none : Option Jvm.ClassFile.FieldType)) ∈ lw_all := lw_g (lw_at lw_m6 132 rfl) rfl
theorem q1493 : (Jvm.Cond.methodLink "java/lang/StringUTF16" (173 : Nat) ({ cls := "java/lang/StringUTF16", name := "checkBoundsOffCount", desc := "(II[B)V" } : Jvm.MethodName)) ∈ lw_all := lw_g (lw_at lw_m6 133 rfl) rfl
theorem q1494 : (Jvm.Cond.static ({ cls := "java/lang/StringUTF16", name := "checkBoundsOffCount", desc := "(II[B)V" } : Jvm.MethodName)) ∈ lw_all := lw_g (lw_at lw_m6 134 rfl) rfl
theorem q1495 : (Jvm.Cond.code ({ cls := "java/lang/StringUTF16", name := "checkBoundsOffCount", desc := "(II[B)V" } : Jvm.MethodName) prog_48_method_94_code (3 : Nat) (Option.none : Option Jvm.ClassFile.FieldType)) ∈ lw_all := lw_g (lw_at lw_m6 135 rfl) rfl
theorem q1496 : (Jvm.Cond.methodLink "java/lang/StringUTF16" (48 : Nat) ({ cls := "java/lang/StringUTF16", name := "length", desc := "([B)I" } : Jvm.MethodName)) ∈ lw_all := lw_g (lw_at lw_m6 136 rfl) rfl
theorem q1497 : (Jvm.Cond.static ({ cls := "java/lang/StringUTF16", name := "length", desc := "([B)I" } : Jvm.MethodName)) ∈ lw_all := lw_g (lw_at lw_m6 137 rfl) rfl
theorem q1498 : (Jvm.Cond.code ({ cls := "java/lang/StringUTF16", name := "length", desc := "([B)I" } : Jvm.MethodName) prog_48_method_6_code (1 : Nat) (Option.some Jvm.ClassFile.FieldType.int)) ∈ lw_all := lw_g (lw_at lw_m6 138 rfl) rfl
theorem q1499 : (Jvm.Cond.methodLink "java/lang/StringUTF16" (419 : Nat) ({ cls := "java/lang/String", name := "checkBoundsOffCount", desc := "(III)I" } : Jvm.MethodName)) ∈ lw_all := lw_g (lw_at lw_m6 139 rfl) rfl
theorem q1507 : (Jvm.Cond.methodLink "java/lang/StringUTF16" (111 : Nat) ({ cls := "java/lang/StringUTF16", name := "putChar", desc := "([BII)V" } : Jvm.MethodName)) ∈ lw_all := lw_g (lw_at lw_m6 147 rfl) rfl
theorem q1508 : (Jvm.Cond.static ({ cls := "java/lang/StringUTF16", name := "putChar", desc := "([BII)V" } : Jvm.MethodName)) ∈ lw_all := lw_g (lw_at lw_m6 148 rfl) rfl
theorem q1509 : (Jvm.Cond.code ({ cls := "java/lang/StringUTF16", name := "putChar", desc := "([BII)V" } : Jvm.MethodName) prog_48_method_4_code (3 : Nat) (Option.none : Option Jvm.ClassFile.FieldType)) ∈ lw_all := lw_g (lw_at lw_m6 149 rfl) rfl
theorem q1510 : (Jvm.Cond.fieldLink "java/lang/StringUTF16" (44 : Nat) "java/lang/StringUTF16" "$assertionsDisabled" "Z") ∈ lw_all := lw_g (lw_at lw_m6 150 rfl) rfl
theorem q1511 : (Jvm.Cond.laysStatic "java/lang/StringUTF16" "$assertionsDisabled" "Z") ∈ lw_tbl := lw_at lw_m6 151 rfl
theorem q1512 : (Jvm.Cond.fieldLink "java/lang/StringUTF16" (59 : Nat) "java/lang/StringUTF16" "HI_BYTE_SHIFT" "I") ∈ lw_all := lw_g (lw_at lw_m6 152 rfl) rfl
theorem q1513 : (Jvm.Cond.laysStatic "java/lang/StringUTF16" "HI_BYTE_SHIFT" "I") ∈ lw_tbl := lw_at lw_m6 153 rfl
theorem q1514 : (Jvm.Cond.fieldLink "java/lang/StringUTF16" (63 : Nat) "java/lang/StringUTF16" "LO_BYTE_SHIFT" "I") ∈ lw_all := lw_g (lw_at lw_m6 154 rfl) rfl
theorem q1515 : (Jvm.Cond.laysStatic "java/lang/StringUTF16" "LO_BYTE_SHIFT" "I") ∈ lw_tbl := lw_at lw_m6 155 rfl
theorem q1517 : (Jvm.Cond.static ({ cls := "java/lang/StringUTF16", name := "putCharSB", desc := "([BII)V" } : Jvm.MethodName)) ∈ lw_all := lw_g (lw_at lw_m6 157 rfl) rfl
theorem q1518 : (Jvm.Cond.code ({ cls := "java/lang/StringUTF16", name := "putCharSB", desc := "([BII)V" } : Jvm.MethodName) prog_48_method_71_code (3 : Nat) (Option.none : Option Jvm.ClassFile.FieldType)) ∈ lw_all := lw_g (lw_at lw_m6 158 rfl) rfl
theorem q1519 : (Jvm.Cond.methodLink "java/lang/StringUTF16" (67 : Nat) ({ cls := "java/lang/StringUTF16", name := "checkIndex", desc := "(I[B)V" } : Jvm.MethodName)) ∈ lw_all := lw_g (lw_at lw_m6 159 rfl) rfl
theorem q1520 : (Jvm.Cond.static ({ cls := "java/lang/StringUTF16", name := "checkIndex", desc := "(I[B)V" } : Jvm.MethodName)) ∈ lw_all := lw_g (lw_at lw_m6 160 rfl) rfl
theorem q1521 : (Jvm.Cond.code ({ cls := "java/lang/StringUTF16", name := "checkIndex", desc := "(I[B)V" } : Jvm.MethodName) prog_48_method_91_code (2 : Nat) (Option.none : Option Jvm.ClassFile.FieldType)) ∈ lw_all := lw_g (lw_at lw_m6 161 rfl) rfl
theorem q1522 : (Jvm.Cond.methodLink "java/lang/StringUTF16" (414 : Nat) ({ cls := "java/lang/String", name := "checkIndex", desc := "(II)V" } : Jvm.MethodName)) ∈ lw_all := lw_g (lw_at lw_m6 162 rfl) rfl
theorem q1557 : (Jvm.Cond.static ({ cls := "java/lang/StringUTF16", name := "compress", desc := "([BII)[B" } : Jvm.MethodName)) ∈ lw_all := lw_g (lw_at lw_m6 197 rfl) rfl
theorem q1558 : (Jvm.Cond.code ({ cls := "java/lang/StringUTF16", name := "compress", desc := "([BII)[B" } : Jvm.MethodName) prog_48_method_17_code (6 : Nat) (Option.some (Jvm.ClassFile.FieldType.array Jvm.ClassFile.FieldType.byte))) ∈ lw_all := lw_g (lw_at lw_m6 198 rfl) rfl
theorem q1559 : (Jvm.Cond.methodLink "java/lang/StringUTF16" (123 : Nat) ({ cls := "java/lang/StringUTF16", name := "compress", desc := "([BI[BII)I" } : Jvm.MethodName)) ∈ lw_all := lw_g (lw_at lw_m6 199 rfl) rfl
theorem q1560 : (Jvm.Cond.static ({ cls := "java/lang/StringUTF16", name := "compress", desc := "([BI[BII)I" } : Jvm.MethodName)) ∈ lw_all := lw_g (lw_at lw_m6 200 rfl) rfl
theorem q1561 : (Jvm.Cond.code ({ cls := "java/lang/StringUTF16", name := "compress", desc := "([BI[BII)I" } : Jvm.MethodName) prog_48_method_22_code (7 : Nat) (Option.some Jvm.ClassFile.FieldType.int)) ∈ lw_all := lw_g (lw_at lw_m6 201 rfl) rfl
theorem q1562 : (Jvm.Cond.methodLink "java/lang/StringUTF16" (71 : Nat) ({ cls := "java/lang/StringUTF16", name := "getChar", desc := "([BI)C" } : Jvm.MethodName)) ∈ lw_all := lw_g (lw_at lw_m6 202 rfl) rfl
theorem q1563 : (Jvm.Cond.static ({ cls := "java/lang/StringUTF16", name := "getChar", desc := "([BI)C" } : Jvm.MethodName)) ∈ lw_all := lw_g (lw_at lw_m6 203 rfl) rfl
theorem q1564 : (Jvm.Cond.code ({ cls := "java/lang/StringUTF16", name := "getChar", desc := "([BI)C" } : Jvm.MethodName) prog_48_method_5_code (2 : Nat) (Option.some Jvm.ClassFile.FieldType.char)) ∈ lw_all := lw_g (lw_at lw_m6 204 rfl) rfl
theorem q1565 : (Jvm.Cond.methodLink "java/lang/StringUTF16" (126 : Nat) ({ cls := "java/util/Arrays", name := "copyOfRange", desc := "([BII)[B" } : Jvm.MethodName)) ∈ lw_all := lw_g (lw_at lw_m6 205 rfl) rfl
theorem q1567 : (Jvm.Cond.static ({ cls := "java/lang/StringUTF16", name := "coderFromArrayLen", desc := "([BI)B" } : Jvm.MethodName)) ∈ lw_all := lw_g (lw_at lw_m6 207 rfl) rfl
theorem q1568 : (Jvm.Cond.code ({ cls := "java/lang/StringUTF16", name := "coderFromArrayLen", desc := "([BI)B" } : Jvm.MethodName) prog_48_method_15_code (2 : Nat) (Option.some Jvm.ClassFile.FieldType.byte)) ∈ lw_all := lw_g (lw_at lw_m6 208 rfl) rfl
theorem q1640 : (Jvm.Cond.static ({ cls := "java/lang/StringUTF16", name := "indexOf", desc := "([BIII)I" } : Jvm.MethodName)) ∈ lw_all := lw_g (lw_at lw_m7 40 rfl) rfl
theorem q1641 : (Jvm.Cond.code ({ cls := "java/lang/StringUTF16", name := "indexOf", desc := "([BIII)I" } : Jvm.MethodName) prog_48_method_40_code (4 : Nat) (Option.some Jvm.ClassFile.FieldType.int)) ∈ lw_all := lw_g (lw_at lw_m7 41 rfl) rfl
theorem q1642 : (Jvm.Cond.methodLink "java/lang/StringUTF16" (224 : Nat) ({ cls := "java/lang/Math", name := "max", desc := "(II)I" } : Jvm.MethodName)) ∈ lw_all := lw_g (lw_at lw_m7 42 rfl) rfl
theorem q1643 : (Jvm.Cond.methodLink "java/lang/StringUTF16" (183 : Nat) ({ cls := "java/lang/Math", name := "min", desc := "(II)I" } : Jvm.MethodName)) ∈ lw_all := lw_g (lw_at lw_m7 43 rfl) rfl
theorem q1644 : (Jvm.Cond.constant "java/lang/StringUTF16" (227 : Nat) (65536 : Int32)) ∈ lw_all := lw_g (lw_at lw_m7 44 rfl) rfl
theorem q1645 : (Jvm.Cond.methodLink "java/lang/StringUTF16" (228 : Nat) ({ cls := "java/lang/StringUTF16", name := "indexOfChar", desc := "([BIII)I" } : Jvm.MethodName)) ∈ lw_all := lw_g (lw_at lw_m7 45 rfl) rfl
theorem q1646 : (Jvm.Cond.static ({ cls := "java/lang/StringUTF16", name := "indexOfChar", desc := "([BIII)I" } : Jvm.MethodName)) ∈ lw_all := lw_g (lw_at lw_m7 46 rfl) rfl
theorem q1647 : (Jvm.Cond.code ({ cls := "java/lang/StringUTF16", name := "indexOfChar", desc := "([BIII)I" } : Jvm.MethodName) prog_48_method_47_code (4 : Nat) (Option.some Jvm.ClassFile.FieldType.int)) ∈ lw_all := lw_g (lw_at lw_m7 47 rfl) rfl
theorem q1648 : (Jvm.Cond.methodLink "java/lang/StringUTF16" (96 : Nat) ({ cls := "java/lang/StringUTF16", name := "checkBoundsBeginEnd", desc := "(II[B)V" } : Jvm.MethodName)) ∈ lw_all := lw_g (lw_at lw_m7 48 rfl) rfl
theorem q1649 : (Jvm.Cond.static ({ cls := "java/lang/StringUTF16", name := "checkBoundsBeginEnd", desc := "(II[B)V" } : Jvm.MethodName)) ∈ lw_all := lw_g (lw_at lw_m7 49 rfl) rfl
theorem q1650 : (Jvm.Cond.code ({ cls := "java/lang/StringUTF16", name := "checkBoundsBeginEnd", desc := "(II[B)V" } : Jvm.MethodName) prog_48_method_93_code (3 : Nat) (Option.none : Option Jvm.ClassFile.FieldType)) ∈ lw_all := lw_g (lw_at lw_m7 50 rfl) rfl
theorem q1651 : (Jvm.Cond.methodLink "java/lang/StringUTF16" (241 : Nat) ({ cls := "java/lang/String", name := "checkBoundsBeginEnd", desc := "(III)V" } : Jvm.MethodName)) ∈ lw_all := lw_g (lw_at lw_m7 51 rfl) rfl
theorem q1657 : (Jvm.Cond.methodLink "java/lang/StringUTF16" (244 : Nat) ({ cls := "java/lang/StringUTF16", name := "indexOfCharUnsafe", desc := "([BIII)I" } : Jvm.MethodName)) ∈ lw_all := lw_g (lw_at lw_m7 57 rfl) rfl
theorem q1658 : (Jvm.Cond.static ({ cls := "java/lang/StringUTF16", name := "indexOfCharUnsafe", desc := "([BIII)I" } : Jvm.MethodName)) ∈ lw_all := lw_g (lw_at lw_m7 58 rfl) rfl
theorem q1659 : (Jvm.Cond.code ({ cls := "java/lang/StringUTF16", name := "indexOfCharUnsafe", desc := "([BIII)I" } : Jvm.MethodName) prog_48_method_48_code (5 : Nat) (Option.some Jvm.ClassFile.FieldType.int)) ∈ lw_all := lw_g (lw_at lw_m7 59 rfl) rfl
theorem q1660 : (Jvm.Cond.methodLink "java/lang/StringUTF16" (232 : Nat) ({ cls := "java/lang/StringUTF16", name := "indexOfSupplementary", desc := "([BIII)I" } : Jvm.MethodName)) ∈ lw_all := lw_g (lw_at lw_m7 60 rfl) rfl
theorem q1661 : (Jvm.Cond.static ({ cls := "java/lang/StringUTF16", name := "indexOfSupplementary", desc := "([BIII)I" } : Jvm.MethodName)) ∈ lw_all := lw_g (lw_at lw_m7 61 rfl) rfl
theorem q1662 : (Jvm.Cond.code ({ cls := "java/lang/StringUTF16", name := "indexOfSupplementary", desc := "([BIII)I" } : Jvm.MethodName) prog_48_method_49_code (7 : Nat) (Option.some Jvm.ClassFile.FieldType.int)) ∈ lw_all := lw_g (lw_at lw_m7 62 rfl) rfl
theorem q1663 : (Jvm.Cond.methodLink "java/lang/StringUTF16" (164 : Nat) ({ cls := "java/lang/Character", name := "isValidCodePoint", desc := "(I)Z" } : Jvm.MethodName)) ∈ lw_all := lw_g (lw_at lw_m7 63 rfl) rfl
theorem q1666 : (Jvm.Cond.methodLink "java/lang/StringUTF16" (157 : Nat) ({ cls := "java/lang/Character", name := "highSurrogate", desc := "(I)C" } : Jvm.MethodName)) ∈ lw_all := lw_g (lw_at lw_m7 66 rfl) rfl
theorem q1670 : (Jvm.Cond.methodLink "java/lang/StringUTF16" (161 : Nat) ({ cls := "java/lang/Character", name := "lowSurrogate", desc := "(I)C" } : Jvm.MethodName)) ∈ lw_all := lw_g (lw_at lw_m7 70 rfl) rfl

/-! jdk/internal/util/ArraysSupport -/
set_option maxRecDepth 100000
def RJ6 : String := "jdk/internal/util/ArraysSupport"
abbrev cJ6_newLength : ByteArray := prog_60_method_27_code
def yJ6_newLength : MethodName := ⟨RJ6, "newLength", "(III)I"⟩
def dkwJ6_newLength_1 : List UInt8 := [184, 0, 201, 172]
abbrev dktJ6_newLength_1 : List UInt8 := dkwJ6_newLength_1 ++ []
def dkwJ6_newLength_0 : List UInt8 := [26, 27, 28, 184, 0, 194, 96, 62, 3, 29, 162, 0, 11, 29, 18, 200, 163, 0, 5, 29, 172, 26, 27]
abbrev dktJ6_newLength_0 : List UInt8 := dkwJ6_newLength_0 ++ dktJ6_newLength_1
theorem dksJ6_newLength_0 : cJ6_newLength.data.toList.drop 0 = dktJ6_newLength_0 := by decide +kernel
theorem dksJ6_newLength_1 : cJ6_newLength.data.toList.drop 23 = dktJ6_newLength_1 := dk_seg dksJ6_newLength_0 23 rfl rfl
theorem dJ6_newLength_0 : decode cJ6_newLength 0 = .ok (.iload_n 0, 1) := dk_26 (dk_at dksJ6_newLength_0 0 rfl rfl)
theorem dJ6_newLength_1 : decode cJ6_newLength 1 = .ok (.iload_n 1, 1) := dk_27 (dk_at dksJ6_newLength_0 1 rfl rfl)
theorem dJ6_newLength_2 : decode cJ6_newLength 2 = .ok (.iload_n 2, 1) := dk_28 (dk_at dksJ6_newLength_0 2 rfl rfl)
theorem dJ6_newLength_3 : decode cJ6_newLength 3 = .ok (.invokestatic 194, 3) := dk_184 0 194 (dk_at dksJ6_newLength_0 3 rfl rfl)
theorem dJ6_newLength_6 : decode cJ6_newLength 6 = .ok (.iadd, 1) := dk_96 (dk_at dksJ6_newLength_0 6 rfl rfl)
theorem dJ6_newLength_7 : decode cJ6_newLength 7 = .ok (.istore_n 3, 1) := dk_62 (dk_at dksJ6_newLength_0 7 rfl rfl)
theorem dJ6_newLength_8 : decode cJ6_newLength 8 = .ok (.iconst 0, 1) := dk_3 (dk_at dksJ6_newLength_0 8 rfl rfl)
theorem dJ6_newLength_9 : decode cJ6_newLength 9 = .ok (.iload_n 3, 1) := dk_29 (dk_at dksJ6_newLength_0 9 rfl rfl)
theorem dJ6_newLength_10 : decode cJ6_newLength 10 = .ok (.if_icmp .ge 11, 3) := dk_162 0 11 (dk_at dksJ6_newLength_0 10 rfl rfl)
theorem dJ6_newLength_13 : decode cJ6_newLength 13 = .ok (.iload_n 3, 1) := dk_29 (dk_at dksJ6_newLength_0 13 rfl rfl)
theorem dJ6_newLength_14 : decode cJ6_newLength 14 = .ok (.ldc 200, 2) := dk_18 200 (dk_at dksJ6_newLength_0 14 rfl rfl)
theorem dJ6_newLength_16 : decode cJ6_newLength 16 = .ok (.if_icmp .gt 5, 3) := dk_163 0 5 (dk_at dksJ6_newLength_0 16 rfl rfl)
theorem dJ6_newLength_19 : decode cJ6_newLength 19 = .ok (.iload_n 3, 1) := dk_29 (dk_at dksJ6_newLength_0 19 rfl rfl)
theorem dJ6_newLength_20 : decode cJ6_newLength 20 = .ok (.ireturn, 1) := dk_172 (dk_at dksJ6_newLength_0 20 rfl rfl)
theorem dJ6_newLength_21 : decode cJ6_newLength 21 = .ok (.iload_n 0, 1) := dk_26 (dk_at dksJ6_newLength_0 21 rfl rfl)
theorem dJ6_newLength_22 : decode cJ6_newLength 22 = .ok (.iload_n 1, 1) := dk_27 (dk_at dksJ6_newLength_0 22 rfl rfl)
theorem dJ6_newLength_23 : decode cJ6_newLength 23 = .ok (.invokestatic 201, 3) := dk_184 0 201 (dk_at dksJ6_newLength_1 0 rfl rfl)
theorem dJ6_newLength_26 : decode cJ6_newLength 26 = .ok (.ireturn, 1) := dk_172 (dk_at dksJ6_newLength_1 3 rfl rfl)
abbrev cJ6_hugeLength : ByteArray := prog_60_method_28_code
def yJ6_hugeLength : MethodName := ⟨RJ6, "hugeLength", "(II)I"⟩
def dkwJ6_hugeLength_2 : List UInt8 := [191, 28, 18, 200, 163, 0, 6, 18, 200, 172, 28, 172]
abbrev dktJ6_hugeLength_2 : List UInt8 := dkwJ6_hugeLength_2 ++ []
def dkwJ6_hugeLength_1 : List UInt8 := [26, 182, 0, 98, 18, 208, 182, 0, 94, 27, 182, 0, 98, 18, 210, 182, 0, 94, 182, 0, 101, 183, 0, 212]
abbrev dktJ6_hugeLength_1 : List UInt8 := dkwJ6_hugeLength_1 ++ dktJ6_hugeLength_2
def dkwJ6_hugeLength_0 : List UInt8 := [26, 27, 96, 61, 28, 156, 0, 44, 187, 0, 204, 89, 187, 0, 89, 89, 183, 0, 91, 18, 206, 182, 0, 94]
abbrev dktJ6_hugeLength_0 : List UInt8 := dkwJ6_hugeLength_0 ++ dktJ6_hugeLength_1
theorem dksJ6_hugeLength_0 : cJ6_hugeLength.data.toList.drop 0 = dktJ6_hugeLength_0 := by decide +kernel
theorem dksJ6_hugeLength_1 : cJ6_hugeLength.data.toList.drop 24 = dktJ6_hugeLength_1 := dk_seg dksJ6_hugeLength_0 24 rfl rfl
theorem dksJ6_hugeLength_2 : cJ6_hugeLength.data.toList.drop 48 = dktJ6_hugeLength_2 := dk_seg dksJ6_hugeLength_1 24 rfl rfl
theorem dJ6_hugeLength_0 : decode cJ6_hugeLength 0 = .ok (.iload_n 0, 1) := dk_26 (dk_at dksJ6_hugeLength_0 0 rfl rfl)
theorem dJ6_hugeLength_1 : decode cJ6_hugeLength 1 = .ok (.iload_n 1, 1) := dk_27 (dk_at dksJ6_hugeLength_0 1 rfl rfl)
theorem dJ6_hugeLength_2 : decode cJ6_hugeLength 2 = .ok (.iadd, 1) := dk_96 (dk_at dksJ6_hugeLength_0 2 rfl rfl)
theorem dJ6_hugeLength_3 : decode cJ6_hugeLength 3 = .ok (.istore_n 2, 1) := dk_61 (dk_at dksJ6_hugeLength_0 3 rfl rfl)
theorem dJ6_hugeLength_4 : decode cJ6_hugeLength 4 = .ok (.iload_n 2, 1) := dk_28 (dk_at dksJ6_hugeLength_0 4 rfl rfl)
theorem dJ6_hugeLength_5 : decode cJ6_hugeLength 5 = .ok (.ifCond .ge 44, 3) := dk_156 0 44 (dk_at dksJ6_hugeLength_0 5 rfl rfl)
theorem dJ6_hugeLength_8 : decode cJ6_hugeLength 8 = .ok (.new 204, 3) := dk_187 0 204 (dk_at dksJ6_hugeLength_0 8 rfl rfl)
theorem dJ6_hugeLength_11 : decode cJ6_hugeLength 11 = .ok (.dup, 1) := dk_89 (dk_at dksJ6_hugeLength_0 11 rfl rfl)
theorem dJ6_hugeLength_12 : decode cJ6_hugeLength 12 = .ok (.new 89, 3) := dk_187 0 89 (dk_at dksJ6_hugeLength_0 12 rfl rfl)
theorem dJ6_hugeLength_15 : decode cJ6_hugeLength 15 = .ok (.dup, 1) := dk_89 (dk_at dksJ6_hugeLength_0 15 rfl rfl)
theorem dJ6_hugeLength_16 : decode cJ6_hugeLength 16 = .ok (.invokespecial 91, 3) := dk_183 0 91 (dk_at dksJ6_hugeLength_0 16 rfl rfl)
theorem dJ6_hugeLength_19 : decode cJ6_hugeLength 19 = .ok (.ldc 206, 2) := dk_18 206 (dk_at dksJ6_hugeLength_0 19 rfl rfl)
theorem dJ6_hugeLength_21 : decode cJ6_hugeLength 21 = .ok (.invokevirtual 94, 3) := dk_182 0 94 (dk_at dksJ6_hugeLength_0 21 rfl rfl)
theorem dJ6_hugeLength_24 : decode cJ6_hugeLength 24 = .ok (.iload_n 0, 1) := dk_26 (dk_at dksJ6_hugeLength_1 0 rfl rfl)
theorem dJ6_hugeLength_25 : decode cJ6_hugeLength 25 = .ok (.invokevirtual 98, 3) := dk_182 0 98 (dk_at dksJ6_hugeLength_1 1 rfl rfl)
theorem dJ6_hugeLength_28 : decode cJ6_hugeLength 28 = .ok (.ldc 208, 2) := dk_18 208 (dk_at dksJ6_hugeLength_1 4 rfl rfl)
theorem dJ6_hugeLength_30 : decode cJ6_hugeLength 30 = .ok (.invokevirtual 94, 3) := dk_182 0 94 (dk_at dksJ6_hugeLength_1 6 rfl rfl)
theorem dJ6_hugeLength_33 : decode cJ6_hugeLength 33 = .ok (.iload_n 1, 1) := dk_27 (dk_at dksJ6_hugeLength_1 9 rfl rfl)
theorem dJ6_hugeLength_34 : decode cJ6_hugeLength 34 = .ok (.invokevirtual 98, 3) := dk_182 0 98 (dk_at dksJ6_hugeLength_1 10 rfl rfl)
theorem dJ6_hugeLength_37 : decode cJ6_hugeLength 37 = .ok (.ldc 210, 2) := dk_18 210 (dk_at dksJ6_hugeLength_1 13 rfl rfl)
theorem dJ6_hugeLength_39 : decode cJ6_hugeLength 39 = .ok (.invokevirtual 94, 3) := dk_182 0 94 (dk_at dksJ6_hugeLength_1 15 rfl rfl)
theorem dJ6_hugeLength_42 : decode cJ6_hugeLength 42 = .ok (.invokevirtual 101, 3) := dk_182 0 101 (dk_at dksJ6_hugeLength_1 18 rfl rfl)
theorem dJ6_hugeLength_45 : decode cJ6_hugeLength 45 = .ok (.invokespecial 212, 3) := dk_183 0 212 (dk_at dksJ6_hugeLength_1 21 rfl rfl)
theorem dJ6_hugeLength_48 : decode cJ6_hugeLength 48 = .ok (.athrow, 1) := dk_191 (dk_at dksJ6_hugeLength_2 0 rfl rfl)
theorem dJ6_hugeLength_49 : decode cJ6_hugeLength 49 = .ok (.iload_n 2, 1) := dk_28 (dk_at dksJ6_hugeLength_2 1 rfl rfl)
theorem dJ6_hugeLength_50 : decode cJ6_hugeLength 50 = .ok (.ldc 200, 2) := dk_18 200 (dk_at dksJ6_hugeLength_2 2 rfl rfl)
theorem dJ6_hugeLength_52 : decode cJ6_hugeLength 52 = .ok (.if_icmp .gt 6, 3) := dk_163 0 6 (dk_at dksJ6_hugeLength_2 4 rfl rfl)
theorem dJ6_hugeLength_55 : decode cJ6_hugeLength 55 = .ok (.ldc 200, 2) := dk_18 200 (dk_at dksJ6_hugeLength_2 7 rfl rfl)
theorem dJ6_hugeLength_57 : decode cJ6_hugeLength 57 = .ok (.ireturn, 1) := dk_172 (dk_at dksJ6_hugeLength_2 9 rfl rfl)
theorem dJ6_hugeLength_58 : decode cJ6_hugeLength 58 = .ok (.iload_n 2, 1) := dk_28 (dk_at dksJ6_hugeLength_2 10 rfl rfl)
theorem dJ6_hugeLength_59 : decode cJ6_hugeLength 59 = .ok (.ireturn, 1) := dk_172 (dk_at dksJ6_hugeLength_2 11 rfl rfl)
theorem q174 : (Jvm.Cond.initialized "jdk/internal/util/ArraysSupport") ∈ lw_all := lw_g (lw_at lw_m1 14 rfl) rfl
theorem q645 : (Jvm.Cond.static ({ cls := "jdk/internal/util/ArraysSupport", name := "newLength", desc := "(III)I" } : Jvm.MethodName)) ∈ lw_all := lw_g (lw_at lw_m3 5 rfl) rfl
theorem q646 : (Jvm.Cond.code ({ cls := "jdk/internal/util/ArraysSupport", name := "newLength", desc := "(III)I" } : Jvm.MethodName) prog_60_method_27_code (4 : Nat) (Option.some Jvm.ClassFile.FieldType.int)) ∈ lw_all := lw_g (lw_at lw_m3 6 rfl) rfl
theorem q647 : (Jvm.Cond.methodLink "jdk/internal/util/ArraysSupport" (194 : Nat) ({ cls := "java/lang/Math", name := "max", desc := "(II)I" } : Jvm.MethodName)) ∈ lw_all := lw_g (lw_at lw_m3 7 rfl) rfl
theorem q650 : (Jvm.Cond.constant "jdk/internal/util/ArraysSupport" (200 : Nat) (2147483639 : Int32)) ∈ lw_all := lw_g (lw_at lw_m3 10 rfl) rfl
theorem q651 : (Jvm.Cond.methodLink "jdk/internal/util/ArraysSupport" (201 : Nat) ({ cls := "jdk/internal/util/ArraysSupport", name := "hugeLength", desc := "(II)I" } : Jvm.MethodName)) ∈ lw_all := lw_g (lw_at lw_m3 11 rfl) rfl
theorem q652 : (Jvm.Cond.static ({ cls := "jdk/internal/util/ArraysSupport", name := "hugeLength", desc := "(II)I" } : Jvm.MethodName)) ∈ lw_all := lw_g (lw_at lw_m3 12 rfl) rfl
theorem q653 : (Jvm.Cond.code ({ cls := "jdk/internal/util/ArraysSupport", name := "hugeLength", desc := "(II)I" } : Jvm.MethodName) prog_60_method_28_code (3 : Nat) (Option.some Jvm.ClassFile.FieldType.int)) ∈ lw_all := lw_g (lw_at lw_m3 13 rfl) rfl

/-! java/lang/Math -/
set_option maxRecDepth 100000
def RJ7 : String := "java/lang/Math"
abbrev cJ7_max : ByteArray := prog_44_method_65_code
def yJ7_max : MethodName := ⟨RJ7, "max", "(II)I"⟩
def dkwJ7_max_0 : List UInt8 := [26, 27, 161, 0, 7, 26, 167, 0, 4, 27, 172]
abbrev dktJ7_max_0 : List UInt8 := dkwJ7_max_0 ++ []
theorem dksJ7_max_0 : cJ7_max.data.toList.drop 0 = dktJ7_max_0 := by decide +kernel
theorem dJ7_max_0 : decode cJ7_max 0 = .ok (.iload_n 0, 1) := dk_26 (dk_at dksJ7_max_0 0 rfl rfl)
theorem dJ7_max_1 : decode cJ7_max 1 = .ok (.iload_n 1, 1) := dk_27 (dk_at dksJ7_max_0 1 rfl rfl)
theorem dJ7_max_2 : decode cJ7_max 2 = .ok (.if_icmp .lt 7, 3) := dk_161 0 7 (dk_at dksJ7_max_0 2 rfl rfl)
theorem dJ7_max_5 : decode cJ7_max 5 = .ok (.iload_n 0, 1) := dk_26 (dk_at dksJ7_max_0 5 rfl rfl)
theorem dJ7_max_6 : decode cJ7_max 6 = .ok (.goto 4, 3) := dk_167 0 4 (dk_at dksJ7_max_0 6 rfl rfl)
theorem dJ7_max_9 : decode cJ7_max 9 = .ok (.iload_n 1, 1) := dk_27 (dk_at dksJ7_max_0 9 rfl rfl)
theorem dJ7_max_10 : decode cJ7_max 10 = .ok (.ireturn, 1) := dk_172 (dk_at dksJ7_max_0 10 rfl rfl)
abbrev cJ7_min : ByteArray := prog_44_method_69_code
def yJ7_min : MethodName := ⟨RJ7, "min", "(II)I"⟩
def dkwJ7_min_0 : List UInt8 := [26, 27, 163, 0, 7, 26, 167, 0, 4, 27, 172]
abbrev dktJ7_min_0 : List UInt8 := dkwJ7_min_0 ++ []
theorem dksJ7_min_0 : cJ7_min.data.toList.drop 0 = dktJ7_min_0 := by decide +kernel
theorem dJ7_min_0 : decode cJ7_min 0 = .ok (.iload_n 0, 1) := dk_26 (dk_at dksJ7_min_0 0 rfl rfl)
theorem dJ7_min_1 : decode cJ7_min 1 = .ok (.iload_n 1, 1) := dk_27 (dk_at dksJ7_min_0 1 rfl rfl)
theorem dJ7_min_2 : decode cJ7_min 2 = .ok (.if_icmp .gt 7, 3) := dk_163 0 7 (dk_at dksJ7_min_0 2 rfl rfl)
theorem dJ7_min_5 : decode cJ7_min 5 = .ok (.iload_n 0, 1) := dk_26 (dk_at dksJ7_min_0 5 rfl rfl)
theorem dJ7_min_6 : decode cJ7_min 6 = .ok (.goto 4, 3) := dk_167 0 4 (dk_at dksJ7_min_0 6 rfl rfl)
theorem dJ7_min_9 : decode cJ7_min 9 = .ok (.iload_n 1, 1) := dk_27 (dk_at dksJ7_min_0 9 rfl rfl)
theorem dJ7_min_10 : decode cJ7_min 10 = .ok (.ireturn, 1) := dk_172 (dk_at dksJ7_min_0 10 rfl rfl)
theorem q175 : (Jvm.Cond.initialized "java/lang/Math") ∈ lw_all := lw_g (lw_at lw_m1 15 rfl) rfl
theorem q648 : (Jvm.Cond.static ({ cls := "java/lang/Math", name := "max", desc := "(II)I" } : Jvm.MethodName)) ∈ lw_all := lw_g (lw_at lw_m3 8 rfl) rfl
theorem q649 : (Jvm.Cond.code ({ cls := "java/lang/Math", name := "max", desc := "(II)I" } : Jvm.MethodName) prog_44_method_65_code (2 : Nat) (Option.some Jvm.ClassFile.FieldType.int)) ∈ lw_all := lw_g (lw_at lw_m3 9 rfl) rfl
theorem q704 : (Jvm.Cond.static ({ cls := "java/lang/Math", name := "min", desc := "(II)I" } : Jvm.MethodName)) ∈ lw_all := lw_g (lw_at lw_m3 64 rfl) rfl
theorem q705 : (Jvm.Cond.code ({ cls := "java/lang/Math", name := "min", desc := "(II)I" } : Jvm.MethodName) prog_44_method_69_code (2 : Nat) (Option.some Jvm.ClassFile.FieldType.int)) ∈ lw_all := lw_g (lw_at lw_m3 65 rfl) rfl

/-! java/util/Arrays -/
set_option maxRecDepth 100000
def RJ8 : String := "java/util/Arrays"
abbrev cJ8_fill : ByteArray := prog_54_method_103_code
def yJ8_fill : MethodName := ⟨RJ8, "fill", "([II)V"⟩
def dkwJ8_fill_0 : List UInt8 := [3, 61, 42, 190, 62, 28, 29, 162, 0, 13, 42, 28, 27, 79, 132, 2, 1, 167, 255, 244, 177]
abbrev dktJ8_fill_0 : List UInt8 := dkwJ8_fill_0 ++ []
theorem dksJ8_fill_0 : cJ8_fill.data.toList.drop 0 = dktJ8_fill_0 := by decide +kernel
theorem dJ8_fill_0 : decode cJ8_fill 0 = .ok (.iconst 0, 1) := dk_3 (dk_at dksJ8_fill_0 0 rfl rfl)
theorem dJ8_fill_1 : decode cJ8_fill 1 = .ok (.istore_n 2, 1) := dk_61 (dk_at dksJ8_fill_0 1 rfl rfl)
theorem dJ8_fill_2 : decode cJ8_fill 2 = .ok (.aload_n 0, 1) := dk_42 (dk_at dksJ8_fill_0 2 rfl rfl)
theorem dJ8_fill_3 : decode cJ8_fill 3 = .ok (.arraylength, 1) := dk_190 (dk_at dksJ8_fill_0 3 rfl rfl)
theorem dJ8_fill_4 : decode cJ8_fill 4 = .ok (.istore_n 3, 1) := dk_62 (dk_at dksJ8_fill_0 4 rfl rfl)
theorem dJ8_fill_5 : decode cJ8_fill 5 = .ok (.iload_n 2, 1) := dk_28 (dk_at dksJ8_fill_0 5 rfl rfl)
theorem dJ8_fill_6 : decode cJ8_fill 6 = .ok (.iload_n 3, 1) := dk_29 (dk_at dksJ8_fill_0 6 rfl rfl)
theorem dJ8_fill_7 : decode cJ8_fill 7 = .ok (.if_icmp .ge 13, 3) := dk_162 0 13 (dk_at dksJ8_fill_0 7 rfl rfl)
theorem dJ8_fill_10 : decode cJ8_fill 10 = .ok (.aload_n 0, 1) := dk_42 (dk_at dksJ8_fill_0 10 rfl rfl)
theorem dJ8_fill_11 : decode cJ8_fill 11 = .ok (.iload_n 2, 1) := dk_28 (dk_at dksJ8_fill_0 11 rfl rfl)
theorem dJ8_fill_12 : decode cJ8_fill 12 = .ok (.iload_n 1, 1) := dk_27 (dk_at dksJ8_fill_0 12 rfl rfl)
theorem dJ8_fill_13 : decode cJ8_fill 13 = .ok (.iastore, 1) := dk_79 (dk_at dksJ8_fill_0 13 rfl rfl)
theorem dJ8_fill_14 : decode cJ8_fill 14 = .ok (.iinc 2 1, 3) := dk_132 2 1 (dk_at dksJ8_fill_0 14 rfl rfl)
theorem dJ8_fill_17 : decode cJ8_fill 17 = .ok (.goto (-12), 3) := dk_167 255 244 (dk_at dksJ8_fill_0 17 rfl rfl)
theorem dJ8_fill_20 : decode cJ8_fill 20 = .ok (.return_, 1) := dk_177 (dk_at dksJ8_fill_0 20 rfl rfl)
abbrev cJ8_copyOf : ByteArray := prog_54_method_119_code
def yJ8_copyOf : MethodName := ⟨RJ8, "copyOf", "([Ljava/lang/Object;I)[Ljava/lang/Object;"⟩
def dkwJ8_copyOf_0 : List UInt8 := [42, 27, 42, 182, 0, 86, 184, 1, 44, 176]
abbrev dktJ8_copyOf_0 : List UInt8 := dkwJ8_copyOf_0 ++ []
theorem dksJ8_copyOf_0 : cJ8_copyOf.data.toList.drop 0 = dktJ8_copyOf_0 := by decide +kernel
theorem dJ8_copyOf_0 : decode cJ8_copyOf 0 = .ok (.aload_n 0, 1) := dk_42 (dk_at dksJ8_copyOf_0 0 rfl rfl)
theorem dJ8_copyOf_1 : decode cJ8_copyOf 1 = .ok (.iload_n 1, 1) := dk_27 (dk_at dksJ8_copyOf_0 1 rfl rfl)
theorem dJ8_copyOf_2 : decode cJ8_copyOf 2 = .ok (.aload_n 0, 1) := dk_42 (dk_at dksJ8_copyOf_0 2 rfl rfl)
theorem dJ8_copyOf_3 : decode cJ8_copyOf 3 = .ok (.invokevirtual 86, 3) := dk_182 0 86 (dk_at dksJ8_copyOf_0 3 rfl rfl)
theorem dJ8_copyOf_6 : decode cJ8_copyOf 6 = .ok (.invokestatic 300, 3) := dk_184 1 44 (dk_at dksJ8_copyOf_0 6 rfl rfl)
theorem dJ8_copyOf_9 : decode cJ8_copyOf 9 = .ok (.areturn, 1) := dk_176 (dk_at dksJ8_copyOf_0 9 rfl rfl)
abbrev cJ8_copyOf_2 : ByteArray := prog_54_method_120_code
def yJ8_copyOf_2 : MethodName := ⟨RJ8, "copyOf", "([Ljava/lang/Object;ILjava/lang/Class;)[Ljava/lang/Object;"⟩
def dkwJ8_copyOf_2_1 : List UInt8 := [78, 42, 3, 45, 3, 42, 190, 27, 184, 1, 48, 184, 0, 150, 45, 176]
abbrev dktJ8_copyOf_2_1 : List UInt8 := dkwJ8_copyOf_2_1 ++ []
def dkwJ8_copyOf_2_0 : List UInt8 := [44, 18, 110, 166, 0, 10, 27, 189, 0, 2, 167, 0, 14, 44, 182, 0, 90, 27, 184, 0, 95, 192, 0, 110]
abbrev dktJ8_copyOf_2_0 : List UInt8 := dkwJ8_copyOf_2_0 ++ dktJ8_copyOf_2_1
theorem dksJ8_copyOf_2_0 : cJ8_copyOf_2.data.toList.drop 0 = dktJ8_copyOf_2_0 := by decide +kernel
theorem dksJ8_copyOf_2_1 : cJ8_copyOf_2.data.toList.drop 24 = dktJ8_copyOf_2_1 := dk_seg dksJ8_copyOf_2_0 24 rfl rfl
theorem dJ8_copyOf_2_0 : decode cJ8_copyOf_2 0 = .ok (.aload_n 2, 1) := dk_44 (dk_at dksJ8_copyOf_2_0 0 rfl rfl)
theorem dJ8_copyOf_2_1 : decode cJ8_copyOf_2 1 = .ok (.ldc 110, 2) := dk_18 110 (dk_at dksJ8_copyOf_2_0 1 rfl rfl)
theorem dJ8_copyOf_2_3 : decode cJ8_copyOf_2 3 = .ok (.if_acmp .ne 10, 3) := dk_166 0 10 (dk_at dksJ8_copyOf_2_0 3 rfl rfl)
theorem dJ8_copyOf_2_6 : decode cJ8_copyOf_2 6 = .ok (.iload_n 1, 1) := dk_27 (dk_at dksJ8_copyOf_2_0 6 rfl rfl)
theorem dJ8_copyOf_2_7 : decode cJ8_copyOf_2 7 = .ok (.anewarray 2, 3) := dk_189 0 2 (dk_at dksJ8_copyOf_2_0 7 rfl rfl)
theorem dJ8_copyOf_2_10 : decode cJ8_copyOf_2 10 = .ok (.goto 14, 3) := dk_167 0 14 (dk_at dksJ8_copyOf_2_0 10 rfl rfl)
theorem dJ8_copyOf_2_13 : decode cJ8_copyOf_2 13 = .ok (.aload_n 2, 1) := dk_44 (dk_at dksJ8_copyOf_2_0 13 rfl rfl)
theorem dJ8_copyOf_2_14 : decode cJ8_copyOf_2 14 = .ok (.invokevirtual 90, 3) := dk_182 0 90 (dk_at dksJ8_copyOf_2_0 14 rfl rfl)
theorem dJ8_copyOf_2_17 : decode cJ8_copyOf_2 17 = .ok (.iload_n 1, 1) := dk_27 (dk_at dksJ8_copyOf_2_0 17 rfl rfl)
theorem dJ8_copyOf_2_18 : decode cJ8_copyOf_2 18 = .ok (.invokestatic 95, 3) := dk_184 0 95 (dk_at dksJ8_copyOf_2_0 18 rfl rfl)
theorem dJ8_copyOf_2_21 : decode cJ8_copyOf_2 21 = .ok (.checkcast 110, 3) := dk_192 0 110 (dk_at dksJ8_copyOf_2_0 21 rfl rfl)
theorem dJ8_copyOf_2_24 : decode cJ8_copyOf_2 24 = .ok (.astore_n 3, 1) := dk_78 (dk_at dksJ8_copyOf_2_1 0 rfl rfl)
theorem dJ8_copyOf_2_25 : decode cJ8_copyOf_2 25 = .ok (.aload_n 0, 1) := dk_42 (dk_at dksJ8_copyOf_2_1 1 rfl rfl)
theorem dJ8_copyOf_2_26 : decode cJ8_copyOf_2 26 = .ok (.iconst 0, 1) := dk_3 (dk_at dksJ8_copyOf_2_1 2 rfl rfl)
theorem dJ8_copyOf_2_27 : decode cJ8_copyOf_2 27 = .ok (.aload_n 3, 1) := dk_45 (dk_at dksJ8_copyOf_2_1 3 rfl rfl)
theorem dJ8_copyOf_2_28 : decode cJ8_copyOf_2 28 = .ok (.iconst 0, 1) := dk_3 (dk_at dksJ8_copyOf_2_1 4 rfl rfl)
theorem dJ8_copyOf_2_29 : decode cJ8_copyOf_2 29 = .ok (.aload_n 0, 1) := dk_42 (dk_at dksJ8_copyOf_2_1 5 rfl rfl)
theorem dJ8_copyOf_2_30 : decode cJ8_copyOf_2 30 = .ok (.arraylength, 1) := dk_190 (dk_at dksJ8_copyOf_2_1 6 rfl rfl)
theorem dJ8_copyOf_2_31 : decode cJ8_copyOf_2 31 = .ok (.iload_n 1, 1) := dk_27 (dk_at dksJ8_copyOf_2_1 7 rfl rfl)
theorem dJ8_copyOf_2_32 : decode cJ8_copyOf_2 32 = .ok (.invokestatic 304, 3) := dk_184 1 48 (dk_at dksJ8_copyOf_2_1 8 rfl rfl)
theorem dJ8_copyOf_2_35 : decode cJ8_copyOf_2 35 = .ok (.invokestatic 150, 3) := dk_184 0 150 (dk_at dksJ8_copyOf_2_1 11 rfl rfl)
theorem dJ8_copyOf_2_38 : decode cJ8_copyOf_2 38 = .ok (.aload_n 3, 1) := dk_45 (dk_at dksJ8_copyOf_2_1 14 rfl rfl)
theorem dJ8_copyOf_2_39 : decode cJ8_copyOf_2 39 = .ok (.areturn, 1) := dk_176 (dk_at dksJ8_copyOf_2_1 15 rfl rfl)
abbrev cJ8_copyOf_3 : ByteArray := prog_54_method_123_code
def yJ8_copyOf_3 : MethodName := ⟨RJ8, "copyOf", "([II)[I"⟩
def dkwJ8_copyOf_3_1 : List UInt8 := [27, 184, 1, 48, 184, 0, 150, 44, 176]
abbrev dktJ8_copyOf_3_1 : List UInt8 := dkwJ8_copyOf_3_1 ++ []
def dkwJ8_copyOf_3_0 : List UInt8 := [27, 42, 190, 160, 0, 11, 42, 182, 1, 60, 192, 1, 61, 176, 27, 188, 10, 77, 42, 3, 44, 3, 42, 190]
abbrev dktJ8_copyOf_3_0 : List UInt8 := dkwJ8_copyOf_3_0 ++ dktJ8_copyOf_3_1
theorem dksJ8_copyOf_3_0 : cJ8_copyOf_3.data.toList.drop 0 = dktJ8_copyOf_3_0 := by decide +kernel
theorem dksJ8_copyOf_3_1 : cJ8_copyOf_3.data.toList.drop 24 = dktJ8_copyOf_3_1 := dk_seg dksJ8_copyOf_3_0 24 rfl rfl
theorem dJ8_copyOf_3_0 : decode cJ8_copyOf_3 0 = .ok (.iload_n 1, 1) := dk_27 (dk_at dksJ8_copyOf_3_0 0 rfl rfl)
theorem dJ8_copyOf_3_1 : decode cJ8_copyOf_3 1 = .ok (.aload_n 0, 1) := dk_42 (dk_at dksJ8_copyOf_3_0 1 rfl rfl)
theorem dJ8_copyOf_3_2 : decode cJ8_copyOf_3 2 = .ok (.arraylength, 1) := dk_190 (dk_at dksJ8_copyOf_3_0 2 rfl rfl)
theorem dJ8_copyOf_3_3 : decode cJ8_copyOf_3 3 = .ok (.if_icmp .ne 11, 3) := dk_160 0 11 (dk_at dksJ8_copyOf_3_0 3 rfl rfl)
theorem dJ8_copyOf_3_6 : decode cJ8_copyOf_3 6 = .ok (.aload_n 0, 1) := dk_42 (dk_at dksJ8_copyOf_3_0 6 rfl rfl)
theorem dJ8_copyOf_3_7 : decode cJ8_copyOf_3 7 = .ok (.invokevirtual 316, 3) := dk_182 1 60 (dk_at dksJ8_copyOf_3_0 7 rfl rfl)
theorem dJ8_copyOf_3_10 : decode cJ8_copyOf_3 10 = .ok (.checkcast 317, 3) := dk_192 1 61 (dk_at dksJ8_copyOf_3_0 10 rfl rfl)
theorem dJ8_copyOf_3_13 : decode cJ8_copyOf_3 13 = .ok (.areturn, 1) := dk_176 (dk_at dksJ8_copyOf_3_0 13 rfl rfl)
theorem dJ8_copyOf_3_14 : decode cJ8_copyOf_3 14 = .ok (.iload_n 1, 1) := dk_27 (dk_at dksJ8_copyOf_3_0 14 rfl rfl)
theorem dJ8_copyOf_3_15 : decode cJ8_copyOf_3 15 = .ok (.newarray .int, 2) := dk_188_10 (dk_at dksJ8_copyOf_3_0 15 rfl rfl)
theorem dJ8_copyOf_3_17 : decode cJ8_copyOf_3 17 = .ok (.astore_n 2, 1) := dk_77 (dk_at dksJ8_copyOf_3_0 17 rfl rfl)
theorem dJ8_copyOf_3_18 : decode cJ8_copyOf_3 18 = .ok (.aload_n 0, 1) := dk_42 (dk_at dksJ8_copyOf_3_0 18 rfl rfl)
theorem dJ8_copyOf_3_19 : decode cJ8_copyOf_3 19 = .ok (.iconst 0, 1) := dk_3 (dk_at dksJ8_copyOf_3_0 19 rfl rfl)
theorem dJ8_copyOf_3_20 : decode cJ8_copyOf_3 20 = .ok (.aload_n 2, 1) := dk_44 (dk_at dksJ8_copyOf_3_0 20 rfl rfl)
theorem dJ8_copyOf_3_21 : decode cJ8_copyOf_3 21 = .ok (.iconst 0, 1) := dk_3 (dk_at dksJ8_copyOf_3_0 21 rfl rfl)
theorem dJ8_copyOf_3_22 : decode cJ8_copyOf_3 22 = .ok (.aload_n 0, 1) := dk_42 (dk_at dksJ8_copyOf_3_0 22 rfl rfl)
theorem dJ8_copyOf_3_23 : decode cJ8_copyOf_3 23 = .ok (.arraylength, 1) := dk_190 (dk_at dksJ8_copyOf_3_0 23 rfl rfl)
theorem dJ8_copyOf_3_24 : decode cJ8_copyOf_3 24 = .ok (.iload_n 1, 1) := dk_27 (dk_at dksJ8_copyOf_3_1 0 rfl rfl)
theorem dJ8_copyOf_3_25 : decode cJ8_copyOf_3 25 = .ok (.invokestatic 304, 3) := dk_184 1 48 (dk_at dksJ8_copyOf_3_1 1 rfl rfl)
theorem dJ8_copyOf_3_28 : decode cJ8_copyOf_3 28 = .ok (.invokestatic 150, 3) := dk_184 0 150 (dk_at dksJ8_copyOf_3_1 4 rfl rfl)
theorem dJ8_copyOf_3_31 : decode cJ8_copyOf_3 31 = .ok (.aload_n 2, 1) := dk_44 (dk_at dksJ8_copyOf_3_1 7 rfl rfl)
theorem dJ8_copyOf_3_32 : decode cJ8_copyOf_3 32 = .ok (.areturn, 1) := dk_176 (dk_at dksJ8_copyOf_3_1 8 rfl rfl)
abbrev cJ8_copyOf_4 : ByteArray := prog_54_method_121_code
def yJ8_copyOf_4 : MethodName := ⟨RJ8, "copyOf", "([BI)[B"⟩
def dkwJ8_copyOf_4_1 : List UInt8 := [27, 184, 1, 48, 184, 0, 150, 44, 176]
abbrev dktJ8_copyOf_4_1 : List UInt8 := dkwJ8_copyOf_4_1 ++ []
def dkwJ8_copyOf_4_0 : List UInt8 := [27, 42, 190, 160, 0, 11, 42, 182, 1, 54, 192, 1, 55, 176, 27, 188, 8, 77, 42, 3, 44, 3, 42, 190]
abbrev dktJ8_copyOf_4_0 : List UInt8 := dkwJ8_copyOf_4_0 ++ dktJ8_copyOf_4_1
theorem dksJ8_copyOf_4_0 : cJ8_copyOf_4.data.toList.drop 0 = dktJ8_copyOf_4_0 := by decide +kernel
theorem dksJ8_copyOf_4_1 : cJ8_copyOf_4.data.toList.drop 24 = dktJ8_copyOf_4_1 := dk_seg dksJ8_copyOf_4_0 24 rfl rfl
theorem dJ8_copyOf_4_0 : decode cJ8_copyOf_4 0 = .ok (.iload_n 1, 1) := dk_27 (dk_at dksJ8_copyOf_4_0 0 rfl rfl)
theorem dJ8_copyOf_4_1 : decode cJ8_copyOf_4 1 = .ok (.aload_n 0, 1) := dk_42 (dk_at dksJ8_copyOf_4_0 1 rfl rfl)
theorem dJ8_copyOf_4_2 : decode cJ8_copyOf_4 2 = .ok (.arraylength, 1) := dk_190 (dk_at dksJ8_copyOf_4_0 2 rfl rfl)
theorem dJ8_copyOf_4_3 : decode cJ8_copyOf_4 3 = .ok (.if_icmp .ne 11, 3) := dk_160 0 11 (dk_at dksJ8_copyOf_4_0 3 rfl rfl)
theorem dJ8_copyOf_4_6 : decode cJ8_copyOf_4 6 = .ok (.aload_n 0, 1) := dk_42 (dk_at dksJ8_copyOf_4_0 6 rfl rfl)
theorem dJ8_copyOf_4_7 : decode cJ8_copyOf_4 7 = .ok (.invokevirtual 310, 3) := dk_182 1 54 (dk_at dksJ8_copyOf_4_0 7 rfl rfl)
theorem dJ8_copyOf_4_10 : decode cJ8_copyOf_4 10 = .ok (.checkcast 311, 3) := dk_192 1 55 (dk_at dksJ8_copyOf_4_0 10 rfl rfl)
theorem dJ8_copyOf_4_13 : decode cJ8_copyOf_4 13 = .ok (.areturn, 1) := dk_176 (dk_at dksJ8_copyOf_4_0 13 rfl rfl)
theorem dJ8_copyOf_4_14 : decode cJ8_copyOf_4 14 = .ok (.iload_n 1, 1) := dk_27 (dk_at dksJ8_copyOf_4_0 14 rfl rfl)
theorem dJ8_copyOf_4_15 : decode cJ8_copyOf_4 15 = .ok (.newarray .byte, 2) := dk_188_8 (dk_at dksJ8_copyOf_4_0 15 rfl rfl)
theorem dJ8_copyOf_4_17 : decode cJ8_copyOf_4 17 = .ok (.astore_n 2, 1) := dk_77 (dk_at dksJ8_copyOf_4_0 17 rfl rfl)
theorem dJ8_copyOf_4_18 : decode cJ8_copyOf_4 18 = .ok (.aload_n 0, 1) := dk_42 (dk_at dksJ8_copyOf_4_0 18 rfl rfl)
theorem dJ8_copyOf_4_19 : decode cJ8_copyOf_4 19 = .ok (.iconst 0, 1) := dk_3 (dk_at dksJ8_copyOf_4_0 19 rfl rfl)
theorem dJ8_copyOf_4_20 : decode cJ8_copyOf_4 20 = .ok (.aload_n 2, 1) := dk_44 (dk_at dksJ8_copyOf_4_0 20 rfl rfl)
theorem dJ8_copyOf_4_21 : decode cJ8_copyOf_4 21 = .ok (.iconst 0, 1) := dk_3 (dk_at dksJ8_copyOf_4_0 21 rfl rfl)
theorem dJ8_copyOf_4_22 : decode cJ8_copyOf_4 22 = .ok (.aload_n 0, 1) := dk_42 (dk_at dksJ8_copyOf_4_0 22 rfl rfl)
theorem dJ8_copyOf_4_23 : decode cJ8_copyOf_4 23 = .ok (.arraylength, 1) := dk_190 (dk_at dksJ8_copyOf_4_0 23 rfl rfl)
theorem dJ8_copyOf_4_24 : decode cJ8_copyOf_4 24 = .ok (.iload_n 1, 1) := dk_27 (dk_at dksJ8_copyOf_4_1 0 rfl rfl)
theorem dJ8_copyOf_4_25 : decode cJ8_copyOf_4 25 = .ok (.invokestatic 304, 3) := dk_184 1 48 (dk_at dksJ8_copyOf_4_1 1 rfl rfl)
theorem dJ8_copyOf_4_28 : decode cJ8_copyOf_4 28 = .ok (.invokestatic 150, 3) := dk_184 0 150 (dk_at dksJ8_copyOf_4_1 4 rfl rfl)
theorem dJ8_copyOf_4_31 : decode cJ8_copyOf_4 31 = .ok (.aload_n 2, 1) := dk_44 (dk_at dksJ8_copyOf_4_1 7 rfl rfl)
theorem dJ8_copyOf_4_32 : decode cJ8_copyOf_4 32 = .ok (.areturn, 1) := dk_176 (dk_at dksJ8_copyOf_4_1 8 rfl rfl)
abbrev cJ8_copyOfRange : ByteArray := prog_54_method_132_code
def yJ8_copyOfRange : MethodName := ⟨RJ8, "copyOfRange", "([BII)[B"⟩
def dkwJ8_copyOfRange_1 : List UInt8 := [176]
abbrev dktJ8_copyOfRange_1 : List UInt8 := dkwJ8_copyOfRange_1 ++ []
def dkwJ8_copyOfRange_0 : List UInt8 := [27, 154, 0, 9, 28, 42, 190, 159, 0, 10, 42, 27, 28, 184, 1, 83, 176, 42, 182, 1, 54, 192, 1, 55]
abbrev dktJ8_copyOfRange_0 : List UInt8 := dkwJ8_copyOfRange_0 ++ dktJ8_copyOfRange_1
theorem dksJ8_copyOfRange_0 : cJ8_copyOfRange.data.toList.drop 0 = dktJ8_copyOfRange_0 := by decide +kernel
theorem dksJ8_copyOfRange_1 : cJ8_copyOfRange.data.toList.drop 24 = dktJ8_copyOfRange_1 := dk_seg dksJ8_copyOfRange_0 24 rfl rfl
theorem dJ8_copyOfRange_0 : decode cJ8_copyOfRange 0 = .ok (.iload_n 1, 1) := dk_27 (dk_at dksJ8_copyOfRange_0 0 rfl rfl)
theorem dJ8_copyOfRange_1 : decode cJ8_copyOfRange 1 = .ok (.ifCond .ne 9, 3) := dk_154 0 9 (dk_at dksJ8_copyOfRange_0 1 rfl rfl)
theorem dJ8_copyOfRange_4 : decode cJ8_copyOfRange 4 = .ok (.iload_n 2, 1) := dk_28 (dk_at dksJ8_copyOfRange_0 4 rfl rfl)
theorem dJ8_copyOfRange_5 : decode cJ8_copyOfRange 5 = .ok (.aload_n 0, 1) := dk_42 (dk_at dksJ8_copyOfRange_0 5 rfl rfl)
theorem dJ8_copyOfRange_6 : decode cJ8_copyOfRange 6 = .ok (.arraylength, 1) := dk_190 (dk_at dksJ8_copyOfRange_0 6 rfl rfl)
theorem dJ8_copyOfRange_7 : decode cJ8_copyOfRange 7 = .ok (.if_icmp .eq 10, 3) := dk_159 0 10 (dk_at dksJ8_copyOfRange_0 7 rfl rfl)
theorem dJ8_copyOfRange_10 : decode cJ8_copyOfRange 10 = .ok (.aload_n 0, 1) := dk_42 (dk_at dksJ8_copyOfRange_0 10 rfl rfl)
theorem dJ8_copyOfRange_11 : decode cJ8_copyOfRange 11 = .ok (.iload_n 1, 1) := dk_27 (dk_at dksJ8_copyOfRange_0 11 rfl rfl)
theorem dJ8_copyOfRange_12 : decode cJ8_copyOfRange 12 = .ok (.iload_n 2, 1) := dk_28 (dk_at dksJ8_copyOfRange_0 12 rfl rfl)
theorem dJ8_copyOfRange_13 : decode cJ8_copyOfRange 13 = .ok (.invokestatic 339, 3) := dk_184 1 83 (dk_at dksJ8_copyOfRange_0 13 rfl rfl)
theorem dJ8_copyOfRange_16 : decode cJ8_copyOfRange 16 = .ok (.areturn, 1) := dk_176 (dk_at dksJ8_copyOfRange_0 16 rfl rfl)
theorem dJ8_copyOfRange_17 : decode cJ8_copyOfRange 17 = .ok (.aload_n 0, 1) := dk_42 (dk_at dksJ8_copyOfRange_0 17 rfl rfl)
theorem dJ8_copyOfRange_18 : decode cJ8_copyOfRange 18 = .ok (.invokevirtual 310, 3) := dk_182 1 54 (dk_at dksJ8_copyOfRange_0 18 rfl rfl)
theorem dJ8_copyOfRange_21 : decode cJ8_copyOfRange 21 = .ok (.checkcast 311, 3) := dk_192 1 55 (dk_at dksJ8_copyOfRange_0 21 rfl rfl)
theorem dJ8_copyOfRange_24 : decode cJ8_copyOfRange 24 = .ok (.areturn, 1) := dk_176 (dk_at dksJ8_copyOfRange_1 0 rfl rfl)
abbrev cJ8_copyOfRangeByte : ByteArray := prog_54_method_133_code
def yJ8_copyOfRangeByte : MethodName := ⟨RJ8, "copyOfRangeByte", "([BII)[B"⟩
def dkwJ8_copyOfRangeByte_1 : List UInt8 := [184, 1, 48, 184, 0, 150, 25, 4, 176]
abbrev dktJ8_copyOfRangeByte_1 : List UInt8 := dkwJ8_copyOfRangeByte_1 ++ []
def dkwJ8_copyOfRangeByte_0 : List UInt8 := [27, 28, 184, 1, 87, 28, 27, 100, 62, 29, 188, 8, 58, 4, 42, 27, 25, 4, 3, 42, 190, 27, 100, 29]
abbrev dktJ8_copyOfRangeByte_0 : List UInt8 := dkwJ8_copyOfRangeByte_0 ++ dktJ8_copyOfRangeByte_1
theorem dksJ8_copyOfRangeByte_0 : cJ8_copyOfRangeByte.data.toList.drop 0 = dktJ8_copyOfRangeByte_0 := by decide +kernel
theorem dksJ8_copyOfRangeByte_1 : cJ8_copyOfRangeByte.data.toList.drop 24 = dktJ8_copyOfRangeByte_1 := dk_seg dksJ8_copyOfRangeByte_0 24 rfl rfl
theorem dJ8_copyOfRangeByte_0 : decode cJ8_copyOfRangeByte 0 = .ok (.iload_n 1, 1) := dk_27 (dk_at dksJ8_copyOfRangeByte_0 0 rfl rfl)
theorem dJ8_copyOfRangeByte_1 : decode cJ8_copyOfRangeByte 1 = .ok (.iload_n 2, 1) := dk_28 (dk_at dksJ8_copyOfRangeByte_0 1 rfl rfl)
theorem dJ8_copyOfRangeByte_2 : decode cJ8_copyOfRangeByte 2 = .ok (.invokestatic 343, 3) := dk_184 1 87 (dk_at dksJ8_copyOfRangeByte_0 2 rfl rfl)
theorem dJ8_copyOfRangeByte_5 : decode cJ8_copyOfRangeByte 5 = .ok (.iload_n 2, 1) := dk_28 (dk_at dksJ8_copyOfRangeByte_0 5 rfl rfl)
theorem dJ8_copyOfRangeByte_6 : decode cJ8_copyOfRangeByte 6 = .ok (.iload_n 1, 1) := dk_27 (dk_at dksJ8_copyOfRangeByte_0 6 rfl rfl)
theorem dJ8_copyOfRangeByte_7 : decode cJ8_copyOfRangeByte 7 = .ok (.isub, 1) := dk_100 (dk_at dksJ8_copyOfRangeByte_0 7 rfl rfl)
theorem dJ8_copyOfRangeByte_8 : decode cJ8_copyOfRangeByte 8 = .ok (.istore_n 3, 1) := dk_62 (dk_at dksJ8_copyOfRangeByte_0 8 rfl rfl)
theorem dJ8_copyOfRangeByte_9 : decode cJ8_copyOfRangeByte 9 = .ok (.iload_n 3, 1) := dk_29 (dk_at dksJ8_copyOfRangeByte_0 9 rfl rfl)
theorem dJ8_copyOfRangeByte_10 : decode cJ8_copyOfRangeByte 10 = .ok (.newarray .byte, 2) := dk_188_8 (dk_at dksJ8_copyOfRangeByte_0 10 rfl rfl)
theorem dJ8_copyOfRangeByte_12 : decode cJ8_copyOfRangeByte 12 = .ok (.astore 4, 2) := dk_58 4 (dk_at dksJ8_copyOfRangeByte_0 12 rfl rfl)
theorem dJ8_copyOfRangeByte_14 : decode cJ8_copyOfRangeByte 14 = .ok (.aload_n 0, 1) := dk_42 (dk_at dksJ8_copyOfRangeByte_0 14 rfl rfl)
theorem dJ8_copyOfRangeByte_15 : decode cJ8_copyOfRangeByte 15 = .ok (.iload_n 1, 1) := dk_27 (dk_at dksJ8_copyOfRangeByte_0 15 rfl rfl)
theorem dJ8_copyOfRangeByte_16 : decode cJ8_copyOfRangeByte 16 = .ok (.aload 4, 2) := dk_25 4 (dk_at dksJ8_copyOfRangeByte_0 16 rfl rfl)
theorem dJ8_copyOfRangeByte_18 : decode cJ8_copyOfRangeByte 18 = .ok (.iconst 0, 1) := dk_3 (dk_at dksJ8_copyOfRangeByte_0 18 rfl rfl)
theorem dJ8_copyOfRangeByte_19 : decode cJ8_copyOfRangeByte 19 = .ok (.aload_n 0, 1) := dk_42 (dk_at dksJ8_copyOfRangeByte_0 19 rfl rfl)
theorem dJ8_copyOfRangeByte_20 : decode cJ8_copyOfRangeByte 20 = .ok (.arraylength, 1) := dk_190 (dk_at dksJ8_copyOfRangeByte_0 20 rfl rfl)
theorem dJ8_copyOfRangeByte_21 : decode cJ8_copyOfRangeByte 21 = .ok (.iload_n 1, 1) := dk_27 (dk_at dksJ8_copyOfRangeByte_0 21 rfl rfl)
theorem dJ8_copyOfRangeByte_22 : decode cJ8_copyOfRangeByte 22 = .ok (.isub, 1) := dk_100 (dk_at dksJ8_copyOfRangeByte_0 22 rfl rfl)
theorem dJ8_copyOfRangeByte_23 : decode cJ8_copyOfRangeByte 23 = .ok (.iload_n 3, 1) := dk_29 (dk_at dksJ8_copyOfRangeByte_0 23 rfl rfl)
theorem dJ8_copyOfRangeByte_24 : decode cJ8_copyOfRangeByte 24 = .ok (.invokestatic 304, 3) := dk_184 1 48 (dk_at dksJ8_copyOfRangeByte_1 0 rfl rfl)
theorem dJ8_copyOfRangeByte_27 : decode cJ8_copyOfRangeByte 27 = .ok (.invokestatic 150, 3) := dk_184 0 150 (dk_at dksJ8_copyOfRangeByte_1 3 rfl rfl)
theorem dJ8_copyOfRangeByte_30 : decode cJ8_copyOfRangeByte 30 = .ok (.aload 4, 2) := dk_25 4 (dk_at dksJ8_copyOfRangeByte_1 6 rfl rfl)
theorem dJ8_copyOfRangeByte_32 : decode cJ8_copyOfRangeByte 32 = .ok (.areturn, 1) := dk_176 (dk_at dksJ8_copyOfRangeByte_1 8 rfl rfl)
abbrev cJ8_checkLength : ByteArray := prog_54_method_131_code
def yJ8_checkLength : MethodName := ⟨RJ8, "checkLength", "(II)V"⟩
def dkwJ8_checkLength_1 : List UInt8 := [182, 0, 50, 27, 182, 0, 54, 182, 0, 61, 183, 0, 65, 191, 177]
abbrev dktJ8_checkLength_1 : List UInt8 := dkwJ8_checkLength_1 ++ []
def dkwJ8_checkLength_0 : List UInt8 := [27, 26, 162, 0, 35, 187, 0, 43, 89, 187, 0, 45, 89, 183, 0, 47, 26, 182, 0, 54, 19, 1, 81]
abbrev dktJ8_checkLength_0 : List UInt8 := dkwJ8_checkLength_0 ++ dktJ8_checkLength_1
theorem dksJ8_checkLength_0 : cJ8_checkLength.data.toList.drop 0 = dktJ8_checkLength_0 := by decide +kernel
theorem dksJ8_checkLength_1 : cJ8_checkLength.data.toList.drop 23 = dktJ8_checkLength_1 := dk_seg dksJ8_checkLength_0 23 rfl rfl
theorem dJ8_checkLength_0 : decode cJ8_checkLength 0 = .ok (.iload_n 1, 1) := dk_27 (dk_at dksJ8_checkLength_0 0 rfl rfl)
theorem dJ8_checkLength_1 : decode cJ8_checkLength 1 = .ok (.iload_n 0, 1) := dk_26 (dk_at dksJ8_checkLength_0 1 rfl rfl)
theorem dJ8_checkLength_2 : decode cJ8_checkLength 2 = .ok (.if_icmp .ge 35, 3) := dk_162 0 35 (dk_at dksJ8_checkLength_0 2 rfl rfl)
theorem dJ8_checkLength_5 : decode cJ8_checkLength 5 = .ok (.new 43, 3) := dk_187 0 43 (dk_at dksJ8_checkLength_0 5 rfl rfl)
theorem dJ8_checkLength_8 : decode cJ8_checkLength 8 = .ok (.dup, 1) := dk_89 (dk_at dksJ8_checkLength_0 8 rfl rfl)
theorem dJ8_checkLength_9 : decode cJ8_checkLength 9 = .ok (.new 45, 3) := dk_187 0 45 (dk_at dksJ8_checkLength_0 9 rfl rfl)
theorem dJ8_checkLength_12 : decode cJ8_checkLength 12 = .ok (.dup, 1) := dk_89 (dk_at dksJ8_checkLength_0 12 rfl rfl)
theorem dJ8_checkLength_13 : decode cJ8_checkLength 13 = .ok (.invokespecial 47, 3) := dk_183 0 47 (dk_at dksJ8_checkLength_0 13 rfl rfl)
theorem dJ8_checkLength_16 : decode cJ8_checkLength 16 = .ok (.iload_n 0, 1) := dk_26 (dk_at dksJ8_checkLength_0 16 rfl rfl)
theorem dJ8_checkLength_17 : decode cJ8_checkLength 17 = .ok (.invokevirtual 54, 3) := dk_182 0 54 (dk_at dksJ8_checkLength_0 17 rfl rfl)
theorem dJ8_checkLength_20 : decode cJ8_checkLength 20 = .ok (.ldc_w 337, 3) := dk_19 1 81 (dk_at dksJ8_checkLength_0 20 rfl rfl)
theorem dJ8_checkLength_23 : decode cJ8_checkLength 23 = .ok (.invokevirtual 50, 3) := dk_182 0 50 (dk_at dksJ8_checkLength_1 0 rfl rfl)
theorem dJ8_checkLength_26 : decode cJ8_checkLength 26 = .ok (.iload_n 1, 1) := dk_27 (dk_at dksJ8_checkLength_1 3 rfl rfl)
theorem dJ8_checkLength_27 : decode cJ8_checkLength 27 = .ok (.invokevirtual 54, 3) := dk_182 0 54 (dk_at dksJ8_checkLength_1 4 rfl rfl)
theorem dJ8_checkLength_30 : decode cJ8_checkLength 30 = .ok (.invokevirtual 61, 3) := dk_182 0 61 (dk_at dksJ8_checkLength_1 7 rfl rfl)
theorem dJ8_checkLength_33 : decode cJ8_checkLength 33 = .ok (.invokespecial 65, 3) := dk_183 0 65 (dk_at dksJ8_checkLength_1 10 rfl rfl)
theorem dJ8_checkLength_36 : decode cJ8_checkLength 36 = .ok (.athrow, 1) := dk_191 (dk_at dksJ8_checkLength_1 13 rfl rfl)
theorem dJ8_checkLength_37 : decode cJ8_checkLength 37 = .ok (.return_, 1) := dk_177 (dk_at dksJ8_checkLength_1 14 rfl rfl)
abbrev cJ8_copyOf_5 : ByteArray := prog_54_method_125_code
def yJ8_copyOf_5 : MethodName := ⟨RJ8, "copyOf", "([CI)[C"⟩
def dkwJ8_copyOf_5_1 : List UInt8 := [27, 184, 1, 48, 184, 0, 150, 44, 176]
abbrev dktJ8_copyOf_5_1 : List UInt8 := dkwJ8_copyOf_5_1 ++ []
def dkwJ8_copyOf_5_0 : List UInt8 := [27, 42, 190, 160, 0, 11, 42, 182, 1, 66, 192, 1, 67, 176, 27, 188, 5, 77, 42, 3, 44, 3, 42, 190]
abbrev dktJ8_copyOf_5_0 : List UInt8 := dkwJ8_copyOf_5_0 ++ dktJ8_copyOf_5_1
theorem dksJ8_copyOf_5_0 : cJ8_copyOf_5.data.toList.drop 0 = dktJ8_copyOf_5_0 := by decide +kernel
theorem dksJ8_copyOf_5_1 : cJ8_copyOf_5.data.toList.drop 24 = dktJ8_copyOf_5_1 := dk_seg dksJ8_copyOf_5_0 24 rfl rfl
theorem dJ8_copyOf_5_0 : decode cJ8_copyOf_5 0 = .ok (.iload_n 1, 1) := dk_27 (dk_at dksJ8_copyOf_5_0 0 rfl rfl)
theorem dJ8_copyOf_5_1 : decode cJ8_copyOf_5 1 = .ok (.aload_n 0, 1) := dk_42 (dk_at dksJ8_copyOf_5_0 1 rfl rfl)
theorem dJ8_copyOf_5_2 : decode cJ8_copyOf_5 2 = .ok (.arraylength, 1) := dk_190 (dk_at dksJ8_copyOf_5_0 2 rfl rfl)
theorem dJ8_copyOf_5_3 : decode cJ8_copyOf_5 3 = .ok (.if_icmp .ne 11, 3) := dk_160 0 11 (dk_at dksJ8_copyOf_5_0 3 rfl rfl)
theorem dJ8_copyOf_5_6 : decode cJ8_copyOf_5 6 = .ok (.aload_n 0, 1) := dk_42 (dk_at dksJ8_copyOf_5_0 6 rfl rfl)
theorem dJ8_copyOf_5_7 : decode cJ8_copyOf_5 7 = .ok (.invokevirtual 322, 3) := dk_182 1 66 (dk_at dksJ8_copyOf_5_0 7 rfl rfl)
theorem dJ8_copyOf_5_10 : decode cJ8_copyOf_5 10 = .ok (.checkcast 323, 3) := dk_192 1 67 (dk_at dksJ8_copyOf_5_0 10 rfl rfl)
theorem dJ8_copyOf_5_13 : decode cJ8_copyOf_5 13 = .ok (.areturn, 1) := dk_176 (dk_at dksJ8_copyOf_5_0 13 rfl rfl)
theorem dJ8_copyOf_5_14 : decode cJ8_copyOf_5 14 = .ok (.iload_n 1, 1) := dk_27 (dk_at dksJ8_copyOf_5_0 14 rfl rfl)
theorem dJ8_copyOf_5_15 : decode cJ8_copyOf_5 15 = .ok (.newarray .char, 2) := dk_188_5 (dk_at dksJ8_copyOf_5_0 15 rfl rfl)
theorem dJ8_copyOf_5_17 : decode cJ8_copyOf_5 17 = .ok (.astore_n 2, 1) := dk_77 (dk_at dksJ8_copyOf_5_0 17 rfl rfl)
theorem dJ8_copyOf_5_18 : decode cJ8_copyOf_5 18 = .ok (.aload_n 0, 1) := dk_42 (dk_at dksJ8_copyOf_5_0 18 rfl rfl)
theorem dJ8_copyOf_5_19 : decode cJ8_copyOf_5 19 = .ok (.iconst 0, 1) := dk_3 (dk_at dksJ8_copyOf_5_0 19 rfl rfl)
theorem dJ8_copyOf_5_20 : decode cJ8_copyOf_5 20 = .ok (.aload_n 2, 1) := dk_44 (dk_at dksJ8_copyOf_5_0 20 rfl rfl)
theorem dJ8_copyOf_5_21 : decode cJ8_copyOf_5 21 = .ok (.iconst 0, 1) := dk_3 (dk_at dksJ8_copyOf_5_0 21 rfl rfl)
theorem dJ8_copyOf_5_22 : decode cJ8_copyOf_5 22 = .ok (.aload_n 0, 1) := dk_42 (dk_at dksJ8_copyOf_5_0 22 rfl rfl)
theorem dJ8_copyOf_5_23 : decode cJ8_copyOf_5 23 = .ok (.arraylength, 1) := dk_190 (dk_at dksJ8_copyOf_5_0 23 rfl rfl)
theorem dJ8_copyOf_5_24 : decode cJ8_copyOf_5 24 = .ok (.iload_n 1, 1) := dk_27 (dk_at dksJ8_copyOf_5_1 0 rfl rfl)
theorem dJ8_copyOf_5_25 : decode cJ8_copyOf_5 25 = .ok (.invokestatic 304, 3) := dk_184 1 48 (dk_at dksJ8_copyOf_5_1 1 rfl rfl)
theorem dJ8_copyOf_5_28 : decode cJ8_copyOf_5 28 = .ok (.invokestatic 150, 3) := dk_184 0 150 (dk_at dksJ8_copyOf_5_1 4 rfl rfl)
theorem dJ8_copyOf_5_31 : decode cJ8_copyOf_5 31 = .ok (.aload_n 2, 1) := dk_44 (dk_at dksJ8_copyOf_5_1 7 rfl rfl)
theorem dJ8_copyOf_5_32 : decode cJ8_copyOf_5 32 = .ok (.areturn, 1) := dk_176 (dk_at dksJ8_copyOf_5_1 8 rfl rfl)
abbrev cJ8_fill_2 : ByteArray := prog_54_method_117_code
def yJ8_fill_2 : MethodName := ⟨RJ8, "fill", "([Ljava/lang/Object;Ljava/lang/Object;)V"⟩
def dkwJ8_fill_2_0 : List UInt8 := [3, 61, 42, 190, 62, 28, 29, 162, 0, 13, 42, 28, 43, 83, 132, 2, 1, 167, 255, 244, 177]
abbrev dktJ8_fill_2_0 : List UInt8 := dkwJ8_fill_2_0 ++ []
theorem dksJ8_fill_2_0 : cJ8_fill_2.data.toList.drop 0 = dktJ8_fill_2_0 := by decide +kernel
theorem dJ8_fill_2_0 : decode cJ8_fill_2 0 = .ok (.iconst 0, 1) := dk_3 (dk_at dksJ8_fill_2_0 0 rfl rfl)
theorem dJ8_fill_2_1 : decode cJ8_fill_2 1 = .ok (.istore_n 2, 1) := dk_61 (dk_at dksJ8_fill_2_0 1 rfl rfl)
theorem dJ8_fill_2_2 : decode cJ8_fill_2 2 = .ok (.aload_n 0, 1) := dk_42 (dk_at dksJ8_fill_2_0 2 rfl rfl)
theorem dJ8_fill_2_3 : decode cJ8_fill_2 3 = .ok (.arraylength, 1) := dk_190 (dk_at dksJ8_fill_2_0 3 rfl rfl)
theorem dJ8_fill_2_4 : decode cJ8_fill_2 4 = .ok (.istore_n 3, 1) := dk_62 (dk_at dksJ8_fill_2_0 4 rfl rfl)
theorem dJ8_fill_2_5 : decode cJ8_fill_2 5 = .ok (.iload_n 2, 1) := dk_28 (dk_at dksJ8_fill_2_0 5 rfl rfl)
theorem dJ8_fill_2_6 : decode cJ8_fill_2 6 = .ok (.iload_n 3, 1) := dk_29 (dk_at dksJ8_fill_2_0 6 rfl rfl)
theorem dJ8_fill_2_7 : decode cJ8_fill_2 7 = .ok (.if_icmp .ge 13, 3) := dk_162 0 13 (dk_at dksJ8_fill_2_0 7 rfl rfl)
theorem dJ8_fill_2_10 : decode cJ8_fill_2 10 = .ok (.aload_n 0, 1) := dk_42 (dk_at dksJ8_fill_2_0 10 rfl rfl)
theorem dJ8_fill_2_11 : decode cJ8_fill_2 11 = .ok (.iload_n 2, 1) := dk_28 (dk_at dksJ8_fill_2_0 11 rfl rfl)
theorem dJ8_fill_2_12 : decode cJ8_fill_2 12 = .ok (.aload_n 1, 1) := dk_43 (dk_at dksJ8_fill_2_0 12 rfl rfl)
theorem dJ8_fill_2_13 : decode cJ8_fill_2 13 = .ok (.aastore, 1) := dk_83 (dk_at dksJ8_fill_2_0 13 rfl rfl)
theorem dJ8_fill_2_14 : decode cJ8_fill_2 14 = .ok (.iinc 2 1, 3) := dk_132 2 1 (dk_at dksJ8_fill_2_0 14 rfl rfl)
theorem dJ8_fill_2_17 : decode cJ8_fill_2 17 = .ok (.goto (-12), 3) := dk_167 255 244 (dk_at dksJ8_fill_2_0 17 rfl rfl)
theorem dJ8_fill_2_20 : decode cJ8_fill_2 20 = .ok (.return_, 1) := dk_177 (dk_at dksJ8_fill_2_0 20 rfl rfl)
theorem q176 : (Jvm.Cond.initialized "java/util/Arrays") ∈ lw_all := lw_g (lw_at lw_m1 16 rfl) rfl
theorem q387 : (Jvm.Cond.static ({ cls := "java/util/Arrays", name := "fill", desc := "([II)V" } : Jvm.MethodName)) ∈ lw_all := lw_g (lw_at lw_m1 227 rfl) rfl
theorem q388 : (Jvm.Cond.code ({ cls := "java/util/Arrays", name := "fill", desc := "([II)V" } : Jvm.MethodName) prog_54_method_103_code (4 : Nat) (Option.none : Option Jvm.ClassFile.FieldType)) ∈ lw_all := lw_g (lw_at lw_m1 228 rfl) rfl
theorem q655 : (Jvm.Cond.static ({ cls := "java/util/Arrays", name := "copyOf", desc := "([Ljava/lang/Object;I)[Ljava/lang/Object;" } : Jvm.MethodName)) ∈ lw_all := lw_g (lw_at lw_m3 15 rfl) rfl
theorem q656 : (Jvm.Cond.code ({ cls := "java/util/Arrays", name := "copyOf", desc := "([Ljava/lang/Object;I)[Ljava/lang/Object;" } : Jvm.MethodName) prog_54_method_119_code (2 : Nat) (Option.some (Jvm.ClassFile.FieldType.array (Jvm.ClassFile.FieldType.object "java/lang/Object")))) ∈ lw_all := lw_g (lw_at lw_m3 16 rfl) rfl
theorem q657 : (Jvm.Cond.methodLink "java/util/Arrays" (86 : Nat) ({ cls := "java/lang/Object", name := "getClass", desc := "()Ljava/lang/Class;" } : Jvm.MethodName)) ∈ lw_all := lw_g (lw_at lw_m3 17 rfl) rfl
theorem q697 : (Jvm.Cond.methodLink "java/util/Arrays" (300 : Nat) ({ cls := "java/util/Arrays", name := "copyOf", desc := "([Ljava/lang/Object;ILjava/lang/Class;)[Ljava/lang/Object;" } : Jvm.MethodName)) ∈ lw_all := lw_g (lw_at lw_m3 57 rfl) rfl
theorem q698 : (Jvm.Cond.static ({ cls := "java/util/Arrays", name := "copyOf", desc := "([Ljava/lang/Object;ILjava/lang/Class;)[Ljava/lang/Object;" } : Jvm.MethodName)) ∈ lw_all := lw_g (lw_at lw_m3 58 rfl) rfl
theorem q699 : (Jvm.Cond.code ({ cls := "java/util/Arrays", name := "copyOf", desc := "([Ljava/lang/Object;ILjava/lang/Class;)[Ljava/lang/Object;" } : Jvm.MethodName) prog_54_method_120_code (4 : Nat) (Option.some (Jvm.ClassFile.FieldType.array (Jvm.ClassFile.FieldType.object "java/lang/Object")))) ∈ lw_all := lw_g (lw_at lw_m3 59 rfl) rfl
theorem q700 : (Jvm.Cond.classLink "java/util/Arrays" (110 : Nat) "[Ljava/lang/Object;") ∈ lw_all := lw_g (lw_at lw_m3 60 rfl) rfl
theorem q702 : (Jvm.Cond.classLink "java/util/Arrays" (2 : Nat) "java/lang/Object") ∈ lw_all := lw_g (lw_at lw_m3 62 rfl) rfl
theorem q703 : (Jvm.Cond.methodLink "java/util/Arrays" (304 : Nat) ({ cls := "java/lang/Math", name := "min", desc := "(II)I" } : Jvm.MethodName)) ∈ lw_all := lw_g (lw_at lw_m3 63 rfl) rfl
theorem q706 : (Jvm.Cond.methodLink "java/util/Arrays" (150 : Nat) ({ cls := "java/lang/System", name := "arraycopy", desc := "(Ljava/lang/Object;ILjava/lang/Object;II)V" } : Jvm.MethodName)) ∈ lw_all := lw_g (lw_at lw_m3 66 rfl) rfl
theorem q871 : (Jvm.Cond.static ({ cls := "java/util/Arrays", name := "copyOf", desc := "([II)[I" } : Jvm.MethodName)) ∈ lw_all := lw_g (lw_at lw_m3 231 rfl) rfl
theorem q872 : (Jvm.Cond.code ({ cls := "java/util/Arrays", name := "copyOf", desc := "([II)[I" } : Jvm.MethodName) prog_54_method_123_code (3 : Nat) (Option.some (Jvm.ClassFile.FieldType.array Jvm.ClassFile.FieldType.int))) ∈ lw_all := lw_g (lw_at lw_m3 232 rfl) rfl
theorem q873 : (Jvm.Cond.methodLink "java/util/Arrays" (316 : Nat) ({ cls := "[I", name := "clone", desc := "()Ljava/lang/Object;" } : Jvm.MethodName)) ∈ lw_all := lw_g (lw_at lw_m3 233 rfl) rfl
theorem q879 : (Jvm.Cond.classLink "java/util/Arrays" (317 : Nat) "[I") ∈ lw_all := lw_g (lw_at lw_m3 239 rfl) rfl
theorem q1468 : (Jvm.Cond.static ({ cls := "java/util/Arrays", name := "copyOf", desc := "([BI)[B" } : Jvm.MethodName)) ∈ lw_all := lw_g (lw_at lw_m6 108 rfl) rfl
theorem q1469 : (Jvm.Cond.code ({ cls := "java/util/Arrays", name := "copyOf", desc := "([BI)[B" } : Jvm.MethodName) prog_54_method_121_code (3 : Nat) (Option.some (Jvm.ClassFile.FieldType.array Jvm.ClassFile.FieldType.byte))) ∈ lw_all := lw_g (lw_at lw_m6 109 rfl) rfl
theorem q1470 : (Jvm.Cond.methodLink "java/util/Arrays" (310 : Nat) ({ cls := "[B", name := "clone", desc := "()Ljava/lang/Object;" } : Jvm.MethodName)) ∈ lw_all := lw_g (lw_at lw_m6 110 rfl) rfl
theorem q1474 : (Jvm.Cond.classLink "java/util/Arrays" (311 : Nat) "[B") ∈ lw_all := lw_g (lw_at lw_m6 114 rfl) rfl
theorem q1547 : (Jvm.Cond.static ({ cls := "java/util/Arrays", name := "copyOfRange", desc := "([BII)[B" } : Jvm.MethodName)) ∈ lw_all := lw_g (lw_at lw_m6 187 rfl) rfl
theorem q1548 : (Jvm.Cond.code ({ cls := "java/util/Arrays", name := "copyOfRange", desc := "([BII)[B" } : Jvm.MethodName) prog_54_method_132_code (3 : Nat) (Option.some (Jvm.ClassFile.FieldType.array Jvm.ClassFile.FieldType.byte))) ∈ lw_all := lw_g (lw_at lw_m6 188 rfl) rfl
theorem q1549 : (Jvm.Cond.methodLink "java/util/Arrays" (339 : Nat) ({ cls := "java/util/Arrays", name := "copyOfRangeByte", desc := "([BII)[B" } : Jvm.MethodName)) ∈ lw_all := lw_g (lw_at lw_m6 189 rfl) rfl
theorem q1550 : (Jvm.Cond.static ({ cls := "java/util/Arrays", name := "copyOfRangeByte", desc := "([BII)[B" } : Jvm.MethodName)) ∈ lw_all := lw_g (lw_at lw_m6 190 rfl) rfl
theorem q1551 : (Jvm.Cond.code ({ cls := "java/util/Arrays", name := "copyOfRangeByte", desc := "([BII)[B" } : Jvm.MethodName) prog_54_method_133_code (5 : Nat) (Option.some (Jvm.ClassFile.FieldType.array Jvm.ClassFile.FieldType.byte))) ∈ lw_all := lw_g (lw_at lw_m6 191 rfl) rfl
theorem q1552 : (Jvm.Cond.methodLink "java/util/Arrays" (343 : Nat) ({ cls := "java/util/Arrays", name := "checkLength", desc := "(II)V" } : Jvm.MethodName)) ∈ lw_all := lw_g (lw_at lw_m6 192 rfl) rfl
theorem q1553 : (Jvm.Cond.static ({ cls := "java/util/Arrays", name := "checkLength", desc := "(II)V" } : Jvm.MethodName)) ∈ lw_all := lw_g (lw_at lw_m6 193 rfl) rfl
theorem q1554 : (Jvm.Cond.code ({ cls := "java/util/Arrays", name := "checkLength", desc := "(II)V" } : Jvm.MethodName) prog_54_method_131_code (2 : Nat) (Option.none : Option Jvm.ClassFile.FieldType)) ∈ lw_all := lw_g (lw_at lw_m6 194 rfl) rfl
theorem q1916 : (Jvm.Cond.static ({ cls := "java/util/Arrays", name := "copyOf", desc := "([CI)[C" } : Jvm.MethodName)) ∈ lw_all := lw_g (lw_at lw_m8 76 rfl) rfl
theorem q1917 : (Jvm.Cond.code ({ cls := "java/util/Arrays", name := "copyOf", desc := "([CI)[C" } : Jvm.MethodName) prog_54_method_125_code (3 : Nat) (Option.some (Jvm.ClassFile.FieldType.array Jvm.ClassFile.FieldType.char))) ∈ lw_all := lw_g (lw_at lw_m8 77 rfl) rfl
theorem q1918 : (Jvm.Cond.methodLink "java/util/Arrays" (322 : Nat) ({ cls := "[C", name := "clone", desc := "()Ljava/lang/Object;" } : Jvm.MethodName)) ∈ lw_all := lw_g (lw_at lw_m8 78 rfl) rfl
theorem q1922 : (Jvm.Cond.classLink "java/util/Arrays" (323 : Nat) "[C") ∈ lw_all := lw_g (lw_at lw_m8 82 rfl) rfl
theorem q2053 : (Jvm.Cond.static ({ cls := "java/util/Arrays", name := "fill", desc := "([Ljava/lang/Object;Ljava/lang/Object;)V" } : Jvm.MethodName)) ∈ lw_all := lw_g (lw_at lw_m8 213 rfl) rfl
theorem q2054 : (Jvm.Cond.code ({ cls := "java/util/Arrays", name := "fill", desc := "([Ljava/lang/Object;Ljava/lang/Object;)V" } : Jvm.MethodName) prog_54_method_117_code (4 : Nat) (Option.none : Option Jvm.ClassFile.FieldType)) ∈ lw_all := lw_g (lw_at lw_m8 214 rfl) rfl

/-! java/lang/StringLatin1 -/
set_option maxRecDepth 100000
def RJ9 : String := "java/lang/StringLatin1"
abbrev cJ9_canEncode : ByteArray := prog_47_method_3_code
def yJ9_canEncode : MethodName := ⟨RJ9, "canEncode", "(C)Z"⟩
def dkwJ9_canEncode_0 : List UInt8 := [26, 17, 0, 255, 163, 0, 7, 4, 167, 0, 4, 3, 172]
abbrev dktJ9_canEncode_0 : List UInt8 := dkwJ9_canEncode_0 ++ []
theorem dksJ9_canEncode_0 : cJ9_canEncode.data.toList.drop 0 = dktJ9_canEncode_0 := by decide +kernel
theorem dJ9_canEncode_0 : decode cJ9_canEncode 0 = .ok (.iload_n 0, 1) := dk_26 (dk_at dksJ9_canEncode_0 0 rfl rfl)
theorem dJ9_canEncode_1 : decode cJ9_canEncode 1 = .ok (.sipush 255, 3) := dk_17 0 255 (dk_at dksJ9_canEncode_0 1 rfl rfl)
theorem dJ9_canEncode_4 : decode cJ9_canEncode 4 = .ok (.if_icmp .gt 7, 3) := dk_163 0 7 (dk_at dksJ9_canEncode_0 4 rfl rfl)
theorem dJ9_canEncode_7 : decode cJ9_canEncode 7 = .ok (.iconst 1, 1) := dk_4 (dk_at dksJ9_canEncode_0 7 rfl rfl)
theorem dJ9_canEncode_8 : decode cJ9_canEncode 8 = .ok (.goto 4, 3) := dk_167 0 4 (dk_at dksJ9_canEncode_0 8 rfl rfl)
theorem dJ9_canEncode_11 : decode cJ9_canEncode 11 = .ok (.iconst 0, 1) := dk_3 (dk_at dksJ9_canEncode_0 11 rfl rfl)
theorem dJ9_canEncode_12 : decode cJ9_canEncode 12 = .ok (.ireturn, 1) := dk_172 (dk_at dksJ9_canEncode_0 12 rfl rfl)
abbrev cJ9_inflate : ByteArray := prog_47_method_50_code
def yJ9_inflate : MethodName := ⟨RJ9, "inflate", "([BI[BII)V"⟩
def dkwJ9_inflate_0 : List UInt8 := [42, 27, 44, 29, 21, 4, 184, 0, 240, 177]
abbrev dktJ9_inflate_0 : List UInt8 := dkwJ9_inflate_0 ++ []
theorem dksJ9_inflate_0 : cJ9_inflate.data.toList.drop 0 = dktJ9_inflate_0 := by decide +kernel
theorem dJ9_inflate_0 : decode cJ9_inflate 0 = .ok (.aload_n 0, 1) := dk_42 (dk_at dksJ9_inflate_0 0 rfl rfl)
theorem dJ9_inflate_1 : decode cJ9_inflate 1 = .ok (.iload_n 1, 1) := dk_27 (dk_at dksJ9_inflate_0 1 rfl rfl)
theorem dJ9_inflate_2 : decode cJ9_inflate 2 = .ok (.aload_n 2, 1) := dk_44 (dk_at dksJ9_inflate_0 2 rfl rfl)
theorem dJ9_inflate_3 : decode cJ9_inflate 3 = .ok (.iload_n 3, 1) := dk_29 (dk_at dksJ9_inflate_0 3 rfl rfl)
theorem dJ9_inflate_4 : decode cJ9_inflate 4 = .ok (.iload 4, 2) := dk_21 4 (dk_at dksJ9_inflate_0 4 rfl rfl)
theorem dJ9_inflate_6 : decode cJ9_inflate 6 = .ok (.invokestatic 240, 3) := dk_184 0 240 (dk_at dksJ9_inflate_0 6 rfl rfl)
theorem dJ9_inflate_9 : decode cJ9_inflate 9 = .ok (.return_, 1) := dk_177 (dk_at dksJ9_inflate_0 9 rfl rfl)
abbrev cJ9_equals : ByteArray := prog_47_method_13_code
def yJ9_equals : MethodName := ⟨RJ9, "equals", "([B[B)Z"⟩
def dkwJ9_equals_1 : List UInt8 := [3, 172, 132, 2, 1, 167, 255, 236, 4, 172, 3, 172]
abbrev dktJ9_equals_1 : List UInt8 := dkwJ9_equals_1 ++ []
def dkwJ9_equals_0 : List UInt8 := [42, 190, 43, 190, 160, 0, 30, 3, 61, 28, 42, 190, 162, 0, 20, 42, 28, 51, 43, 28, 51, 159, 0, 5]
abbrev dktJ9_equals_0 : List UInt8 := dkwJ9_equals_0 ++ dktJ9_equals_1
theorem dksJ9_equals_0 : cJ9_equals.data.toList.drop 0 = dktJ9_equals_0 := by decide +kernel
theorem dksJ9_equals_1 : cJ9_equals.data.toList.drop 24 = dktJ9_equals_1 := dk_seg dksJ9_equals_0 24 rfl rfl
theorem dJ9_equals_0 : decode cJ9_equals 0 = .ok (.aload_n 0, 1) := dk_42 (dk_at dksJ9_equals_0 0 rfl rfl)
theorem dJ9_equals_1 : decode cJ9_equals 1 = .ok (.arraylength, 1) := dk_190 (dk_at dksJ9_equals_0 1 rfl rfl)
theorem dJ9_equals_2 : decode cJ9_equals 2 = .ok (.aload_n 1, 1) := dk_43 (dk_at dksJ9_equals_0 2 rfl rfl)
theorem dJ9_equals_3 : decode cJ9_equals 3 = .ok (.arraylength, 1) := dk_190 (dk_at dksJ9_equals_0 3 rfl rfl)
theorem dJ9_equals_4 : decode cJ9_equals 4 = .ok (.if_icmp .ne 30, 3) := dk_160 0 30 (dk_at dksJ9_equals_0 4 rfl rfl)
theorem dJ9_equals_7 : decode cJ9_equals 7 = .ok (.iconst 0, 1) := dk_3 (dk_at dksJ9_equals_0 7 rfl rfl)
theorem dJ9_equals_8 : decode cJ9_equals 8 = .ok (.istore_n 2, 1) := dk_61 (dk_at dksJ9_equals_0 8 rfl rfl)
theorem dJ9_equals_9 : decode cJ9_equals 9 = .ok (.iload_n 2, 1) := dk_28 (dk_at dksJ9_equals_0 9 rfl rfl)
theorem dJ9_equals_10 : decode cJ9_equals 10 = .ok (.aload_n 0, 1) := dk_42 (dk_at dksJ9_equals_0 10 rfl rfl)
theorem dJ9_equals_11 : decode cJ9_equals 11 = .ok (.arraylength, 1) := dk_190 (dk_at dksJ9_equals_0 11 rfl rfl)
theorem dJ9_equals_12 : decode cJ9_equals 12 = .ok (.if_icmp .ge 20, 3) := dk_162 0 20 (dk_at dksJ9_equals_0 12 rfl rfl)
theorem dJ9_equals_15 : decode cJ9_equals 15 = .ok (.aload_n 0, 1) := dk_42 (dk_at dksJ9_equals_0 15 rfl rfl)
theorem dJ9_equals_16 : decode cJ9_equals 16 = .ok (.iload_n 2, 1) := dk_28 (dk_at dksJ9_equals_0 16 rfl rfl)
theorem dJ9_equals_17 : decode cJ9_equals 17 = .ok (.baload, 1) := dk_51 (dk_at dksJ9_equals_0 17 rfl rfl)
theorem dJ9_equals_18 : decode cJ9_equals 18 = .ok (.aload_n 1, 1) := dk_43 (dk_at dksJ9_equals_0 18 rfl rfl)
theorem dJ9_equals_19 : decode cJ9_equals 19 = .ok (.iload_n 2, 1) := dk_28 (dk_at dksJ9_equals_0 19 rfl rfl)
theorem dJ9_equals_20 : decode cJ9_equals 20 = .ok (.baload, 1) := dk_51 (dk_at dksJ9_equals_0 20 rfl rfl)
theorem dJ9_equals_21 : decode cJ9_equals 21 = .ok (.if_icmp .eq 5, 3) := dk_159 0 5 (dk_at dksJ9_equals_0 21 rfl rfl)
theorem dJ9_equals_24 : decode cJ9_equals 24 = .ok (.iconst 0, 1) := dk_3 (dk_at dksJ9_equals_1 0 rfl rfl)
theorem dJ9_equals_25 : decode cJ9_equals 25 = .ok (.ireturn, 1) := dk_172 (dk_at dksJ9_equals_1 1 rfl rfl)
theorem dJ9_equals_26 : decode cJ9_equals 26 = .ok (.iinc 2 1, 3) := dk_132 2 1 (dk_at dksJ9_equals_1 2 rfl rfl)
theorem dJ9_equals_29 : decode cJ9_equals 29 = .ok (.goto (-20), 3) := dk_167 255 236 (dk_at dksJ9_equals_1 5 rfl rfl)
theorem dJ9_equals_32 : decode cJ9_equals 32 = .ok (.iconst 1, 1) := dk_4 (dk_at dksJ9_equals_1 8 rfl rfl)
theorem dJ9_equals_33 : decode cJ9_equals 33 = .ok (.ireturn, 1) := dk_172 (dk_at dksJ9_equals_1 9 rfl rfl)
theorem dJ9_equals_34 : decode cJ9_equals 34 = .ok (.iconst 0, 1) := dk_3 (dk_at dksJ9_equals_1 10 rfl rfl)
theorem dJ9_equals_35 : decode cJ9_equals 35 = .ok (.ireturn, 1) := dk_172 (dk_at dksJ9_equals_1 11 rfl rfl)
abbrev cJ9_indexOf : ByteArray := prog_47_method_22_code
def yJ9_indexOf : MethodName := ⟨RJ9, "indexOf", "([BIII)I"⟩
def dkwJ9_indexOf_1 : List UInt8 := [161, 0, 5, 2, 172, 42, 27, 28, 29, 184, 0, 95, 172]
abbrev dktJ9_indexOf_1 : List UInt8 := dkwJ9_indexOf_1 ++ []
def dkwJ9_indexOf_0 : List UInt8 := [27, 184, 0, 88, 154, 0, 5, 2, 172, 28, 3, 184, 0, 92, 61, 29, 42, 190, 184, 0, 38, 62, 28, 29]
abbrev dktJ9_indexOf_0 : List UInt8 := dkwJ9_indexOf_0 ++ dktJ9_indexOf_1
theorem dksJ9_indexOf_0 : cJ9_indexOf.data.toList.drop 0 = dktJ9_indexOf_0 := by decide +kernel
theorem dksJ9_indexOf_1 : cJ9_indexOf.data.toList.drop 24 = dktJ9_indexOf_1 := dk_seg dksJ9_indexOf_0 24 rfl rfl
theorem dJ9_indexOf_0 : decode cJ9_indexOf 0 = .ok (.iload_n 1, 1) := dk_27 (dk_at dksJ9_indexOf_0 0 rfl rfl)
theorem dJ9_indexOf_1 : decode cJ9_indexOf 1 = .ok (.invokestatic 88, 3) := dk_184 0 88 (dk_at dksJ9_indexOf_0 1 rfl rfl)
theorem dJ9_indexOf_4 : decode cJ9_indexOf 4 = .ok (.ifCond .ne 5, 3) := dk_154 0 5 (dk_at dksJ9_indexOf_0 4 rfl rfl)
theorem dJ9_indexOf_7 : decode cJ9_indexOf 7 = .ok (.iconst (-1), 1) := dk_2 (dk_at dksJ9_indexOf_0 7 rfl rfl)
theorem dJ9_indexOf_8 : decode cJ9_indexOf 8 = .ok (.ireturn, 1) := dk_172 (dk_at dksJ9_indexOf_0 8 rfl rfl)
theorem dJ9_indexOf_9 : decode cJ9_indexOf 9 = .ok (.iload_n 2, 1) := dk_28 (dk_at dksJ9_indexOf_0 9 rfl rfl)
theorem dJ9_indexOf_10 : decode cJ9_indexOf 10 = .ok (.iconst 0, 1) := dk_3 (dk_at dksJ9_indexOf_0 10 rfl rfl)
theorem dJ9_indexOf_11 : decode cJ9_indexOf 11 = .ok (.invokestatic 92, 3) := dk_184 0 92 (dk_at dksJ9_indexOf_0 11 rfl rfl)
theorem dJ9_indexOf_14 : decode cJ9_indexOf 14 = .ok (.istore_n 2, 1) := dk_61 (dk_at dksJ9_indexOf_0 14 rfl rfl)
theorem dJ9_indexOf_15 : decode cJ9_indexOf 15 = .ok (.iload_n 3, 1) := dk_29 (dk_at dksJ9_indexOf_0 15 rfl rfl)
theorem dJ9_indexOf_16 : decode cJ9_indexOf 16 = .ok (.aload_n 0, 1) := dk_42 (dk_at dksJ9_indexOf_0 16 rfl rfl)
theorem dJ9_indexOf_17 : decode cJ9_indexOf 17 = .ok (.arraylength, 1) := dk_190 (dk_at dksJ9_indexOf_0 17 rfl rfl)
theorem dJ9_indexOf_18 : decode cJ9_indexOf 18 = .ok (.invokestatic 38, 3) := dk_184 0 38 (dk_at dksJ9_indexOf_0 18 rfl rfl)
theorem dJ9_indexOf_21 : decode cJ9_indexOf 21 = .ok (.istore_n 3, 1) := dk_62 (dk_at dksJ9_indexOf_0 21 rfl rfl)
theorem dJ9_indexOf_22 : decode cJ9_indexOf 22 = .ok (.iload_n 2, 1) := dk_28 (dk_at dksJ9_indexOf_0 22 rfl rfl)
theorem dJ9_indexOf_23 : decode cJ9_indexOf 23 = .ok (.iload_n 3, 1) := dk_29 (dk_at dksJ9_indexOf_0 23 rfl rfl)
theorem dJ9_indexOf_24 : decode cJ9_indexOf 24 = .ok (.if_icmp .lt 5, 3) := dk_161 0 5 (dk_at dksJ9_indexOf_1 0 rfl rfl)
theorem dJ9_indexOf_27 : decode cJ9_indexOf 27 = .ok (.iconst (-1), 1) := dk_2 (dk_at dksJ9_indexOf_1 3 rfl rfl)
theorem dJ9_indexOf_28 : decode cJ9_indexOf 28 = .ok (.ireturn, 1) := dk_172 (dk_at dksJ9_indexOf_1 4 rfl rfl)
theorem dJ9_indexOf_29 : decode cJ9_indexOf 29 = .ok (.aload_n 0, 1) := dk_42 (dk_at dksJ9_indexOf_1 5 rfl rfl)
theorem dJ9_indexOf_30 : decode cJ9_indexOf 30 = .ok (.iload_n 1, 1) := dk_27 (dk_at dksJ9_indexOf_1 6 rfl rfl)
theorem dJ9_indexOf_31 : decode cJ9_indexOf 31 = .ok (.iload_n 2, 1) := dk_28 (dk_at dksJ9_indexOf_1 7 rfl rfl)
theorem dJ9_indexOf_32 : decode cJ9_indexOf 32 = .ok (.iload_n 3, 1) := dk_29 (dk_at dksJ9_indexOf_1 8 rfl rfl)
theorem dJ9_indexOf_33 : decode cJ9_indexOf 33 = .ok (.invokestatic 95, 3) := dk_184 0 95 (dk_at dksJ9_indexOf_1 9 rfl rfl)
theorem dJ9_indexOf_36 : decode cJ9_indexOf 36 = .ok (.ireturn, 1) := dk_172 (dk_at dksJ9_indexOf_1 12 rfl rfl)
abbrev cJ9_canEncode_2 : ByteArray := prog_47_method_4_code
def yJ9_canEncode_2 : MethodName := ⟨RJ9, "canEncode", "(I)Z"⟩
def dkwJ9_canEncode_2_0 : List UInt8 := [26, 155, 0, 14, 26, 17, 0, 255, 163, 0, 7, 4, 167, 0, 4, 3, 172]
abbrev dktJ9_canEncode_2_0 : List UInt8 := dkwJ9_canEncode_2_0 ++ []
theorem dksJ9_canEncode_2_0 : cJ9_canEncode_2.data.toList.drop 0 = dktJ9_canEncode_2_0 := by decide +kernel
theorem dJ9_canEncode_2_0 : decode cJ9_canEncode_2 0 = .ok (.iload_n 0, 1) := dk_26 (dk_at dksJ9_canEncode_2_0 0 rfl rfl)
theorem dJ9_canEncode_2_1 : decode cJ9_canEncode_2 1 = .ok (.ifCond .lt 14, 3) := dk_155 0 14 (dk_at dksJ9_canEncode_2_0 1 rfl rfl)
theorem dJ9_canEncode_2_4 : decode cJ9_canEncode_2 4 = .ok (.iload_n 0, 1) := dk_26 (dk_at dksJ9_canEncode_2_0 4 rfl rfl)
theorem dJ9_canEncode_2_5 : decode cJ9_canEncode_2 5 = .ok (.sipush 255, 3) := dk_17 0 255 (dk_at dksJ9_canEncode_2_0 5 rfl rfl)
theorem dJ9_canEncode_2_8 : decode cJ9_canEncode_2 8 = .ok (.if_icmp .gt 7, 3) := dk_163 0 7 (dk_at dksJ9_canEncode_2_0 8 rfl rfl)
theorem dJ9_canEncode_2_11 : decode cJ9_canEncode_2 11 = .ok (.iconst 1, 1) := dk_4 (dk_at dksJ9_canEncode_2_0 11 rfl rfl)
theorem dJ9_canEncode_2_12 : decode cJ9_canEncode_2 12 = .ok (.goto 4, 3) := dk_167 0 4 (dk_at dksJ9_canEncode_2_0 12 rfl rfl)
theorem dJ9_canEncode_2_15 : decode cJ9_canEncode_2 15 = .ok (.iconst 0, 1) := dk_3 (dk_at dksJ9_canEncode_2_0 15 rfl rfl)
theorem dJ9_canEncode_2_16 : decode cJ9_canEncode_2 16 = .ok (.ireturn, 1) := dk_172 (dk_at dksJ9_canEncode_2_0 16 rfl rfl)
abbrev cJ9_indexOfChar : ByteArray := prog_47_method_23_code
def yJ9_indexOfChar : MethodName := ⟨RJ9, "indexOfChar", "([BIII)I"⟩
def dkwJ9_indexOfChar_1 : List UInt8 := [172, 132, 5, 1, 167, 255, 235, 2, 172]
abbrev dktJ9_indexOfChar_1 : List UInt8 := dkwJ9_indexOfChar_1 ++ []
def dkwJ9_indexOfChar_0 : List UInt8 := [27, 145, 54, 4, 28, 54, 5, 21, 5, 29, 162, 0, 21, 42, 21, 5, 51, 21, 4, 160, 0, 6, 21, 5]
abbrev dktJ9_indexOfChar_0 : List UInt8 := dkwJ9_indexOfChar_0 ++ dktJ9_indexOfChar_1
theorem dksJ9_indexOfChar_0 : cJ9_indexOfChar.data.toList.drop 0 = dktJ9_indexOfChar_0 := by decide +kernel
theorem dksJ9_indexOfChar_1 : cJ9_indexOfChar.data.toList.drop 24 = dktJ9_indexOfChar_1 := dk_seg dksJ9_indexOfChar_0 24 rfl rfl
theorem dJ9_indexOfChar_0 : decode cJ9_indexOfChar 0 = .ok (.iload_n 1, 1) := dk_27 (dk_at dksJ9_indexOfChar_0 0 rfl rfl)
theorem dJ9_indexOfChar_1 : decode cJ9_indexOfChar 1 = .ok (.i2b, 1) := dk_145 (dk_at dksJ9_indexOfChar_0 1 rfl rfl)
theorem dJ9_indexOfChar_2 : decode cJ9_indexOfChar 2 = .ok (.istore 4, 2) := dk_54 4 (dk_at dksJ9_indexOfChar_0 2 rfl rfl)
theorem dJ9_indexOfChar_4 : decode cJ9_indexOfChar 4 = .ok (.iload_n 2, 1) := dk_28 (dk_at dksJ9_indexOfChar_0 4 rfl rfl)
theorem dJ9_indexOfChar_5 : decode cJ9_indexOfChar 5 = .ok (.istore 5, 2) := dk_54 5 (dk_at dksJ9_indexOfChar_0 5 rfl rfl)
theorem dJ9_indexOfChar_7 : decode cJ9_indexOfChar 7 = .ok (.iload 5, 2) := dk_21 5 (dk_at dksJ9_indexOfChar_0 7 rfl rfl)
theorem dJ9_indexOfChar_9 : decode cJ9_indexOfChar 9 = .ok (.iload_n 3, 1) := dk_29 (dk_at dksJ9_indexOfChar_0 9 rfl rfl)
theorem dJ9_indexOfChar_10 : decode cJ9_indexOfChar 10 = .ok (.if_icmp .ge 21, 3) := dk_162 0 21 (dk_at dksJ9_indexOfChar_0 10 rfl rfl)
theorem dJ9_indexOfChar_13 : decode cJ9_indexOfChar 13 = .ok (.aload_n 0, 1) := dk_42 (dk_at dksJ9_indexOfChar_0 13 rfl rfl)
theorem dJ9_indexOfChar_14 : decode cJ9_indexOfChar 14 = .ok (.iload 5, 2) := dk_21 5 (dk_at dksJ9_indexOfChar_0 14 rfl rfl)
theorem dJ9_indexOfChar_16 : decode cJ9_indexOfChar 16 = .ok (.baload, 1) := dk_51 (dk_at dksJ9_indexOfChar_0 16 rfl rfl)
theorem dJ9_indexOfChar_17 : decode cJ9_indexOfChar 17 = .ok (.iload 4, 2) := dk_21 4 (dk_at dksJ9_indexOfChar_0 17 rfl rfl)
theorem dJ9_indexOfChar_19 : decode cJ9_indexOfChar 19 = .ok (.if_icmp .ne 6, 3) := dk_160 0 6 (dk_at dksJ9_indexOfChar_0 19 rfl rfl)
theorem dJ9_indexOfChar_22 : decode cJ9_indexOfChar 22 = .ok (.iload 5, 2) := dk_21 5 (dk_at dksJ9_indexOfChar_0 22 rfl rfl)
theorem dJ9_indexOfChar_24 : decode cJ9_indexOfChar 24 = .ok (.ireturn, 1) := dk_172 (dk_at dksJ9_indexOfChar_1 0 rfl rfl)
theorem dJ9_indexOfChar_25 : decode cJ9_indexOfChar 25 = .ok (.iinc 5 1, 3) := dk_132 5 1 (dk_at dksJ9_indexOfChar_1 1 rfl rfl)
theorem dJ9_indexOfChar_28 : decode cJ9_indexOfChar 28 = .ok (.goto (-21), 3) := dk_167 255 235 (dk_at dksJ9_indexOfChar_1 4 rfl rfl)
theorem dJ9_indexOfChar_31 : decode cJ9_indexOfChar 31 = .ok (.iconst (-1), 1) := dk_2 (dk_at dksJ9_indexOfChar_1 7 rfl rfl)
theorem dJ9_indexOfChar_32 : decode cJ9_indexOfChar 32 = .ok (.ireturn, 1) := dk_172 (dk_at dksJ9_indexOfChar_1 8 rfl rfl)
theorem q178 : (Jvm.Cond.initialized "java/lang/StringLatin1") ∈ lw_all := lw_g (lw_at lw_m1 18 rfl) rfl
theorem q1481 : (Jvm.Cond.static ({ cls := "java/lang/StringLatin1", name := "canEncode", desc := "(C)Z" } : Jvm.MethodName)) ∈ lw_all := lw_g (lw_at lw_m6 121 rfl) rfl
theorem q1482 : (Jvm.Cond.code ({ cls := "java/lang/StringLatin1", name := "canEncode", desc := "(C)Z" } : Jvm.MethodName) prog_47_method_3_code (1 : Nat) (Option.some Jvm.ClassFile.FieldType.boolean)) ∈ lw_all := lw_g (lw_at lw_m6 122 rfl) rfl
theorem q1488 : (Jvm.Cond.static ({ cls := "java/lang/StringLatin1", name := "inflate", desc := "([BI[BII)V" } : Jvm.MethodName)) ∈ lw_all := lw_g (lw_at lw_m6 128 rfl) rfl
theorem q1489 : (Jvm.Cond.code ({ cls := "java/lang/StringLatin1", name := "inflate", desc := "([BI[BII)V" } : Jvm.MethodName) prog_47_method_50_code (5 : Nat) (Option.none : Option Jvm.ClassFile.FieldType)) ∈ lw_all := lw_g (lw_at lw_m6 129 rfl) rfl
theorem q1490 : (Jvm.Cond.methodLink "java/lang/StringLatin1" (240 : Nat) ({ cls := "java/lang/StringUTF16", name := "inflate", desc := "([BI[BII)V" } : Jvm.MethodName)) ∈ lw_all := lw_g (lw_at lw_m6 130 rfl) rfl
theorem q1589 : (Jvm.Cond.static ({ cls := "java/lang/StringLatin1", name := "equals", desc := "([B[B)Z" } : Jvm.MethodName)) ∈ lw_all := lw_g (lw_at lw_m6 229 rfl) rfl
theorem q1590 : (Jvm.Cond.code ({ cls := "java/lang/StringLatin1", name := "equals", desc := "([B[B)Z" } : Jvm.MethodName) prog_47_method_13_code (3 : Nat) (Option.some Jvm.ClassFile.FieldType.boolean)) ∈ lw_all := lw_g (lw_at lw_m6 230 rfl) rfl
theorem q1629 : (Jvm.Cond.static ({ cls := "java/lang/StringLatin1", name := "indexOf", desc := "([BIII)I" } : Jvm.MethodName)) ∈ lw_all := lw_g (lw_at lw_m7 29 rfl) rfl
theorem q1630 : (Jvm.Cond.code ({ cls := "java/lang/StringLatin1", name := "indexOf", desc := "([BIII)I" } : Jvm.MethodName) prog_47_method_22_code (4 : Nat) (Option.some Jvm.ClassFile.FieldType.int)) ∈ lw_all := lw_g (lw_at lw_m7 30 rfl) rfl
theorem q1631 : (Jvm.Cond.methodLink "java/lang/StringLatin1" (88 : Nat) ({ cls := "java/lang/StringLatin1", name := "canEncode", desc := "(I)Z" } : Jvm.MethodName)) ∈ lw_all := lw_g (lw_at lw_m7 31 rfl) rfl
theorem q1632 : (Jvm.Cond.static ({ cls := "java/lang/StringLatin1", name := "canEncode", desc := "(I)Z" } : Jvm.MethodName)) ∈ lw_all := lw_g (lw_at lw_m7 32 rfl) rfl
theorem q1633 : (Jvm.Cond.code ({ cls := "java/lang/StringLatin1", name := "canEncode", desc := "(I)Z" } : Jvm.MethodName) prog_47_method_4_code (1 : Nat) (Option.some Jvm.ClassFile.FieldType.boolean)) ∈ lw_all := lw_g (lw_at lw_m7 33 rfl) rfl
theorem q1634 : (Jvm.Cond.methodLink "java/lang/StringLatin1" (92 : Nat) ({ cls := "java/lang/Math", name := "max", desc := "(II)I" } : Jvm.MethodName)) ∈ lw_all := lw_g (lw_at lw_m7 34 rfl) rfl
theorem q1635 : (Jvm.Cond.methodLink "java/lang/StringLatin1" (38 : Nat) ({ cls := "java/lang/Math", name := "min", desc := "(II)I" } : Jvm.MethodName)) ∈ lw_all := lw_g (lw_at lw_m7 35 rfl) rfl
theorem q1636 : (Jvm.Cond.methodLink "java/lang/StringLatin1" (95 : Nat) ({ cls := "java/lang/StringLatin1", name := "indexOfChar", desc := "([BIII)I" } : Jvm.MethodName)) ∈ lw_all := lw_g (lw_at lw_m7 36 rfl) rfl
theorem q1637 : (Jvm.Cond.static ({ cls := "java/lang/StringLatin1", name := "indexOfChar", desc := "([BIII)I" } : Jvm.MethodName)) ∈ lw_all := lw_g (lw_at lw_m7 37 rfl) rfl
theorem q1638 : (Jvm.Cond.code ({ cls := "java/lang/StringLatin1", name := "indexOfChar", desc := "([BIII)I" } : Jvm.MethodName) prog_47_method_23_code (6 : Nat) (Option.some Jvm.ClassFile.FieldType.int)) ∈ lw_all := lw_g (lw_at lw_m7 38 rfl) rfl
