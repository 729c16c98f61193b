/-! PondHouse$Frame -/
set_option maxRecDepth 100000
def RX1 : String := "PondHouse$Frame"
def TX1 : u_T := fun k => match k with
  | 0 => ("PondHouse$Frame", "creature", "LPondHouse$Creature;", false)
  | 1 => ("PondHouse$Frame", "body", "LPondHouse$Body;", false)
  | 2 => ("PondHouse$Frame", "v", "I", false)
  | 3 => ("PondHouse$Frame", "last", "I", false)
  | _ => ("PondHouse$Frame", "gave", "I", false)
def tyX1 : Nat → FieldType := fun k => match k with
  | 0 => .object "PondHouse$Creature"
  | 1 => .object "PondHouse$Body"
  | 2 => .int
  | 3 => .int
  | _ => .int
abbrev wsX10 : List Cond := u_ws RX1 TX1 5
theorem nmX1 : ∀ a, a < 5 → ∀ b, b < 5 → a ≠ b → (TX1 a).2.1 ≠ (TX1 b).2.1 := by decide +kernel
theorem tyX1_ok : ∀ k, k < 5 → parseFieldDescriptor (TX1 k).2.2.1 = some (tyX1 k) := by decide +kernel
abbrev cX1_init : ByteArray := prog_17_method_1_code
def yX1_init : MethodName := ⟨RX1, "<init>", "()V"⟩
theorem dX1_init_0 : decode cX1_init 0 = .ok (.aload_n 0, 1) := by decide +kernel
theorem dX1_init_1 : decode cX1_init 1 = .ok (.invokespecial 1, 3) := by decide +kernel
theorem dX1_init_4 : decode cX1_init 4 = .ok (.return_, 1) := by decide +kernel
abbrev cX1_begins : ByteArray := prog_17_method_2_code
def yX1_begins : MethodName := ⟨RX1, "begins", "(LPondHouse$Creature;LPondHouse$Body;I)LPondHouse$Frame;"⟩
def dkwX1_begins_1 : List UInt8 := [181, 0, 24, 42, 176]
abbrev dktX1_begins_1 : List UInt8 := dkwX1_begins_1 ++ []
def dkwX1_begins_0 : List UInt8 := [42, 43, 181, 0, 7, 42, 44, 181, 0, 13, 42, 29, 181, 0, 17, 42, 3, 181, 0, 21, 42, 3]
abbrev dktX1_begins_0 : List UInt8 := dkwX1_begins_0 ++ dktX1_begins_1
theorem dksX1_begins_0 : cX1_begins.data.toList.drop 0 = dktX1_begins_0 := by decide +kernel
theorem dksX1_begins_1 : cX1_begins.data.toList.drop 22 = dktX1_begins_1 := dk_seg dksX1_begins_0 22 rfl rfl
theorem dX1_begins_0 : decode cX1_begins 0 = .ok (.aload_n 0, 1) := dk_42 (dk_at dksX1_begins_0 0 rfl rfl)
theorem dX1_begins_1 : decode cX1_begins 1 = .ok (.aload_n 1, 1) := dk_43 (dk_at dksX1_begins_0 1 rfl rfl)
theorem dX1_begins_2 : decode cX1_begins 2 = .ok (.putfield 7, 3) := dk_181 0 7 (dk_at dksX1_begins_0 2 rfl rfl)
theorem dX1_begins_5 : decode cX1_begins 5 = .ok (.aload_n 0, 1) := dk_42 (dk_at dksX1_begins_0 5 rfl rfl)
theorem dX1_begins_6 : decode cX1_begins 6 = .ok (.aload_n 2, 1) := dk_44 (dk_at dksX1_begins_0 6 rfl rfl)
theorem dX1_begins_7 : decode cX1_begins 7 = .ok (.putfield 13, 3) := dk_181 0 13 (dk_at dksX1_begins_0 7 rfl rfl)
theorem dX1_begins_10 : decode cX1_begins 10 = .ok (.aload_n 0, 1) := dk_42 (dk_at dksX1_begins_0 10 rfl rfl)
theorem dX1_begins_11 : decode cX1_begins 11 = .ok (.iload_n 3, 1) := dk_29 (dk_at dksX1_begins_0 11 rfl rfl)
theorem dX1_begins_12 : decode cX1_begins 12 = .ok (.putfield 17, 3) := dk_181 0 17 (dk_at dksX1_begins_0 12 rfl rfl)
theorem dX1_begins_15 : decode cX1_begins 15 = .ok (.aload_n 0, 1) := dk_42 (dk_at dksX1_begins_0 15 rfl rfl)
theorem dX1_begins_16 : decode cX1_begins 16 = .ok (.iconst 0, 1) := dk_3 (dk_at dksX1_begins_0 16 rfl rfl)
theorem dX1_begins_17 : decode cX1_begins 17 = .ok (.putfield 21, 3) := dk_181 0 21 (dk_at dksX1_begins_0 17 rfl rfl)
theorem dX1_begins_20 : decode cX1_begins 20 = .ok (.aload_n 0, 1) := dk_42 (dk_at dksX1_begins_0 20 rfl rfl)
theorem dX1_begins_21 : decode cX1_begins 21 = .ok (.iconst 0, 1) := dk_3 (dk_at dksX1_begins_0 21 rfl rfl)
theorem dX1_begins_22 : decode cX1_begins 22 = .ok (.putfield 24, 3) := dk_181 0 24 (dk_at dksX1_begins_1 0 rfl rfl)
theorem dX1_begins_25 : decode cX1_begins 25 = .ok (.aload_n 0, 1) := dk_42 (dk_at dksX1_begins_1 3 rfl rfl)
theorem dX1_begins_26 : decode cX1_begins 26 = .ok (.areturn, 1) := dk_176 (dk_at dksX1_begins_1 4 rfl rfl)
theorem q162 : (Jvm.Cond.initialized "PondHouse$Frame") ∈ lw_all := lw_g (lw_at lw_m1 2 rfl) rfl
theorem q299 : (Jvm.Cond.instantiable "PondHouse$Frame" (5 : Nat)) ∈ lw_all := lw_g (lw_at lw_m1 139 rfl) rfl
theorem q301 : (Jvm.Cond.instanceMethod ({ cls := "PondHouse$Frame", name := "<init>", desc := "()V" } : Jvm.MethodName)) ∈ lw_all := lw_g (lw_at lw_m1 141 rfl) rfl
theorem q302 : (Jvm.Cond.code ({ cls := "PondHouse$Frame", name := "<init>", desc := "()V" } : Jvm.MethodName) prog_17_method_1_code (1 : Nat) (Option.none : Option Jvm.ClassFile.FieldType)) ∈ lw_all := lw_g (lw_at lw_m1 142 rfl) rfl
theorem q303 : (Jvm.Cond.methodLink "PondHouse$Frame" (1 : Nat) ({ cls := "java/lang/Object", name := "<init>", desc := "()V" } : Jvm.MethodName)) ∈ lw_all := lw_g (lw_at lw_m1 143 rfl) rfl
theorem q307 : (Jvm.Cond.fieldLink "PondHouse$Frame" (7 : Nat) "PondHouse$Frame" "creature" "LPondHouse$Creature;") ∈ lw_all := lw_g (lw_at lw_m1 147 rfl) rfl
theorem q311 : (Jvm.Cond.fieldLink "PondHouse$Frame" (13 : Nat) "PondHouse$Frame" "body" "LPondHouse$Body;") ∈ lw_all := lw_g (lw_at lw_m1 151 rfl) rfl
theorem q314 : (Jvm.Cond.fieldLink "PondHouse$Frame" (17 : Nat) "PondHouse$Frame" "v" "I") ∈ lw_all := lw_g (lw_at lw_m1 154 rfl) rfl
theorem q318 : (Jvm.Cond.fieldLink "PondHouse$Frame" (21 : Nat) "PondHouse$Frame" "last" "I") ∈ lw_all := lw_g (lw_at lw_m1 158 rfl) rfl
theorem q320 : (Jvm.Cond.fieldLink "PondHouse$Frame" (24 : Nat) "PondHouse$Frame" "gave" "I") ∈ lw_all := lw_g (lw_at lw_m1 160 rfl) rfl
theorem q323 : (Jvm.Cond.lays "PondHouse$Frame" "PondHouse$Frame" "creature" "LPondHouse$Creature;") ∈ lw_all := lw_g (lw_at lw_m1 163 rfl) rfl
theorem q324 : (Jvm.Cond.soleField "PondHouse$Frame" "creature") ∈ lw_all := lw_g (lw_at lw_m1 164 rfl) rfl
theorem q325 : (Jvm.Cond.lays "PondHouse$Frame" "PondHouse$Frame" "body" "LPondHouse$Body;") ∈ lw_all := lw_g (lw_at lw_m1 165 rfl) rfl
theorem q326 : (Jvm.Cond.soleField "PondHouse$Frame" "body") ∈ lw_all := lw_g (lw_at lw_m1 166 rfl) rfl
theorem q327 : (Jvm.Cond.lays "PondHouse$Frame" "PondHouse$Frame" "v" "I") ∈ lw_all := lw_g (lw_at lw_m1 167 rfl) rfl
theorem q328 : (Jvm.Cond.soleField "PondHouse$Frame" "v") ∈ lw_all := lw_g (lw_at lw_m1 168 rfl) rfl
theorem q329 : (Jvm.Cond.lays "PondHouse$Frame" "PondHouse$Frame" "last" "I") ∈ lw_all := lw_g (lw_at lw_m1 169 rfl) rfl
theorem q330 : (Jvm.Cond.soleField "PondHouse$Frame" "last") ∈ lw_all := lw_g (lw_at lw_m1 170 rfl) rfl
theorem q331 : (Jvm.Cond.lays "PondHouse$Frame" "PondHouse$Frame" "gave" "I") ∈ lw_all := lw_g (lw_at lw_m1 171 rfl) rfl
theorem q332 : (Jvm.Cond.soleField "PondHouse$Frame" "gave") ∈ lw_all := lw_g (lw_at lw_m1 172 rfl) rfl
theorem q333 : (Jvm.Cond.superclass "PondHouse$Frame" "java/lang/Object") ∈ lw_all := lw_g (lw_at lw_m1 173 rfl) rfl
theorem q335 : (Jvm.Cond.instanceMethod ({ cls := "PondHouse$Frame", name := "begins", desc := "(LPondHouse$Creature;LPondHouse$Body;I)LPondHouse$Frame;" } : Jvm.MethodName)) ∈ lw_all := lw_g (lw_at lw_m1 175 rfl) rfl
theorem q336 : (Jvm.Cond.selects "PondHouse$Frame" ({ cls := "PondHouse$Frame", name := "begins", desc := "(LPondHouse$Creature;LPondHouse$Body;I)LPondHouse$Frame;" } : Jvm.MethodName) ({ cls := "PondHouse$Frame", name := "begins", desc := "(LPondHouse$Creature;LPondHouse$Body;I)LPondHouse$Frame;" } : Jvm.MethodName)) ∈ lw_all := lw_g (lw_at lw_m1 176 rfl) rfl
theorem q337 : (Jvm.Cond.code ({ cls := "PondHouse$Frame", name := "begins", desc := "(LPondHouse$Creature;LPondHouse$Body;I)LPondHouse$Frame;" } : Jvm.MethodName) prog_17_method_2_code (4 : Nat) (Option.some (Jvm.ClassFile.FieldType.object "PondHouse$Frame"))) ∈ lw_all := lw_g (lw_at lw_m1 177 rfl) rfl
theorem q675 : (Jvm.Cond.selects "PondHouse$Frame" ({ cls := "java/lang/Object", name := "getClass", desc := "()Ljava/lang/Class;" } : Jvm.MethodName) ({ cls := "java/lang/Object", name := "getClass", desc := "()Ljava/lang/Class;" } : Jvm.MethodName)) ∈ lw_all := lw_g (lw_at lw_m3 35 rfl) rfl
theorem q3093 : (Jvm.Cond.castable "PondHouse$Frame" "java/lang/Object") ∈ lw_tbl := lw_at lw_m13 53 rfl
theorem in_X1 : ∀ w ∈ wsX10, w ∈ lw_all := lw_in wsX10 [323, 325, 327, 329, 331] (by decide +kernel) (by decide +kernel)

/-! PondHouse$Block -/
set_option maxRecDepth 100000
def RX10 : String := "PondHouse$Block"
def TX10 : u_T := fun k => match k with
  | 0 => ("PondHouse$Block", "all", "[LPondHouse$Statement;", false)
  | 1 => ("PondHouse$Block", "many", "I", false)
  | _ => ("PondHouse$Block", "this$0", "LPondHouse;", true)
def tyX10 : Nat → FieldType := fun k => match k with
  | 0 => .array (.object "PondHouse$Statement")
  | 1 => .int
  | _ => .object "PondHouse"
abbrev wsX100 : List Cond := u_ws RX10 TX10 3
theorem nmX10 : ∀ a, a < 3 → ∀ b, b < 3 → a ≠ b → (TX10 a).2.1 ≠ (TX10 b).2.1 := by decide +kernel
theorem tyX10_ok : ∀ k, k < 3 → parseFieldDescriptor (TX10 k).2.2.1 = some (tyX10 k) := by decide +kernel
abbrev cX10_does : ByteArray := prog_2_method_3_code
def yX10_does : MethodName := ⟨RX10, "does", "(LPondHouse$Frame;IZ)I"⟩
def dkwX10_does_2 : List UInt8 := [193, 0, 38, 153, 0, 8, 21, 4, 4, 96, 172, 132, 4, 1, 167, 255, 199, 42, 180, 0, 21, 172]
abbrev dktX10_does_2 : List UInt8 := dkwX10_does_2 ++ []
def dkwX10_does_1 : List UInt8 := [21, 4, 50, 43, 182, 0, 34, 154, 0, 5, 2, 172, 29, 153, 0, 21, 42, 180, 0, 17, 21, 4, 50]
abbrev dktX10_does_1 : List UInt8 := dkwX10_does_1 ++ dktX10_does_2
def dkwX10_does_0 : List UInt8 := [28, 54, 4, 21, 4, 42, 180, 0, 21, 162, 0, 54, 42, 180, 0, 3, 182, 0, 31, 42, 180, 0, 17]
abbrev dktX10_does_0 : List UInt8 := dkwX10_does_0 ++ dktX10_does_1
theorem dksX10_does_0 : cX10_does.data.toList.drop 0 = dktX10_does_0 := by decide +kernel
theorem dksX10_does_1 : cX10_does.data.toList.drop 23 = dktX10_does_1 := dk_seg dksX10_does_0 23 rfl rfl
theorem dksX10_does_2 : cX10_does.data.toList.drop 46 = dktX10_does_2 := dk_seg dksX10_does_1 23 rfl rfl
theorem dX10_does_0 : decode cX10_does 0 = .ok (.iload_n 2, 1) := dk_28 (dk_at dksX10_does_0 0 rfl rfl)
theorem dX10_does_1 : decode cX10_does 1 = .ok (.istore 4, 2) := dk_54 4 (dk_at dksX10_does_0 1 rfl rfl)
theorem dX10_does_3 : decode cX10_does 3 = .ok (.iload 4, 2) := dk_21 4 (dk_at dksX10_does_0 3 rfl rfl)
theorem dX10_does_5 : decode cX10_does 5 = .ok (.aload_n 0, 1) := dk_42 (dk_at dksX10_does_0 5 rfl rfl)
theorem dX10_does_6 : decode cX10_does 6 = .ok (.getfield 21, 3) := dk_180 0 21 (dk_at dksX10_does_0 6 rfl rfl)
theorem dX10_does_9 : decode cX10_does 9 = .ok (.if_icmp .ge 54, 3) := dk_162 0 54 (dk_at dksX10_does_0 9 rfl rfl)
theorem dX10_does_12 : decode cX10_does 12 = .ok (.aload_n 0, 1) := dk_42 (dk_at dksX10_does_0 12 rfl rfl)
theorem dX10_does_13 : decode cX10_does 13 = .ok (.getfield 3, 3) := dk_180 0 3 (dk_at dksX10_does_0 13 rfl rfl)
theorem dX10_does_16 : decode cX10_does 16 = .ok (.invokevirtual 31, 3) := dk_182 0 31 (dk_at dksX10_does_0 16 rfl rfl)
theorem dX10_does_19 : decode cX10_does 19 = .ok (.aload_n 0, 1) := dk_42 (dk_at dksX10_does_0 19 rfl rfl)
theorem dX10_does_20 : decode cX10_does 20 = .ok (.getfield 17, 3) := dk_180 0 17 (dk_at dksX10_does_0 20 rfl rfl)
theorem dX10_does_23 : decode cX10_does 23 = .ok (.iload 4, 2) := dk_21 4 (dk_at dksX10_does_1 0 rfl rfl)
theorem dX10_does_25 : decode cX10_does 25 = .ok (.aaload, 1) := dk_50 (dk_at dksX10_does_1 2 rfl rfl)
theorem dX10_does_26 : decode cX10_does 26 = .ok (.aload_n 1, 1) := dk_43 (dk_at dksX10_does_1 3 rfl rfl)
theorem dX10_does_27 : decode cX10_does 27 = .ok (.invokevirtual 34, 3) := dk_182 0 34 (dk_at dksX10_does_1 4 rfl rfl)
theorem dX10_does_30 : decode cX10_does 30 = .ok (.ifCond .ne 5, 3) := dk_154 0 5 (dk_at dksX10_does_1 7 rfl rfl)
theorem dX10_does_33 : decode cX10_does 33 = .ok (.iconst (-1), 1) := dk_2 (dk_at dksX10_does_1 10 rfl rfl)
theorem dX10_does_34 : decode cX10_does 34 = .ok (.ireturn, 1) := dk_172 (dk_at dksX10_does_1 11 rfl rfl)
theorem dX10_does_35 : decode cX10_does 35 = .ok (.iload_n 3, 1) := dk_29 (dk_at dksX10_does_1 12 rfl rfl)
theorem dX10_does_36 : decode cX10_does 36 = .ok (.ifCond .eq 21, 3) := dk_153 0 21 (dk_at dksX10_does_1 13 rfl rfl)
theorem dX10_does_39 : decode cX10_does 39 = .ok (.aload_n 0, 1) := dk_42 (dk_at dksX10_does_1 16 rfl rfl)
theorem dX10_does_40 : decode cX10_does 40 = .ok (.getfield 17, 3) := dk_180 0 17 (dk_at dksX10_does_1 17 rfl rfl)
theorem dX10_does_43 : decode cX10_does 43 = .ok (.iload 4, 2) := dk_21 4 (dk_at dksX10_does_1 20 rfl rfl)
theorem dX10_does_45 : decode cX10_does 45 = .ok (.aaload, 1) := dk_50 (dk_at dksX10_does_1 22 rfl rfl)
theorem dX10_does_46 : decode cX10_does 46 = .ok (.instanceof 38, 3) := dk_193 0 38 (dk_at dksX10_does_2 0 rfl rfl)
theorem dX10_does_49 : decode cX10_does 49 = .ok (.ifCond .eq 8, 3) := dk_153 0 8 (dk_at dksX10_does_2 3 rfl rfl)
theorem dX10_does_52 : decode cX10_does 52 = .ok (.iload 4, 2) := dk_21 4 (dk_at dksX10_does_2 6 rfl rfl)
theorem dX10_does_54 : decode cX10_does 54 = .ok (.iconst 1, 1) := dk_4 (dk_at dksX10_does_2 8 rfl rfl)
theorem dX10_does_55 : decode cX10_does 55 = .ok (.iadd, 1) := dk_96 (dk_at dksX10_does_2 9 rfl rfl)
theorem dX10_does_56 : decode cX10_does 56 = .ok (.ireturn, 1) := dk_172 (dk_at dksX10_does_2 10 rfl rfl)
theorem dX10_does_57 : decode cX10_does 57 = .ok (.iinc 4 1, 3) := dk_132 4 1 (dk_at dksX10_does_2 11 rfl rfl)
theorem dX10_does_60 : decode cX10_does 60 = .ok (.goto (-57), 3) := dk_167 255 199 (dk_at dksX10_does_2 14 rfl rfl)
theorem dX10_does_63 : decode cX10_does 63 = .ok (.aload_n 0, 1) := dk_42 (dk_at dksX10_does_2 17 rfl rfl)
theorem dX10_does_64 : decode cX10_does 64 = .ok (.getfield 21, 3) := dk_180 0 21 (dk_at dksX10_does_2 18 rfl rfl)
theorem dX10_does_67 : decode cX10_does 67 = .ok (.ireturn, 1) := dk_172 (dk_at dksX10_does_2 21 rfl rfl)
abbrev cX10_isBehindRest : ByteArray := prog_2_method_4_code
def yX10_isBehindRest : MethodName := ⟨RX10, "isBehindRest", "(I)Z"⟩
def dkwX10_isBehindRest_0 : List UInt8 := [27, 158, 0, 21, 42, 180, 0, 17, 27, 4, 100, 50, 193, 0, 38, 153, 0, 7, 4, 167, 0, 4, 3, 172]
abbrev dktX10_isBehindRest_0 : List UInt8 := dkwX10_isBehindRest_0 ++ []
theorem dksX10_isBehindRest_0 : cX10_isBehindRest.data.toList.drop 0 = dktX10_isBehindRest_0 := by decide +kernel
theorem dX10_isBehindRest_0 : decode cX10_isBehindRest 0 = .ok (.iload_n 1, 1) := dk_27 (dk_at dksX10_isBehindRest_0 0 rfl rfl)
theorem dX10_isBehindRest_1 : decode cX10_isBehindRest 1 = .ok (.ifCond .le 21, 3) := dk_158 0 21 (dk_at dksX10_isBehindRest_0 1 rfl rfl)
theorem dX10_isBehindRest_4 : decode cX10_isBehindRest 4 = .ok (.aload_n 0, 1) := dk_42 (dk_at dksX10_isBehindRest_0 4 rfl rfl)
theorem dX10_isBehindRest_5 : decode cX10_isBehindRest 5 = .ok (.getfield 17, 3) := dk_180 0 17 (dk_at dksX10_isBehindRest_0 5 rfl rfl)
theorem dX10_isBehindRest_8 : decode cX10_isBehindRest 8 = .ok (.iload_n 1, 1) := dk_27 (dk_at dksX10_isBehindRest_0 8 rfl rfl)
theorem dX10_isBehindRest_9 : decode cX10_isBehindRest 9 = .ok (.iconst 1, 1) := dk_4 (dk_at dksX10_isBehindRest_0 9 rfl rfl)
theorem dX10_isBehindRest_10 : decode cX10_isBehindRest 10 = .ok (.isub, 1) := dk_100 (dk_at dksX10_isBehindRest_0 10 rfl rfl)
theorem dX10_isBehindRest_11 : decode cX10_isBehindRest 11 = .ok (.aaload, 1) := dk_50 (dk_at dksX10_isBehindRest_0 11 rfl rfl)
theorem dX10_isBehindRest_12 : decode cX10_isBehindRest 12 = .ok (.instanceof 38, 3) := dk_193 0 38 (dk_at dksX10_isBehindRest_0 12 rfl rfl)
theorem dX10_isBehindRest_15 : decode cX10_isBehindRest 15 = .ok (.ifCond .eq 7, 3) := dk_153 0 7 (dk_at dksX10_isBehindRest_0 15 rfl rfl)
theorem dX10_isBehindRest_18 : decode cX10_isBehindRest 18 = .ok (.iconst 1, 1) := dk_4 (dk_at dksX10_isBehindRest_0 18 rfl rfl)
theorem dX10_isBehindRest_19 : decode cX10_isBehindRest 19 = .ok (.goto 4, 3) := dk_167 0 4 (dk_at dksX10_isBehindRest_0 19 rfl rfl)
theorem dX10_isBehindRest_22 : decode cX10_isBehindRest 22 = .ok (.iconst 0, 1) := dk_3 (dk_at dksX10_isBehindRest_0 22 rfl rfl)
theorem dX10_isBehindRest_23 : decode cX10_isBehindRest 23 = .ok (.ireturn, 1) := dk_172 (dk_at dksX10_isBehindRest_0 23 rfl rfl)
abbrev cX10_init : ByteArray := prog_2_method_1_code
def yX10_init : MethodName := ⟨RX10, "<init>", "(LPondHouse;)V"⟩
def dkwX10_init_0 : List UInt8 := [42, 43, 181, 0, 3, 42, 183, 0, 9, 42, 5, 189, 0, 15, 181, 0, 17, 177]
abbrev dktX10_init_0 : List UInt8 := dkwX10_init_0 ++ []
theorem dksX10_init_0 : cX10_init.data.toList.drop 0 = dktX10_init_0 := by decide +kernel
theorem dX10_init_0 : decode cX10_init 0 = .ok (.aload_n 0, 1) := dk_42 (dk_at dksX10_init_0 0 rfl rfl)
theorem dX10_init_1 : decode cX10_init 1 = .ok (.aload_n 1, 1) := dk_43 (dk_at dksX10_init_0 1 rfl rfl)
theorem dX10_init_2 : decode cX10_init 2 = .ok (.putfield 3, 3) := dk_181 0 3 (dk_at dksX10_init_0 2 rfl rfl)
theorem dX10_init_5 : decode cX10_init 5 = .ok (.aload_n 0, 1) := dk_42 (dk_at dksX10_init_0 5 rfl rfl)
theorem dX10_init_6 : decode cX10_init 6 = .ok (.invokespecial 9, 3) := dk_183 0 9 (dk_at dksX10_init_0 6 rfl rfl)
theorem dX10_init_9 : decode cX10_init 9 = .ok (.aload_n 0, 1) := dk_42 (dk_at dksX10_init_0 9 rfl rfl)
theorem dX10_init_10 : decode cX10_init 10 = .ok (.iconst 2, 1) := dk_5 (dk_at dksX10_init_0 10 rfl rfl)
theorem dX10_init_11 : decode cX10_init 11 = .ok (.anewarray 15, 3) := dk_189 0 15 (dk_at dksX10_init_0 11 rfl rfl)
theorem dX10_init_14 : decode cX10_init 14 = .ok (.putfield 17, 3) := dk_181 0 17 (dk_at dksX10_init_0 14 rfl rfl)
theorem dX10_init_17 : decode cX10_init 17 = .ok (.return_, 1) := dk_177 (dk_at dksX10_init_0 17 rfl rfl)
abbrev cX10_add : ByteArray := prog_2_method_2_code
def yX10_add : MethodName := ⟨RX10, "add", "(LPondHouse$Statement;)V"⟩
def dkwX10_add_2 : List UInt8 := [180, 0, 21, 43, 83, 42, 89, 180, 0, 21, 4, 96, 181, 0, 21, 177]
abbrev dktX10_add_2 : List UInt8 := dkwX10_add_2 ++ []
def dkwX10_add_1 : List UInt8 := [180, 0, 17, 3, 44, 3, 42, 180, 0, 21, 184, 0, 25, 42, 44, 181, 0, 17, 42, 180, 0, 17, 42]
abbrev dktX10_add_1 : List UInt8 := dkwX10_add_1 ++ dktX10_add_2
def dkwX10_add_0 : List UInt8 := [42, 180, 0, 21, 42, 180, 0, 17, 190, 160, 0, 32, 5, 42, 180, 0, 21, 104, 189, 0, 15, 77, 42]
abbrev dktX10_add_0 : List UInt8 := dkwX10_add_0 ++ dktX10_add_1
theorem dksX10_add_0 : cX10_add.data.toList.drop 0 = dktX10_add_0 := by decide +kernel
theorem dksX10_add_1 : cX10_add.data.toList.drop 23 = dktX10_add_1 := dk_seg dksX10_add_0 23 rfl rfl
theorem dksX10_add_2 : cX10_add.data.toList.drop 46 = dktX10_add_2 := dk_seg dksX10_add_1 23 rfl rfl
theorem dX10_add_0 : decode cX10_add 0 = .ok (.aload_n 0, 1) := dk_42 (dk_at dksX10_add_0 0 rfl rfl)
theorem dX10_add_1 : decode cX10_add 1 = .ok (.getfield 21, 3) := dk_180 0 21 (dk_at dksX10_add_0 1 rfl rfl)
theorem dX10_add_4 : decode cX10_add 4 = .ok (.aload_n 0, 1) := dk_42 (dk_at dksX10_add_0 4 rfl rfl)
theorem dX10_add_5 : decode cX10_add 5 = .ok (.getfield 17, 3) := dk_180 0 17 (dk_at dksX10_add_0 5 rfl rfl)
theorem dX10_add_8 : decode cX10_add 8 = .ok (.arraylength, 1) := dk_190 (dk_at dksX10_add_0 8 rfl rfl)
theorem dX10_add_9 : decode cX10_add 9 = .ok (.if_icmp .ne 32, 3) := dk_160 0 32 (dk_at dksX10_add_0 9 rfl rfl)
theorem dX10_add_12 : decode cX10_add 12 = .ok (.iconst 2, 1) := dk_5 (dk_at dksX10_add_0 12 rfl rfl)
theorem dX10_add_13 : decode cX10_add 13 = .ok (.aload_n 0, 1) := dk_42 (dk_at dksX10_add_0 13 rfl rfl)
theorem dX10_add_14 : decode cX10_add 14 = .ok (.getfield 21, 3) := dk_180 0 21 (dk_at dksX10_add_0 14 rfl rfl)
theorem dX10_add_17 : decode cX10_add 17 = .ok (.imul, 1) := dk_104 (dk_at dksX10_add_0 17 rfl rfl)
theorem dX10_add_18 : decode cX10_add 18 = .ok (.anewarray 15, 3) := dk_189 0 15 (dk_at dksX10_add_0 18 rfl rfl)
theorem dX10_add_21 : decode cX10_add 21 = .ok (.astore_n 2, 1) := dk_77 (dk_at dksX10_add_0 21 rfl rfl)
theorem dX10_add_22 : decode cX10_add 22 = .ok (.aload_n 0, 1) := dk_42 (dk_at dksX10_add_0 22 rfl rfl)
theorem dX10_add_23 : decode cX10_add 23 = .ok (.getfield 17, 3) := dk_180 0 17 (dk_at dksX10_add_1 0 rfl rfl)
theorem dX10_add_26 : decode cX10_add 26 = .ok (.iconst 0, 1) := dk_3 (dk_at dksX10_add_1 3 rfl rfl)
theorem dX10_add_27 : decode cX10_add 27 = .ok (.aload_n 2, 1) := dk_44 (dk_at dksX10_add_1 4 rfl rfl)
theorem dX10_add_28 : decode cX10_add 28 = .ok (.iconst 0, 1) := dk_3 (dk_at dksX10_add_1 5 rfl rfl)
theorem dX10_add_29 : decode cX10_add 29 = .ok (.aload_n 0, 1) := dk_42 (dk_at dksX10_add_1 6 rfl rfl)
theorem dX10_add_30 : decode cX10_add 30 = .ok (.getfield 21, 3) := dk_180 0 21 (dk_at dksX10_add_1 7 rfl rfl)
theorem dX10_add_33 : decode cX10_add 33 = .ok (.invokestatic 25, 3) := dk_184 0 25 (dk_at dksX10_add_1 10 rfl rfl)
theorem dX10_add_36 : decode cX10_add 36 = .ok (.aload_n 0, 1) := dk_42 (dk_at dksX10_add_1 13 rfl rfl)
theorem dX10_add_37 : decode cX10_add 37 = .ok (.aload_n 2, 1) := dk_44 (dk_at dksX10_add_1 14 rfl rfl)
theorem dX10_add_38 : decode cX10_add 38 = .ok (.putfield 17, 3) := dk_181 0 17 (dk_at dksX10_add_1 15 rfl rfl)
theorem dX10_add_41 : decode cX10_add 41 = .ok (.aload_n 0, 1) := dk_42 (dk_at dksX10_add_1 18 rfl rfl)
theorem dX10_add_42 : decode cX10_add 42 = .ok (.getfield 17, 3) := dk_180 0 17 (dk_at dksX10_add_1 19 rfl rfl)
theorem dX10_add_45 : decode cX10_add 45 = .ok (.aload_n 0, 1) := dk_42 (dk_at dksX10_add_1 22 rfl rfl)
theorem dX10_add_46 : decode cX10_add 46 = .ok (.getfield 21, 3) := dk_180 0 21 (dk_at dksX10_add_2 0 rfl rfl)
theorem dX10_add_49 : decode cX10_add 49 = .ok (.aload_n 1, 1) := dk_43 (dk_at dksX10_add_2 3 rfl rfl)
theorem dX10_add_50 : decode cX10_add 50 = .ok (.aastore, 1) := dk_83 (dk_at dksX10_add_2 4 rfl rfl)
theorem dX10_add_51 : decode cX10_add 51 = .ok (.aload_n 0, 1) := dk_42 (dk_at dksX10_add_2 5 rfl rfl)
theorem dX10_add_52 : decode cX10_add 52 = .ok (.dup, 1) := dk_89 (dk_at dksX10_add_2 6 rfl rfl)
theorem dX10_add_53 : decode cX10_add 53 = .ok (.getfield 21, 3) := dk_180 0 21 (dk_at dksX10_add_2 7 rfl rfl)
theorem dX10_add_56 : decode cX10_add 56 = .ok (.iconst 1, 1) := dk_4 (dk_at dksX10_add_2 10 rfl rfl)
theorem dX10_add_57 : decode cX10_add 57 = .ok (.iadd, 1) := dk_96 (dk_at dksX10_add_2 11 rfl rfl)
theorem dX10_add_58 : decode cX10_add 58 = .ok (.putfield 21, 3) := dk_181 0 21 (dk_at dksX10_add_2 12 rfl rfl)
theorem dX10_add_61 : decode cX10_add 61 = .ok (.return_, 1) := dk_177 (dk_at dksX10_add_2 15 rfl rfl)
theorem q188 : (Jvm.Cond.initialized "PondHouse$Block") ∈ lw_all := lw_g (lw_at lw_m1 28 rfl) rfl
theorem q407 : (Jvm.Cond.instanceMethod ({ cls := "PondHouse$Block", name := "does", desc := "(LPondHouse$Frame;IZ)I" } : Jvm.MethodName)) ∈ lw_all := lw_g (lw_at lw_m2 7 rfl) rfl
theorem q408 : (Jvm.Cond.selects "PondHouse$Block" ({ cls := "PondHouse$Block", name := "does", desc := "(LPondHouse$Frame;IZ)I" } : Jvm.MethodName) ({ cls := "PondHouse$Block", name := "does", desc := "(LPondHouse$Frame;IZ)I" } : Jvm.MethodName)) ∈ lw_all := lw_g (lw_at lw_m2 8 rfl) rfl
theorem q409 : (Jvm.Cond.code ({ cls := "PondHouse$Block", name := "does", desc := "(LPondHouse$Frame;IZ)I" } : Jvm.MethodName) prog_2_method_3_code (5 : Nat) (Option.some Jvm.ClassFile.FieldType.int)) ∈ lw_all := lw_g (lw_at lw_m2 9 rfl) rfl
theorem q410 : (Jvm.Cond.methodLinkNest "PondHouse$Block" (31 : Nat) ({ cls := "PondHouse", name := "spends", desc := "()V" } : Jvm.MethodName) "PondHouse") ∈ lw_tbl := lw_at lw_m2 10 rfl
theorem q414 : (Jvm.Cond.methodLink "PondHouse$Block" (34 : Nat) ({ cls := "PondHouse$Statement", name := "does", desc := "(LPondHouse$Frame;)Z" } : Jvm.MethodName)) ∈ lw_all := lw_g (lw_at lw_m2 14 rfl) rfl
theorem q488 : (Jvm.Cond.classLink "PondHouse$Block" (38 : Nat) "PondHouse$Rests") ∈ lw_all := lw_g (lw_at lw_m2 88 rfl) rfl
theorem q498 : (Jvm.Cond.instanceMethod ({ cls := "PondHouse$Block", name := "isBehindRest", desc := "(I)Z" } : Jvm.MethodName)) ∈ lw_all := lw_g (lw_at lw_m2 98 rfl) rfl
theorem q499 : (Jvm.Cond.selects "PondHouse$Block" ({ cls := "PondHouse$Block", name := "isBehindRest", desc := "(I)Z" } : Jvm.MethodName) ({ cls := "PondHouse$Block", name := "isBehindRest", desc := "(I)Z" } : Jvm.MethodName)) ∈ lw_all := lw_g (lw_at lw_m2 99 rfl) rfl
theorem q500 : (Jvm.Cond.code ({ cls := "PondHouse$Block", name := "isBehindRest", desc := "(I)Z" } : Jvm.MethodName) prog_2_method_4_code (2 : Nat) (Option.some Jvm.ClassFile.FieldType.boolean)) ∈ lw_all := lw_g (lw_at lw_m2 100 rfl) rfl
theorem q661 : (Jvm.Cond.selects "PondHouse$Block" ({ cls := "java/lang/Object", name := "getClass", desc := "()Ljava/lang/Class;" } : Jvm.MethodName) ({ cls := "java/lang/Object", name := "getClass", desc := "()Ljava/lang/Class;" } : Jvm.MethodName)) ∈ lw_all := lw_g (lw_at lw_m3 21 rfl) rfl
theorem q1763 : (Jvm.Cond.instantiable "PondHouse$Block" (3 : Nat)) ∈ lw_all := lw_g (lw_at lw_m7 163 rfl) rfl
theorem q1765 : (Jvm.Cond.instanceMethod ({ cls := "PondHouse$Block", name := "<init>", desc := "(LPondHouse;)V" } : Jvm.MethodName)) ∈ lw_all := lw_g (lw_at lw_m7 165 rfl) rfl
theorem q1766 : (Jvm.Cond.code ({ cls := "PondHouse$Block", name := "<init>", desc := "(LPondHouse;)V" } : Jvm.MethodName) prog_2_method_1_code (2 : Nat) (Option.none : Option Jvm.ClassFile.FieldType)) ∈ lw_all := lw_g (lw_at lw_m7 166 rfl) rfl
theorem q1767 : (Jvm.Cond.methodLink "PondHouse$Block" (9 : Nat) ({ cls := "java/lang/Object", name := "<init>", desc := "()V" } : Jvm.MethodName)) ∈ lw_all := lw_g (lw_at lw_m7 167 rfl) rfl
theorem q1768 : (Jvm.Cond.classLink "PondHouse$Block" (15 : Nat) "PondHouse$Statement") ∈ lw_all := lw_g (lw_at lw_m7 168 rfl) rfl
theorem q1770 : (Jvm.Cond.fieldLink "PondHouse$Block" (17 : Nat) "PondHouse$Block" "all" "[LPondHouse$Statement;") ∈ lw_all := lw_g (lw_at lw_m7 170 rfl) rfl
theorem q1771 : (Jvm.Cond.fieldLink "PondHouse$Block" (21 : Nat) "PondHouse$Block" "many" "I") ∈ lw_all := lw_g (lw_at lw_m7 171 rfl) rfl
theorem q1772 : (Jvm.Cond.fieldLink "PondHouse$Block" (3 : Nat) "PondHouse$Block" "this$0" "LPondHouse;") ∈ lw_all := lw_g (lw_at lw_m7 172 rfl) rfl
theorem q1773 : (Jvm.Cond.lays "PondHouse$Block" "PondHouse$Block" "all" "[LPondHouse$Statement;") ∈ lw_all := lw_g (lw_at lw_m7 173 rfl) rfl
theorem q1774 : (Jvm.Cond.soleField "PondHouse$Block" "all") ∈ lw_all := lw_g (lw_at lw_m7 174 rfl) rfl
theorem q1775 : (Jvm.Cond.lays "PondHouse$Block" "PondHouse$Block" "many" "I") ∈ lw_all := lw_g (lw_at lw_m7 175 rfl) rfl
theorem q1776 : (Jvm.Cond.soleField "PondHouse$Block" "many") ∈ lw_all := lw_g (lw_at lw_m7 176 rfl) rfl
theorem q1777 : (Jvm.Cond.laysFinal "PondHouse$Block" "PondHouse$Block" "this$0" "LPondHouse;") ∈ lw_all := lw_g (lw_at lw_m7 177 rfl) rfl
theorem q1778 : (Jvm.Cond.soleField "PondHouse$Block" "this$0") ∈ lw_all := lw_g (lw_at lw_m7 178 rfl) rfl
theorem q1779 : (Jvm.Cond.superclass "PondHouse$Block" "java/lang/Object") ∈ lw_all := lw_g (lw_at lw_m7 179 rfl) rfl
theorem q2016 : (Jvm.Cond.instanceMethod ({ cls := "PondHouse$Block", name := "add", desc := "(LPondHouse$Statement;)V" } : Jvm.MethodName)) ∈ lw_all := lw_g (lw_at lw_m8 176 rfl) rfl
theorem q2017 : (Jvm.Cond.selects "PondHouse$Block" ({ cls := "PondHouse$Block", name := "add", desc := "(LPondHouse$Statement;)V" } : Jvm.MethodName) ({ cls := "PondHouse$Block", name := "add", desc := "(LPondHouse$Statement;)V" } : Jvm.MethodName)) ∈ lw_all := lw_g (lw_at lw_m8 177 rfl) rfl
theorem q2018 : (Jvm.Cond.code ({ cls := "PondHouse$Block", name := "add", desc := "(LPondHouse$Statement;)V" } : Jvm.MethodName) prog_2_method_2_code (3 : Nat) (Option.none : Option Jvm.ClassFile.FieldType)) ∈ lw_all := lw_g (lw_at lw_m8 178 rfl) rfl
theorem q2019 : (Jvm.Cond.methodLink "PondHouse$Block" (25 : Nat) ({ cls := "java/lang/System", name := "arraycopy", desc := "(Ljava/lang/Object;ILjava/lang/Object;II)V" } : Jvm.MethodName)) ∈ lw_all := lw_g (lw_at lw_m8 179 rfl) rfl
theorem q3088 : (Jvm.Cond.castable "PondHouse$Block" "java/lang/Object") ∈ lw_tbl := lw_at lw_m13 48 rfl
theorem in_X10 : ∀ w ∈ wsX100, w ∈ lw_all := lw_in wsX100 [1773, 1775, 1777] (by decide +kernel) (by decide +kernel)

/-! PondHouse$Statement -/
set_option maxRecDepth 100000
def RX11 : String := "PondHouse$Statement"
abbrev cX11_init : ByteArray := prog_34_method_1_code
def yX11_init : MethodName := ⟨RX11, "<init>", "(LPondHouse;)V"⟩
def dkwX11_init_0 : List UInt8 := [42, 43, 181, 0, 1, 42, 183, 0, 7, 177]
abbrev dktX11_init_0 : List UInt8 := dkwX11_init_0 ++ []
theorem dksX11_init_0 : cX11_init.data.toList.drop 0 = dktX11_init_0 := by decide +kernel
theorem dX11_init_0 : decode cX11_init 0 = .ok (.aload_n 0, 1) := dk_42 (dk_at dksX11_init_0 0 rfl rfl)
theorem dX11_init_1 : decode cX11_init 1 = .ok (.aload_n 1, 1) := dk_43 (dk_at dksX11_init_0 1 rfl rfl)
theorem dX11_init_2 : decode cX11_init 2 = .ok (.putfield 1, 3) := dk_181 0 1 (dk_at dksX11_init_0 2 rfl rfl)
theorem dX11_init_5 : decode cX11_init 5 = .ok (.aload_n 0, 1) := dk_42 (dk_at dksX11_init_0 5 rfl rfl)
theorem dX11_init_6 : decode cX11_init 6 = .ok (.invokespecial 7, 3) := dk_183 0 7 (dk_at dksX11_init_0 6 rfl rfl)
theorem dX11_init_9 : decode cX11_init 9 = .ok (.return_, 1) := dk_177 (dk_at dksX11_init_0 9 rfl rfl)
theorem q189 : (Jvm.Cond.initialized "PondHouse$Statement") ∈ lw_all := lw_g (lw_at lw_m1 29 rfl) rfl
theorem q415 : (Jvm.Cond.declares ({ cls := "PondHouse$Statement", name := "does", desc := "(LPondHouse$Frame;)Z" } : Jvm.MethodName)) ∈ lw_tbl := lw_at lw_m2 15 rfl
theorem q416 : (Jvm.Cond.sameMethod "PondHouse$Statement" "PondHouse$Statement" "does" "(LPondHouse$Frame;)Z") ∈ lw_all := lw_g (lw_at lw_m2 16 rfl) rfl
theorem q1927 : (Jvm.Cond.instanceMethod ({ cls := "PondHouse$Statement", name := "<init>", desc := "(LPondHouse;)V" } : Jvm.MethodName)) ∈ lw_all := lw_g (lw_at lw_m8 87 rfl) rfl
theorem q1928 : (Jvm.Cond.code ({ cls := "PondHouse$Statement", name := "<init>", desc := "(LPondHouse;)V" } : Jvm.MethodName) prog_34_method_1_code (2 : Nat) (Option.none : Option Jvm.ClassFile.FieldType)) ∈ lw_all := lw_g (lw_at lw_m8 88 rfl) rfl
theorem q1929 : (Jvm.Cond.methodLink "PondHouse$Statement" (7 : Nat) ({ cls := "java/lang/Object", name := "<init>", desc := "()V" } : Jvm.MethodName)) ∈ lw_all := lw_g (lw_at lw_m8 89 rfl) rfl
theorem q1936 : (Jvm.Cond.fieldLink "PondHouse$Statement" (1 : Nat) "PondHouse$Statement" "this$0" "LPondHouse;") ∈ lw_all := lw_g (lw_at lw_m8 96 rfl) rfl
theorem q1946 : (Jvm.Cond.soleField "PondHouse$Statement" "this$0") ∈ lw_all := lw_g (lw_at lw_m8 106 rfl) rfl
theorem q3096 : (Jvm.Cond.castable "PondHouse$Statement" "java/lang/Object") ∈ lw_tbl := lw_at lw_m13 56 rfl

/-! PondHouse$Chooses -/
set_option maxRecDepth 100000
def RX12 : String := "PondHouse$Chooses"
def TX12 : u_T := fun k => match k with
  | 0 => ("PondHouse$Statement", "this$0", "LPondHouse;", true)
  | 1 => ("PondHouse$Chooses", "by", "LPondHouse$Worth;", true)
  | 2 => ("PondHouse$Chooses", "then", "LPondHouse$Block;", false)
  | 3 => ("PondHouse$Chooses", "otherwise", "LPondHouse$Block;", false)
  | _ => ("PondHouse$Chooses", "this$0", "LPondHouse;", true)
def tyX12 : Nat → FieldType := fun k => match k with
  | 0 => .object "PondHouse"
  | 1 => .object "PondHouse$Worth"
  | 2 => .object "PondHouse$Block"
  | 3 => .object "PondHouse$Block"
  | _ => .object "PondHouse"
abbrev wsX120 : List Cond := u_ws RX12 TX12 5
-- two fields of one name: no nmX12
theorem tyX12_ok : ∀ k, k < 5 → parseFieldDescriptor (TX12 k).2.2.1 = some (tyX12 k) := by decide +kernel
abbrev cX12_does : ByteArray := prog_8_method_2_code
def yX12_does : MethodName := ⟨RX12, "does", "(LPondHouse$Frame;)Z"⟩
def dkwX12_does_1 : List UInt8 := [198, 0, 13, 44, 43, 3, 3, 182, 0, 30, 155, 0, 7, 4, 167, 0, 4, 3, 172]
abbrev dktX12_does_1 : List UInt8 := dkwX12_does_1 ++ []
def dkwX12_does_0 : List UInt8 := [42, 180, 0, 13, 43, 182, 0, 17, 153, 0, 10, 42, 180, 0, 23, 167, 0, 7, 42, 180, 0, 27, 77, 44]
abbrev dktX12_does_0 : List UInt8 := dkwX12_does_0 ++ dktX12_does_1
theorem dksX12_does_0 : cX12_does.data.toList.drop 0 = dktX12_does_0 := by decide +kernel
theorem dksX12_does_1 : cX12_does.data.toList.drop 24 = dktX12_does_1 := dk_seg dksX12_does_0 24 rfl rfl
theorem dX12_does_0 : decode cX12_does 0 = .ok (.aload_n 0, 1) := dk_42 (dk_at dksX12_does_0 0 rfl rfl)
theorem dX12_does_1 : decode cX12_does 1 = .ok (.getfield 13, 3) := dk_180 0 13 (dk_at dksX12_does_0 1 rfl rfl)
theorem dX12_does_4 : decode cX12_does 4 = .ok (.aload_n 1, 1) := dk_43 (dk_at dksX12_does_0 4 rfl rfl)
theorem dX12_does_5 : decode cX12_does 5 = .ok (.invokevirtual 17, 3) := dk_182 0 17 (dk_at dksX12_does_0 5 rfl rfl)
theorem dX12_does_8 : decode cX12_does 8 = .ok (.ifCond .eq 10, 3) := dk_153 0 10 (dk_at dksX12_does_0 8 rfl rfl)
theorem dX12_does_11 : decode cX12_does 11 = .ok (.aload_n 0, 1) := dk_42 (dk_at dksX12_does_0 11 rfl rfl)
theorem dX12_does_12 : decode cX12_does 12 = .ok (.getfield 23, 3) := dk_180 0 23 (dk_at dksX12_does_0 12 rfl rfl)
theorem dX12_does_15 : decode cX12_does 15 = .ok (.goto 7, 3) := dk_167 0 7 (dk_at dksX12_does_0 15 rfl rfl)
theorem dX12_does_18 : decode cX12_does 18 = .ok (.aload_n 0, 1) := dk_42 (dk_at dksX12_does_0 18 rfl rfl)
theorem dX12_does_19 : decode cX12_does 19 = .ok (.getfield 27, 3) := dk_180 0 27 (dk_at dksX12_does_0 19 rfl rfl)
theorem dX12_does_22 : decode cX12_does 22 = .ok (.astore_n 2, 1) := dk_77 (dk_at dksX12_does_0 22 rfl rfl)
theorem dX12_does_23 : decode cX12_does 23 = .ok (.aload_n 2, 1) := dk_44 (dk_at dksX12_does_0 23 rfl rfl)
theorem dX12_does_24 : decode cX12_does 24 = .ok (.ifnull 13, 3) := dk_198 0 13 (dk_at dksX12_does_1 0 rfl rfl)
theorem dX12_does_27 : decode cX12_does 27 = .ok (.aload_n 2, 1) := dk_44 (dk_at dksX12_does_1 3 rfl rfl)
theorem dX12_does_28 : decode cX12_does 28 = .ok (.aload_n 1, 1) := dk_43 (dk_at dksX12_does_1 4 rfl rfl)
theorem dX12_does_29 : decode cX12_does 29 = .ok (.iconst 0, 1) := dk_3 (dk_at dksX12_does_1 5 rfl rfl)
theorem dX12_does_30 : decode cX12_does 30 = .ok (.iconst 0, 1) := dk_3 (dk_at dksX12_does_1 6 rfl rfl)
theorem dX12_does_31 : decode cX12_does 31 = .ok (.invokevirtual 30, 3) := dk_182 0 30 (dk_at dksX12_does_1 7 rfl rfl)
theorem dX12_does_34 : decode cX12_does 34 = .ok (.ifCond .lt 7, 3) := dk_155 0 7 (dk_at dksX12_does_1 10 rfl rfl)
theorem dX12_does_37 : decode cX12_does 37 = .ok (.iconst 1, 1) := dk_4 (dk_at dksX12_does_1 13 rfl rfl)
theorem dX12_does_38 : decode cX12_does 38 = .ok (.goto 4, 3) := dk_167 0 4 (dk_at dksX12_does_1 14 rfl rfl)
theorem dX12_does_41 : decode cX12_does 41 = .ok (.iconst 0, 1) := dk_3 (dk_at dksX12_does_1 17 rfl rfl)
theorem dX12_does_42 : decode cX12_does 42 = .ok (.ireturn, 1) := dk_172 (dk_at dksX12_does_1 18 rfl rfl)
abbrev cX12_init : ByteArray := prog_8_method_1_code
def yX12_init : MethodName := ⟨RX12, "<init>", "(LPondHouse;LPondHouse$Worth;)V"⟩
def dkwX12_init_0 : List UInt8 := [42, 43, 181, 0, 1, 42, 43, 183, 0, 7, 42, 44, 181, 0, 13, 177]
abbrev dktX12_init_0 : List UInt8 := dkwX12_init_0 ++ []
theorem dksX12_init_0 : cX12_init.data.toList.drop 0 = dktX12_init_0 := by decide +kernel
theorem dX12_init_0 : decode cX12_init 0 = .ok (.aload_n 0, 1) := dk_42 (dk_at dksX12_init_0 0 rfl rfl)
theorem dX12_init_1 : decode cX12_init 1 = .ok (.aload_n 1, 1) := dk_43 (dk_at dksX12_init_0 1 rfl rfl)
theorem dX12_init_2 : decode cX12_init 2 = .ok (.putfield 1, 3) := dk_181 0 1 (dk_at dksX12_init_0 2 rfl rfl)
theorem dX12_init_5 : decode cX12_init 5 = .ok (.aload_n 0, 1) := dk_42 (dk_at dksX12_init_0 5 rfl rfl)
theorem dX12_init_6 : decode cX12_init 6 = .ok (.aload_n 1, 1) := dk_43 (dk_at dksX12_init_0 6 rfl rfl)
theorem dX12_init_7 : decode cX12_init 7 = .ok (.invokespecial 7, 3) := dk_183 0 7 (dk_at dksX12_init_0 7 rfl rfl)
theorem dX12_init_10 : decode cX12_init 10 = .ok (.aload_n 0, 1) := dk_42 (dk_at dksX12_init_0 10 rfl rfl)
theorem dX12_init_11 : decode cX12_init 11 = .ok (.aload_n 2, 1) := dk_44 (dk_at dksX12_init_0 11 rfl rfl)
theorem dX12_init_12 : decode cX12_init 12 = .ok (.putfield 13, 3) := dk_181 0 13 (dk_at dksX12_init_0 12 rfl rfl)
theorem dX12_init_15 : decode cX12_init 15 = .ok (.return_, 1) := dk_177 (dk_at dksX12_init_0 15 rfl rfl)
theorem q190 : (Jvm.Cond.initialized "PondHouse$Chooses") ∈ lw_all := lw_g (lw_at lw_m1 30 rfl) rfl
theorem q441 : (Jvm.Cond.selects "PondHouse$Chooses" ({ cls := "PondHouse$Statement", name := "does", desc := "(LPondHouse$Frame;)Z" } : Jvm.MethodName) ({ cls := "PondHouse$Chooses", name := "does", desc := "(LPondHouse$Frame;)Z" } : Jvm.MethodName)) ∈ lw_all := lw_g (lw_at lw_m2 41 rfl) rfl
theorem q442 : (Jvm.Cond.instanceMethod ({ cls := "PondHouse$Chooses", name := "does", desc := "(LPondHouse$Frame;)Z" } : Jvm.MethodName)) ∈ lw_all := lw_g (lw_at lw_m2 42 rfl) rfl
theorem q443 : (Jvm.Cond.code ({ cls := "PondHouse$Chooses", name := "does", desc := "(LPondHouse$Frame;)Z" } : Jvm.MethodName) prog_8_method_2_code (3 : Nat) (Option.some Jvm.ClassFile.FieldType.boolean)) ∈ lw_all := lw_g (lw_at lw_m2 43 rfl) rfl
theorem q444 : (Jvm.Cond.methodLink "PondHouse$Chooses" (17 : Nat) ({ cls := "PondHouse$Worth", name := "of", desc := "(LPondHouse$Frame;)I" } : Jvm.MethodName)) ∈ lw_all := lw_g (lw_at lw_m2 44 rfl) rfl
theorem q471 : (Jvm.Cond.methodLink "PondHouse$Chooses" (30 : Nat) ({ cls := "PondHouse$Block", name := "does", desc := "(LPondHouse$Frame;IZ)I" } : Jvm.MethodName)) ∈ lw_all := lw_g (lw_at lw_m2 71 rfl) rfl
theorem q666 : (Jvm.Cond.selects "PondHouse$Chooses" ({ cls := "java/lang/Object", name := "getClass", desc := "()Ljava/lang/Class;" } : Jvm.MethodName) ({ cls := "java/lang/Object", name := "getClass", desc := "()Ljava/lang/Class;" } : Jvm.MethodName)) ∈ lw_all := lw_g (lw_at lw_m3 26 rfl) rfl
theorem q1804 : (Jvm.Cond.instantiable "PondHouse$Chooses" (5 : Nat)) ∈ lw_all := lw_g (lw_at lw_m7 204 rfl) rfl
theorem q1924 : (Jvm.Cond.instanceMethod ({ cls := "PondHouse$Chooses", name := "<init>", desc := "(LPondHouse;LPondHouse$Worth;)V" } : Jvm.MethodName)) ∈ lw_all := lw_g (lw_at lw_m8 84 rfl) rfl
theorem q1925 : (Jvm.Cond.code ({ cls := "PondHouse$Chooses", name := "<init>", desc := "(LPondHouse;LPondHouse$Worth;)V" } : Jvm.MethodName) prog_8_method_1_code (3 : Nat) (Option.none : Option Jvm.ClassFile.FieldType)) ∈ lw_all := lw_g (lw_at lw_m8 85 rfl) rfl
theorem q1926 : (Jvm.Cond.methodLinkNest "PondHouse$Chooses" (7 : Nat) ({ cls := "PondHouse$Statement", name := "<init>", desc := "(LPondHouse;)V" } : Jvm.MethodName) "PondHouse") ∈ lw_tbl := lw_at lw_m8 86 rfl
theorem q1930 : (Jvm.Cond.fieldLink "PondHouse$Chooses" (13 : Nat) "PondHouse$Chooses" "by" "LPondHouse$Worth;") ∈ lw_all := lw_g (lw_at lw_m8 90 rfl) rfl
theorem q1931 : (Jvm.Cond.fieldLink "PondHouse$Chooses" (23 : Nat) "PondHouse$Chooses" "then" "LPondHouse$Block;") ∈ lw_all := lw_g (lw_at lw_m8 91 rfl) rfl
theorem q1933 : (Jvm.Cond.fieldLink "PondHouse$Chooses" (27 : Nat) "PondHouse$Chooses" "otherwise" "LPondHouse$Block;") ∈ lw_all := lw_g (lw_at lw_m8 93 rfl) rfl
theorem q1935 : (Jvm.Cond.fieldLink "PondHouse$Chooses" (1 : Nat) "PondHouse$Chooses" "this$0" "LPondHouse;") ∈ lw_all := lw_g (lw_at lw_m8 95 rfl) rfl
theorem q1937 : (Jvm.Cond.laysFinal "PondHouse$Chooses" "PondHouse$Chooses" "by" "LPondHouse$Worth;") ∈ lw_all := lw_g (lw_at lw_m8 97 rfl) rfl
theorem q1938 : (Jvm.Cond.soleField "PondHouse$Chooses" "by") ∈ lw_all := lw_g (lw_at lw_m8 98 rfl) rfl
theorem q1939 : (Jvm.Cond.lays "PondHouse$Chooses" "PondHouse$Chooses" "then" "LPondHouse$Block;") ∈ lw_all := lw_g (lw_at lw_m8 99 rfl) rfl
theorem q1940 : (Jvm.Cond.soleField "PondHouse$Chooses" "then") ∈ lw_all := lw_g (lw_at lw_m8 100 rfl) rfl
theorem q1941 : (Jvm.Cond.lays "PondHouse$Chooses" "PondHouse$Chooses" "otherwise" "LPondHouse$Block;") ∈ lw_all := lw_g (lw_at lw_m8 101 rfl) rfl
theorem q1942 : (Jvm.Cond.soleField "PondHouse$Chooses" "otherwise") ∈ lw_all := lw_g (lw_at lw_m8 102 rfl) rfl
theorem q1943 : (Jvm.Cond.laysFinal "PondHouse$Chooses" "PondHouse$Chooses" "this$0" "LPondHouse;") ∈ lw_all := lw_g (lw_at lw_m8 103 rfl) rfl
theorem q1944 : (Jvm.Cond.soleField "PondHouse$Chooses" "this$0") ∈ lw_all := lw_g (lw_at lw_m8 104 rfl) rfl
theorem q1945 : (Jvm.Cond.laysFinal "PondHouse$Chooses" "PondHouse$Statement" "this$0" "LPondHouse;") ∈ lw_all := lw_g (lw_at lw_m8 105 rfl) rfl
theorem q1947 : (Jvm.Cond.superclass "PondHouse$Chooses" "PondHouse$Statement") ∈ lw_all := lw_g (lw_at lw_m8 107 rfl) rfl
theorem q3109 : (Jvm.Cond.castable "PondHouse$Chooses" "java/lang/Object") ∈ lw_tbl := lw_at lw_m13 69 rfl
theorem q3126 : (Jvm.Cond.castable "PondHouse$Chooses" "PondHouse$Statement") ∈ lw_tbl := lw_at lw_m13 86 rfl
theorem in_X12 : ∀ w ∈ wsX120, w ∈ lw_all := lw_in wsX120 [1945, 1937, 1939, 1941, 1943] (by decide +kernel) (by decide +kernel)

/-! PondHouse$Worth -/
set_option maxRecDepth 100000
def RX13 : String := "PondHouse$Worth"
abbrev cX13_init : ByteArray := prog_35_method_1_code
def yX13_init : MethodName := ⟨RX13, "<init>", "(LPondHouse;)V"⟩
def dkwX13_init_0 : List UInt8 := [42, 43, 181, 0, 1, 42, 183, 0, 7, 177]
abbrev dktX13_init_0 : List UInt8 := dkwX13_init_0 ++ []
theorem dksX13_init_0 : cX13_init.data.toList.drop 0 = dktX13_init_0 := by decide +kernel
theorem dX13_init_0 : decode cX13_init 0 = .ok (.aload_n 0, 1) := dk_42 (dk_at dksX13_init_0 0 rfl rfl)
theorem dX13_init_1 : decode cX13_init 1 = .ok (.aload_n 1, 1) := dk_43 (dk_at dksX13_init_0 1 rfl rfl)
theorem dX13_init_2 : decode cX13_init 2 = .ok (.putfield 1, 3) := dk_181 0 1 (dk_at dksX13_init_0 2 rfl rfl)
theorem dX13_init_5 : decode cX13_init 5 = .ok (.aload_n 0, 1) := dk_42 (dk_at dksX13_init_0 5 rfl rfl)
theorem dX13_init_6 : decode cX13_init 6 = .ok (.invokespecial 7, 3) := dk_183 0 7 (dk_at dksX13_init_0 6 rfl rfl)
theorem dX13_init_9 : decode cX13_init 9 = .ok (.return_, 1) := dk_177 (dk_at dksX13_init_0 9 rfl rfl)
theorem q191 : (Jvm.Cond.initialized "PondHouse$Worth") ∈ lw_all := lw_g (lw_at lw_m1 31 rfl) rfl
theorem q445 : (Jvm.Cond.declares ({ cls := "PondHouse$Worth", name := "of", desc := "(LPondHouse$Frame;)I" } : Jvm.MethodName)) ∈ lw_tbl := lw_at lw_m2 45 rfl
theorem q446 : (Jvm.Cond.sameMethod "PondHouse$Worth" "PondHouse$Worth" "of" "(LPondHouse$Frame;)I") ∈ lw_all := lw_g (lw_at lw_m2 46 rfl) rfl
theorem q1827 : (Jvm.Cond.instanceMethod ({ cls := "PondHouse$Worth", name := "<init>", desc := "(LPondHouse;)V" } : Jvm.MethodName)) ∈ lw_all := lw_g (lw_at lw_m7 227 rfl) rfl
theorem q1828 : (Jvm.Cond.code ({ cls := "PondHouse$Worth", name := "<init>", desc := "(LPondHouse;)V" } : Jvm.MethodName) prog_35_method_1_code (2 : Nat) (Option.none : Option Jvm.ClassFile.FieldType)) ∈ lw_all := lw_g (lw_at lw_m7 228 rfl) rfl
theorem q1829 : (Jvm.Cond.methodLink "PondHouse$Worth" (7 : Nat) ({ cls := "java/lang/Object", name := "<init>", desc := "()V" } : Jvm.MethodName)) ∈ lw_all := lw_g (lw_at lw_m7 229 rfl) rfl
theorem q1832 : (Jvm.Cond.fieldLink "PondHouse$Worth" (1 : Nat) "PondHouse$Worth" "this$0" "LPondHouse;") ∈ lw_all := lw_g (lw_at lw_m7 232 rfl) rfl
theorem q1838 : (Jvm.Cond.soleField "PondHouse$Worth" "this$0") ∈ lw_all := lw_g (lw_at lw_m7 238 rfl) rfl
theorem q3097 : (Jvm.Cond.castable "PondHouse$Worth" "java/lang/Object") ∈ lw_tbl := lw_at lw_m13 57 rfl

/-! PondHouse$Plain -/
set_option maxRecDepth 100000
def RX14 : String := "PondHouse$Plain"
def TX14 : u_T := fun k => match k with
  | 0 => ("PondHouse$Worth", "this$0", "LPondHouse;", true)
  | 1 => ("PondHouse$Plain", "v", "I", true)
  | _ => ("PondHouse$Plain", "this$0", "LPondHouse;", true)
def tyX14 : Nat → FieldType := fun k => match k with
  | 0 => .object "PondHouse"
  | 1 => .int
  | _ => .object "PondHouse"
abbrev wsX140 : List Cond := u_ws RX14 TX14 3
-- two fields of one name: no nmX14
theorem tyX14_ok : ∀ k, k < 3 → parseFieldDescriptor (TX14 k).2.2.1 = some (tyX14 k) := by decide +kernel
abbrev cX14_of : ByteArray := prog_28_method_2_code
def yX14_of : MethodName := ⟨RX14, "of", "(LPondHouse$Frame;)I"⟩
theorem dX14_of_0 : decode cX14_of 0 = .ok (.aload_n 0, 1) := by decide +kernel
theorem dX14_of_1 : decode cX14_of 1 = .ok (.getfield 13, 3) := by decide +kernel
theorem dX14_of_4 : decode cX14_of 4 = .ok (.ireturn, 1) := by decide +kernel
abbrev cX14_init : ByteArray := prog_28_method_1_code
def yX14_init : MethodName := ⟨RX14, "<init>", "(LPondHouse;I)V"⟩
def dkwX14_init_0 : List UInt8 := [42, 43, 181, 0, 1, 42, 43, 183, 0, 7, 42, 28, 181, 0, 13, 177]
abbrev dktX14_init_0 : List UInt8 := dkwX14_init_0 ++ []
theorem dksX14_init_0 : cX14_init.data.toList.drop 0 = dktX14_init_0 := by decide +kernel
theorem dX14_init_0 : decode cX14_init 0 = .ok (.aload_n 0, 1) := dk_42 (dk_at dksX14_init_0 0 rfl rfl)
theorem dX14_init_1 : decode cX14_init 1 = .ok (.aload_n 1, 1) := dk_43 (dk_at dksX14_init_0 1 rfl rfl)
theorem dX14_init_2 : decode cX14_init 2 = .ok (.putfield 1, 3) := dk_181 0 1 (dk_at dksX14_init_0 2 rfl rfl)
theorem dX14_init_5 : decode cX14_init 5 = .ok (.aload_n 0, 1) := dk_42 (dk_at dksX14_init_0 5 rfl rfl)
theorem dX14_init_6 : decode cX14_init 6 = .ok (.aload_n 1, 1) := dk_43 (dk_at dksX14_init_0 6 rfl rfl)
theorem dX14_init_7 : decode cX14_init 7 = .ok (.invokespecial 7, 3) := dk_183 0 7 (dk_at dksX14_init_0 7 rfl rfl)
theorem dX14_init_10 : decode cX14_init 10 = .ok (.aload_n 0, 1) := dk_42 (dk_at dksX14_init_0 10 rfl rfl)
theorem dX14_init_11 : decode cX14_init 11 = .ok (.iload_n 2, 1) := dk_28 (dk_at dksX14_init_0 11 rfl rfl)
theorem dX14_init_12 : decode cX14_init 12 = .ok (.putfield 13, 3) := dk_181 0 13 (dk_at dksX14_init_0 12 rfl rfl)
theorem dX14_init_15 : decode cX14_init 15 = .ok (.return_, 1) := dk_177 (dk_at dksX14_init_0 15 rfl rfl)
theorem q192 : (Jvm.Cond.initialized "PondHouse$Plain") ∈ lw_all := lw_g (lw_at lw_m1 32 rfl) rfl
theorem q459 : (Jvm.Cond.instanceMethod ({ cls := "PondHouse$Plain", name := "of", desc := "(LPondHouse$Frame;)I" } : Jvm.MethodName)) ∈ lw_all := lw_g (lw_at lw_m2 59 rfl) rfl
theorem q460 : (Jvm.Cond.code ({ cls := "PondHouse$Plain", name := "of", desc := "(LPondHouse$Frame;)I" } : Jvm.MethodName) prog_28_method_2_code (2 : Nat) (Option.some Jvm.ClassFile.FieldType.int)) ∈ lw_all := lw_g (lw_at lw_m2 60 rfl) rfl
theorem q470 : (Jvm.Cond.selects "PondHouse$Plain" ({ cls := "PondHouse$Worth", name := "of", desc := "(LPondHouse$Frame;)I" } : Jvm.MethodName) ({ cls := "PondHouse$Plain", name := "of", desc := "(LPondHouse$Frame;)I" } : Jvm.MethodName)) ∈ lw_all := lw_g (lw_at lw_m2 70 rfl) rfl
theorem q686 : (Jvm.Cond.selects "PondHouse$Plain" ({ cls := "java/lang/Object", name := "getClass", desc := "()Ljava/lang/Class;" } : Jvm.MethodName) ({ cls := "java/lang/Object", name := "getClass", desc := "()Ljava/lang/Class;" } : Jvm.MethodName)) ∈ lw_all := lw_g (lw_at lw_m3 46 rfl) rfl
theorem q1822 : (Jvm.Cond.instantiable "PondHouse$Plain" (3 : Nat)) ∈ lw_all := lw_g (lw_at lw_m7 222 rfl) rfl
theorem q1824 : (Jvm.Cond.instanceMethod ({ cls := "PondHouse$Plain", name := "<init>", desc := "(LPondHouse;I)V" } : Jvm.MethodName)) ∈ lw_all := lw_g (lw_at lw_m7 224 rfl) rfl
theorem q1825 : (Jvm.Cond.code ({ cls := "PondHouse$Plain", name := "<init>", desc := "(LPondHouse;I)V" } : Jvm.MethodName) prog_28_method_1_code (3 : Nat) (Option.none : Option Jvm.ClassFile.FieldType)) ∈ lw_all := lw_g (lw_at lw_m7 225 rfl) rfl
theorem q1826 : (Jvm.Cond.methodLinkNest "PondHouse$Plain" (7 : Nat) ({ cls := "PondHouse$Worth", name := "<init>", desc := "(LPondHouse;)V" } : Jvm.MethodName) "PondHouse") ∈ lw_tbl := lw_at lw_m7 226 rfl
theorem q1830 : (Jvm.Cond.fieldLink "PondHouse$Plain" (13 : Nat) "PondHouse$Plain" "v" "I") ∈ lw_all := lw_g (lw_at lw_m7 230 rfl) rfl
theorem q1831 : (Jvm.Cond.fieldLink "PondHouse$Plain" (1 : Nat) "PondHouse$Plain" "this$0" "LPondHouse;") ∈ lw_all := lw_g (lw_at lw_m7 231 rfl) rfl
theorem q1833 : (Jvm.Cond.laysFinal "PondHouse$Plain" "PondHouse$Plain" "v" "I") ∈ lw_all := lw_g (lw_at lw_m7 233 rfl) rfl
theorem q1834 : (Jvm.Cond.soleField "PondHouse$Plain" "v") ∈ lw_all := lw_g (lw_at lw_m7 234 rfl) rfl
theorem q1835 : (Jvm.Cond.laysFinal "PondHouse$Plain" "PondHouse$Plain" "this$0" "LPondHouse;") ∈ lw_all := lw_g (lw_at lw_m7 235 rfl) rfl
theorem q1836 : (Jvm.Cond.soleField "PondHouse$Plain" "this$0") ∈ lw_all := lw_g (lw_at lw_m7 236 rfl) rfl
theorem q1837 : (Jvm.Cond.laysFinal "PondHouse$Plain" "PondHouse$Worth" "this$0" "LPondHouse;") ∈ lw_all := lw_g (lw_at lw_m7 237 rfl) rfl
theorem q1839 : (Jvm.Cond.superclass "PondHouse$Plain" "PondHouse$Worth") ∈ lw_all := lw_g (lw_at lw_m7 239 rfl) rfl
theorem q3110 : (Jvm.Cond.castable "PondHouse$Plain" "java/lang/Object") ∈ lw_tbl := lw_at lw_m13 70 rfl
theorem q3131 : (Jvm.Cond.castable "PondHouse$Plain" "PondHouse$Worth") ∈ lw_tbl := lw_at lw_m13 91 rfl
theorem in_X14 : ∀ w ∈ wsX140, w ∈ lw_all := lw_in wsX140 [1837, 1833, 1835] (by decide +kernel) (by decide +kernel)

/-! PondHouse$Named -/
set_option maxRecDepth 100000
def RX15 : String := "PondHouse$Named"
def TX15 : u_T := fun k => match k with
  | 0 => ("PondHouse$Worth", "this$0", "LPondHouse;", true)
  | 1 => ("PondHouse$Named", "name", "I", true)
  | _ => ("PondHouse$Named", "this$0", "LPondHouse;", true)
def tyX15 : Nat → FieldType := fun k => match k with
  | 0 => .object "PondHouse"
  | 1 => .int
  | _ => .object "PondHouse"
abbrev wsX150 : List Cond := u_ws RX15 TX15 3
-- two fields of one name: no nmX15
theorem tyX15_ok : ∀ k, k < 3 → parseFieldDescriptor (TX15 k).2.2.1 = some (tyX15 k) := by decide +kernel
abbrev cX15_of : ByteArray := prog_25_method_2_code
def yX15_of : MethodName := ⟨RX15, "of", "(LPondHouse$Frame;)I"⟩
def dkwX15_of_0 : List UInt8 := [43, 180, 0, 17, 42, 180, 0, 13, 182, 0, 23, 172]
abbrev dktX15_of_0 : List UInt8 := dkwX15_of_0 ++ []
theorem dksX15_of_0 : cX15_of.data.toList.drop 0 = dktX15_of_0 := by decide +kernel
theorem dX15_of_0 : decode cX15_of 0 = .ok (.aload_n 1, 1) := dk_43 (dk_at dksX15_of_0 0 rfl rfl)
theorem dX15_of_1 : decode cX15_of 1 = .ok (.getfield 17, 3) := dk_180 0 17 (dk_at dksX15_of_0 1 rfl rfl)
theorem dX15_of_4 : decode cX15_of 4 = .ok (.aload_n 0, 1) := dk_42 (dk_at dksX15_of_0 4 rfl rfl)
theorem dX15_of_5 : decode cX15_of 5 = .ok (.getfield 13, 3) := dk_180 0 13 (dk_at dksX15_of_0 5 rfl rfl)
theorem dX15_of_8 : decode cX15_of 8 = .ok (.invokevirtual 23, 3) := dk_182 0 23 (dk_at dksX15_of_0 8 rfl rfl)
theorem dX15_of_11 : decode cX15_of 11 = .ok (.ireturn, 1) := dk_172 (dk_at dksX15_of_0 11 rfl rfl)
abbrev cX15_init : ByteArray := prog_25_method_1_code
def yX15_init : MethodName := ⟨RX15, "<init>", "(LPondHouse;I)V"⟩
def dkwX15_init_0 : List UInt8 := [42, 43, 181, 0, 1, 42, 43, 183, 0, 7, 42, 28, 181, 0, 13, 177]
abbrev dktX15_init_0 : List UInt8 := dkwX15_init_0 ++ []
theorem dksX15_init_0 : cX15_init.data.toList.drop 0 = dktX15_init_0 := by decide +kernel
theorem dX15_init_0 : decode cX15_init 0 = .ok (.aload_n 0, 1) := dk_42 (dk_at dksX15_init_0 0 rfl rfl)
theorem dX15_init_1 : decode cX15_init 1 = .ok (.aload_n 1, 1) := dk_43 (dk_at dksX15_init_0 1 rfl rfl)
theorem dX15_init_2 : decode cX15_init 2 = .ok (.putfield 1, 3) := dk_181 0 1 (dk_at dksX15_init_0 2 rfl rfl)
theorem dX15_init_5 : decode cX15_init 5 = .ok (.aload_n 0, 1) := dk_42 (dk_at dksX15_init_0 5 rfl rfl)
theorem dX15_init_6 : decode cX15_init 6 = .ok (.aload_n 1, 1) := dk_43 (dk_at dksX15_init_0 6 rfl rfl)
theorem dX15_init_7 : decode cX15_init 7 = .ok (.invokespecial 7, 3) := dk_183 0 7 (dk_at dksX15_init_0 7 rfl rfl)
theorem dX15_init_10 : decode cX15_init 10 = .ok (.aload_n 0, 1) := dk_42 (dk_at dksX15_init_0 10 rfl rfl)
theorem dX15_init_11 : decode cX15_init 11 = .ok (.iload_n 2, 1) := dk_28 (dk_at dksX15_init_0 11 rfl rfl)
theorem dX15_init_12 : decode cX15_init 12 = .ok (.putfield 13, 3) := dk_181 0 13 (dk_at dksX15_init_0 12 rfl rfl)
theorem dX15_init_15 : decode cX15_init 15 = .ok (.return_, 1) := dk_177 (dk_at dksX15_init_0 15 rfl rfl)
theorem q193 : (Jvm.Cond.initialized "PondHouse$Named") ∈ lw_all := lw_g (lw_at lw_m1 33 rfl) rfl
theorem q306 : (Jvm.Cond.fieldLink "PondHouse$Named" (17 : Nat) "PondHouse$Frame" "creature" "LPondHouse$Creature;") ∈ lw_all := lw_g (lw_at lw_m1 146 rfl) rfl
theorem q454 : (Jvm.Cond.instanceMethod ({ cls := "PondHouse$Named", name := "of", desc := "(LPondHouse$Frame;)I" } : Jvm.MethodName)) ∈ lw_all := lw_g (lw_at lw_m2 54 rfl) rfl
theorem q455 : (Jvm.Cond.code ({ cls := "PondHouse$Named", name := "of", desc := "(LPondHouse$Frame;)I" } : Jvm.MethodName) prog_25_method_2_code (2 : Nat) (Option.some Jvm.ClassFile.FieldType.int)) ∈ lw_all := lw_g (lw_at lw_m2 55 rfl) rfl
theorem q456 : (Jvm.Cond.methodLink "PondHouse$Named" (23 : Nat) ({ cls := "PondHouse$Creature", name := "get", desc := "(I)I" } : Jvm.MethodName)) ∈ lw_all := lw_g (lw_at lw_m2 56 rfl) rfl
theorem q468 : (Jvm.Cond.selects "PondHouse$Named" ({ cls := "PondHouse$Worth", name := "of", desc := "(LPondHouse$Frame;)I" } : Jvm.MethodName) ({ cls := "PondHouse$Named", name := "of", desc := "(LPondHouse$Frame;)I" } : Jvm.MethodName)) ∈ lw_all := lw_g (lw_at lw_m2 68 rfl) rfl
theorem q683 : (Jvm.Cond.selects "PondHouse$Named" ({ cls := "java/lang/Object", name := "getClass", desc := "()Ljava/lang/Class;" } : Jvm.MethodName) ({ cls := "java/lang/Object", name := "getClass", desc := "()Ljava/lang/Class;" } : Jvm.MethodName)) ∈ lw_all := lw_g (lw_at lw_m3 43 rfl) rfl
theorem q1841 : (Jvm.Cond.instantiable "PondHouse$Named" (3 : Nat)) ∈ lw_all := lw_g (lw_at lw_m8 1 rfl) rfl
theorem q1844 : (Jvm.Cond.instanceMethod ({ cls := "PondHouse$Named", name := "<init>", desc := "(LPondHouse;I)V" } : Jvm.MethodName)) ∈ lw_all := lw_g (lw_at lw_m8 4 rfl) rfl
theorem q1845 : (Jvm.Cond.code ({ cls := "PondHouse$Named", name := "<init>", desc := "(LPondHouse;I)V" } : Jvm.MethodName) prog_25_method_1_code (3 : Nat) (Option.none : Option Jvm.ClassFile.FieldType)) ∈ lw_all := lw_g (lw_at lw_m8 5 rfl) rfl
theorem q1846 : (Jvm.Cond.methodLinkNest "PondHouse$Named" (7 : Nat) ({ cls := "PondHouse$Worth", name := "<init>", desc := "(LPondHouse;)V" } : Jvm.MethodName) "PondHouse") ∈ lw_tbl := lw_at lw_m8 6 rfl
theorem q1847 : (Jvm.Cond.fieldLink "PondHouse$Named" (13 : Nat) "PondHouse$Named" "name" "I") ∈ lw_all := lw_g (lw_at lw_m8 7 rfl) rfl
theorem q1848 : (Jvm.Cond.fieldLink "PondHouse$Named" (1 : Nat) "PondHouse$Named" "this$0" "LPondHouse;") ∈ lw_all := lw_g (lw_at lw_m8 8 rfl) rfl
theorem q1849 : (Jvm.Cond.laysFinal "PondHouse$Named" "PondHouse$Named" "name" "I") ∈ lw_all := lw_g (lw_at lw_m8 9 rfl) rfl
theorem q1850 : (Jvm.Cond.soleField "PondHouse$Named" "name") ∈ lw_all := lw_g (lw_at lw_m8 10 rfl) rfl
theorem q1851 : (Jvm.Cond.laysFinal "PondHouse$Named" "PondHouse$Named" "this$0" "LPondHouse;") ∈ lw_all := lw_g (lw_at lw_m8 11 rfl) rfl
theorem q1852 : (Jvm.Cond.soleField "PondHouse$Named" "this$0") ∈ lw_all := lw_g (lw_at lw_m8 12 rfl) rfl
theorem q1853 : (Jvm.Cond.laysFinal "PondHouse$Named" "PondHouse$Worth" "this$0" "LPondHouse;") ∈ lw_all := lw_g (lw_at lw_m8 13 rfl) rfl
theorem q1854 : (Jvm.Cond.superclass "PondHouse$Named" "PondHouse$Worth") ∈ lw_all := lw_g (lw_at lw_m8 14 rfl) rfl
theorem q3111 : (Jvm.Cond.castable "PondHouse$Named" "java/lang/Object") ∈ lw_tbl := lw_at lw_m13 71 rfl
theorem q3132 : (Jvm.Cond.castable "PondHouse$Named" "PondHouse$Worth") ∈ lw_tbl := lw_at lw_m13 92 rfl
theorem in_X15 : ∀ w ∈ wsX150, w ∈ lw_all := lw_in wsX150 [1853, 1849, 1851] (by decide +kernel) (by decide +kernel)

/-! PondHouse$Own -/
set_option maxRecDepth 100000
def RX16 : String := "PondHouse$Own"
def TX16 : u_T := fun k => match k with
  | 0 => ("PondHouse$Worth", "this$0", "LPondHouse;", true)
  | 1 => ("PondHouse$Own", "isLast", "Z", true)
  | _ => ("PondHouse$Own", "this$0", "LPondHouse;", true)
def tyX16 : Nat → FieldType := fun k => match k with
  | 0 => .object "PondHouse"
  | 1 => .boolean
  | _ => .object "PondHouse"
abbrev wsX160 : List Cond := u_ws RX16 TX16 3
-- two fields of one name: no nmX16
theorem tyX16_ok : ∀ k, k < 3 → parseFieldDescriptor (TX16 k).2.2.1 = some (tyX16 k) := by decide +kernel
abbrev cX16_of : ByteArray := prog_26_method_2_code
def yX16_of : MethodName := ⟨RX16, "of", "(LPondHouse$Frame;)I"⟩
def dkwX16_of_0 : List UInt8 := [42, 180, 0, 13, 153, 0, 10, 43, 180, 0, 17, 167, 0, 7, 43, 180, 0, 23, 172]
abbrev dktX16_of_0 : List UInt8 := dkwX16_of_0 ++ []
theorem dksX16_of_0 : cX16_of.data.toList.drop 0 = dktX16_of_0 := by decide +kernel
theorem dX16_of_0 : decode cX16_of 0 = .ok (.aload_n 0, 1) := dk_42 (dk_at dksX16_of_0 0 rfl rfl)
theorem dX16_of_1 : decode cX16_of 1 = .ok (.getfield 13, 3) := dk_180 0 13 (dk_at dksX16_of_0 1 rfl rfl)
theorem dX16_of_4 : decode cX16_of 4 = .ok (.ifCond .eq 10, 3) := dk_153 0 10 (dk_at dksX16_of_0 4 rfl rfl)
theorem dX16_of_7 : decode cX16_of 7 = .ok (.aload_n 1, 1) := dk_43 (dk_at dksX16_of_0 7 rfl rfl)
theorem dX16_of_8 : decode cX16_of 8 = .ok (.getfield 17, 3) := dk_180 0 17 (dk_at dksX16_of_0 8 rfl rfl)
theorem dX16_of_11 : decode cX16_of 11 = .ok (.goto 7, 3) := dk_167 0 7 (dk_at dksX16_of_0 11 rfl rfl)
theorem dX16_of_14 : decode cX16_of 14 = .ok (.aload_n 1, 1) := dk_43 (dk_at dksX16_of_0 14 rfl rfl)
theorem dX16_of_15 : decode cX16_of 15 = .ok (.getfield 23, 3) := dk_180 0 23 (dk_at dksX16_of_0 15 rfl rfl)
theorem dX16_of_18 : decode cX16_of 18 = .ok (.ireturn, 1) := dk_172 (dk_at dksX16_of_0 18 rfl rfl)
abbrev cX16_init : ByteArray := prog_26_method_1_code
def yX16_init : MethodName := ⟨RX16, "<init>", "(LPondHouse;Z)V"⟩
def dkwX16_init_0 : List UInt8 := [42, 43, 181, 0, 1, 42, 43, 183, 0, 7, 42, 28, 181, 0, 13, 177]
abbrev dktX16_init_0 : List UInt8 := dkwX16_init_0 ++ []
theorem dksX16_init_0 : cX16_init.data.toList.drop 0 = dktX16_init_0 := by decide +kernel
theorem dX16_init_0 : decode cX16_init 0 = .ok (.aload_n 0, 1) := dk_42 (dk_at dksX16_init_0 0 rfl rfl)
theorem dX16_init_1 : decode cX16_init 1 = .ok (.aload_n 1, 1) := dk_43 (dk_at dksX16_init_0 1 rfl rfl)
theorem dX16_init_2 : decode cX16_init 2 = .ok (.putfield 1, 3) := dk_181 0 1 (dk_at dksX16_init_0 2 rfl rfl)
theorem dX16_init_5 : decode cX16_init 5 = .ok (.aload_n 0, 1) := dk_42 (dk_at dksX16_init_0 5 rfl rfl)
theorem dX16_init_6 : decode cX16_init 6 = .ok (.aload_n 1, 1) := dk_43 (dk_at dksX16_init_0 6 rfl rfl)
theorem dX16_init_7 : decode cX16_init 7 = .ok (.invokespecial 7, 3) := dk_183 0 7 (dk_at dksX16_init_0 7 rfl rfl)
theorem dX16_init_10 : decode cX16_init 10 = .ok (.aload_n 0, 1) := dk_42 (dk_at dksX16_init_0 10 rfl rfl)
theorem dX16_init_11 : decode cX16_init 11 = .ok (.iload_n 2, 1) := dk_28 (dk_at dksX16_init_0 11 rfl rfl)
theorem dX16_init_12 : decode cX16_init 12 = .ok (.putfield 13, 3) := dk_181 0 13 (dk_at dksX16_init_0 12 rfl rfl)
theorem dX16_init_15 : decode cX16_init 15 = .ok (.return_, 1) := dk_177 (dk_at dksX16_init_0 15 rfl rfl)
theorem q194 : (Jvm.Cond.initialized "PondHouse$Own") ∈ lw_all := lw_g (lw_at lw_m1 34 rfl) rfl
theorem q315 : (Jvm.Cond.fieldLink "PondHouse$Own" (23 : Nat) "PondHouse$Frame" "v" "I") ∈ lw_all := lw_g (lw_at lw_m1 155 rfl) rfl
theorem q317 : (Jvm.Cond.fieldLink "PondHouse$Own" (17 : Nat) "PondHouse$Frame" "last" "I") ∈ lw_all := lw_g (lw_at lw_m1 157 rfl) rfl
theorem q457 : (Jvm.Cond.instanceMethod ({ cls := "PondHouse$Own", name := "of", desc := "(LPondHouse$Frame;)I" } : Jvm.MethodName)) ∈ lw_all := lw_g (lw_at lw_m2 57 rfl) rfl
theorem q458 : (Jvm.Cond.code ({ cls := "PondHouse$Own", name := "of", desc := "(LPondHouse$Frame;)I" } : Jvm.MethodName) prog_26_method_2_code (2 : Nat) (Option.some Jvm.ClassFile.FieldType.int)) ∈ lw_all := lw_g (lw_at lw_m2 58 rfl) rfl
theorem q469 : (Jvm.Cond.selects "PondHouse$Own" ({ cls := "PondHouse$Worth", name := "of", desc := "(LPondHouse$Frame;)I" } : Jvm.MethodName) ({ cls := "PondHouse$Own", name := "of", desc := "(LPondHouse$Frame;)I" } : Jvm.MethodName)) ∈ lw_all := lw_g (lw_at lw_m2 69 rfl) rfl
theorem q684 : (Jvm.Cond.selects "PondHouse$Own" ({ cls := "java/lang/Object", name := "getClass", desc := "()Ljava/lang/Class;" } : Jvm.MethodName) ({ cls := "java/lang/Object", name := "getClass", desc := "()Ljava/lang/Class;" } : Jvm.MethodName)) ∈ lw_all := lw_g (lw_at lw_m3 44 rfl) rfl
theorem q1857 : (Jvm.Cond.instantiable "PondHouse$Own" (3 : Nat)) ∈ lw_all := lw_g (lw_at lw_m8 17 rfl) rfl
theorem q1859 : (Jvm.Cond.instanceMethod ({ cls := "PondHouse$Own", name := "<init>", desc := "(LPondHouse;Z)V" } : Jvm.MethodName)) ∈ lw_all := lw_g (lw_at lw_m8 19 rfl) rfl
theorem q1860 : (Jvm.Cond.code ({ cls := "PondHouse$Own", name := "<init>", desc := "(LPondHouse;Z)V" } : Jvm.MethodName) prog_26_method_1_code (3 : Nat) (Option.none : Option Jvm.ClassFile.FieldType)) ∈ lw_all := lw_g (lw_at lw_m8 20 rfl) rfl
theorem q1861 : (Jvm.Cond.methodLinkNest "PondHouse$Own" (7 : Nat) ({ cls := "PondHouse$Worth", name := "<init>", desc := "(LPondHouse;)V" } : Jvm.MethodName) "PondHouse") ∈ lw_tbl := lw_at lw_m8 21 rfl
theorem q1862 : (Jvm.Cond.fieldLink "PondHouse$Own" (13 : Nat) "PondHouse$Own" "isLast" "Z") ∈ lw_all := lw_g (lw_at lw_m8 22 rfl) rfl
theorem q1863 : (Jvm.Cond.fieldLink "PondHouse$Own" (1 : Nat) "PondHouse$Own" "this$0" "LPondHouse;") ∈ lw_all := lw_g (lw_at lw_m8 23 rfl) rfl
theorem q1864 : (Jvm.Cond.laysFinal "PondHouse$Own" "PondHouse$Own" "isLast" "Z") ∈ lw_all := lw_g (lw_at lw_m8 24 rfl) rfl
theorem q1865 : (Jvm.Cond.soleField "PondHouse$Own" "isLast") ∈ lw_all := lw_g (lw_at lw_m8 25 rfl) rfl
theorem q1866 : (Jvm.Cond.laysFinal "PondHouse$Own" "PondHouse$Own" "this$0" "LPondHouse;") ∈ lw_all := lw_g (lw_at lw_m8 26 rfl) rfl
theorem q1867 : (Jvm.Cond.soleField "PondHouse$Own" "this$0") ∈ lw_all := lw_g (lw_at lw_m8 27 rfl) rfl
theorem q1868 : (Jvm.Cond.laysFinal "PondHouse$Own" "PondHouse$Worth" "this$0" "LPondHouse;") ∈ lw_all := lw_g (lw_at lw_m8 28 rfl) rfl
theorem q1869 : (Jvm.Cond.superclass "PondHouse$Own" "PondHouse$Worth") ∈ lw_all := lw_g (lw_at lw_m8 29 rfl) rfl
theorem q3112 : (Jvm.Cond.castable "PondHouse$Own" "java/lang/Object") ∈ lw_tbl := lw_at lw_m13 72 rfl
theorem q3133 : (Jvm.Cond.castable "PondHouse$Own" "PondHouse$Worth") ∈ lw_tbl := lw_at lw_m13 93 rfl
theorem in_X16 : ∀ w ∈ wsX160, w ∈ lw_all := lw_in wsX160 [1868, 1864, 1866] (by decide +kernel) (by decide +kernel)

/-! PondHouse$Minus -/
set_option maxRecDepth 100000
def RX17 : String := "PondHouse$Minus"
def TX17 : u_T := fun k => match k with
  | 0 => ("PondHouse$Worth", "this$0", "LPondHouse;", true)
  | 1 => ("PondHouse$Minus", "of", "LPondHouse$Worth;", true)
  | _ => ("PondHouse$Minus", "this$0", "LPondHouse;", true)
def tyX17 : Nat → FieldType := fun k => match k with
  | 0 => .object "PondHouse"
  | 1 => .object "PondHouse$Worth"
  | _ => .object "PondHouse"
abbrev wsX170 : List Cond := u_ws RX17 TX17 3
-- two fields of one name: no nmX17
theorem tyX17_ok : ∀ k, k < 3 → parseFieldDescriptor (TX17 k).2.2.1 = some (tyX17 k) := by decide +kernel
abbrev cX17_of : ByteArray := prog_23_method_2_code
def yX17_of : MethodName := ⟨RX17, "of", "(LPondHouse$Frame;)I"⟩
def dkwX17_of_0 : List UInt8 := [42, 180, 0, 13, 43, 182, 0, 17, 116, 172]
abbrev dktX17_of_0 : List UInt8 := dkwX17_of_0 ++ []
theorem dksX17_of_0 : cX17_of.data.toList.drop 0 = dktX17_of_0 := by decide +kernel
theorem dX17_of_0 : decode cX17_of 0 = .ok (.aload_n 0, 1) := dk_42 (dk_at dksX17_of_0 0 rfl rfl)
theorem dX17_of_1 : decode cX17_of 1 = .ok (.getfield 13, 3) := dk_180 0 13 (dk_at dksX17_of_0 1 rfl rfl)
theorem dX17_of_4 : decode cX17_of 4 = .ok (.aload_n 1, 1) := dk_43 (dk_at dksX17_of_0 4 rfl rfl)
theorem dX17_of_5 : decode cX17_of 5 = .ok (.invokevirtual 17, 3) := dk_182 0 17 (dk_at dksX17_of_0 5 rfl rfl)
theorem dX17_of_8 : decode cX17_of 8 = .ok (.ineg, 1) := dk_116 (dk_at dksX17_of_0 8 rfl rfl)
theorem dX17_of_9 : decode cX17_of 9 = .ok (.ireturn, 1) := dk_172 (dk_at dksX17_of_0 9 rfl rfl)
abbrev cX17_init : ByteArray := prog_23_method_1_code
def yX17_init : MethodName := ⟨RX17, "<init>", "(LPondHouse;LPondHouse$Worth;)V"⟩
def dkwX17_init_0 : List UInt8 := [42, 43, 181, 0, 1, 42, 43, 183, 0, 7, 42, 44, 181, 0, 13, 177]
abbrev dktX17_init_0 : List UInt8 := dkwX17_init_0 ++ []
theorem dksX17_init_0 : cX17_init.data.toList.drop 0 = dktX17_init_0 := by decide +kernel
theorem dX17_init_0 : decode cX17_init 0 = .ok (.aload_n 0, 1) := dk_42 (dk_at dksX17_init_0 0 rfl rfl)
theorem dX17_init_1 : decode cX17_init 1 = .ok (.aload_n 1, 1) := dk_43 (dk_at dksX17_init_0 1 rfl rfl)
theorem dX17_init_2 : decode cX17_init 2 = .ok (.putfield 1, 3) := dk_181 0 1 (dk_at dksX17_init_0 2 rfl rfl)
theorem dX17_init_5 : decode cX17_init 5 = .ok (.aload_n 0, 1) := dk_42 (dk_at dksX17_init_0 5 rfl rfl)
theorem dX17_init_6 : decode cX17_init 6 = .ok (.aload_n 1, 1) := dk_43 (dk_at dksX17_init_0 6 rfl rfl)
theorem dX17_init_7 : decode cX17_init 7 = .ok (.invokespecial 7, 3) := dk_183 0 7 (dk_at dksX17_init_0 7 rfl rfl)
theorem dX17_init_10 : decode cX17_init 10 = .ok (.aload_n 0, 1) := dk_42 (dk_at dksX17_init_0 10 rfl rfl)
theorem dX17_init_11 : decode cX17_init 11 = .ok (.aload_n 2, 1) := dk_44 (dk_at dksX17_init_0 11 rfl rfl)
theorem dX17_init_12 : decode cX17_init 12 = .ok (.putfield 13, 3) := dk_181 0 13 (dk_at dksX17_init_0 12 rfl rfl)
theorem dX17_init_15 : decode cX17_init 15 = .ok (.return_, 1) := dk_177 (dk_at dksX17_init_0 15 rfl rfl)
theorem q195 : (Jvm.Cond.initialized "PondHouse$Minus") ∈ lw_all := lw_g (lw_at lw_m1 35 rfl) rfl
theorem q451 : (Jvm.Cond.instanceMethod ({ cls := "PondHouse$Minus", name := "of", desc := "(LPondHouse$Frame;)I" } : Jvm.MethodName)) ∈ lw_all := lw_g (lw_at lw_m2 51 rfl) rfl
theorem q452 : (Jvm.Cond.code ({ cls := "PondHouse$Minus", name := "of", desc := "(LPondHouse$Frame;)I" } : Jvm.MethodName) prog_23_method_2_code (2 : Nat) (Option.some Jvm.ClassFile.FieldType.int)) ∈ lw_all := lw_g (lw_at lw_m2 52 rfl) rfl
theorem q453 : (Jvm.Cond.methodLink "PondHouse$Minus" (17 : Nat) ({ cls := "PondHouse$Worth", name := "of", desc := "(LPondHouse$Frame;)I" } : Jvm.MethodName)) ∈ lw_all := lw_g (lw_at lw_m2 53 rfl) rfl
theorem q467 : (Jvm.Cond.selects "PondHouse$Minus" ({ cls := "PondHouse$Worth", name := "of", desc := "(LPondHouse$Frame;)I" } : Jvm.MethodName) ({ cls := "PondHouse$Minus", name := "of", desc := "(LPondHouse$Frame;)I" } : Jvm.MethodName)) ∈ lw_all := lw_g (lw_at lw_m2 67 rfl) rfl
theorem q681 : (Jvm.Cond.selects "PondHouse$Minus" ({ cls := "java/lang/Object", name := "getClass", desc := "()Ljava/lang/Class;" } : Jvm.MethodName) ({ cls := "java/lang/Object", name := "getClass", desc := "()Ljava/lang/Class;" } : Jvm.MethodName)) ∈ lw_all := lw_g (lw_at lw_m3 41 rfl) rfl
theorem q1872 : (Jvm.Cond.instantiable "PondHouse$Minus" (3 : Nat)) ∈ lw_all := lw_g (lw_at lw_m8 32 rfl) rfl
theorem q1874 : (Jvm.Cond.instanceMethod ({ cls := "PondHouse$Minus", name := "<init>", desc := "(LPondHouse;LPondHouse$Worth;)V" } : Jvm.MethodName)) ∈ lw_all := lw_g (lw_at lw_m8 34 rfl) rfl
theorem q1875 : (Jvm.Cond.code ({ cls := "PondHouse$Minus", name := "<init>", desc := "(LPondHouse;LPondHouse$Worth;)V" } : Jvm.MethodName) prog_23_method_1_code (3 : Nat) (Option.none : Option Jvm.ClassFile.FieldType)) ∈ lw_all := lw_g (lw_at lw_m8 35 rfl) rfl
theorem q1876 : (Jvm.Cond.methodLinkNest "PondHouse$Minus" (7 : Nat) ({ cls := "PondHouse$Worth", name := "<init>", desc := "(LPondHouse;)V" } : Jvm.MethodName) "PondHouse") ∈ lw_tbl := lw_at lw_m8 36 rfl
theorem q1877 : (Jvm.Cond.fieldLink "PondHouse$Minus" (13 : Nat) "PondHouse$Minus" "of" "LPondHouse$Worth;") ∈ lw_all := lw_g (lw_at lw_m8 37 rfl) rfl
theorem q1878 : (Jvm.Cond.fieldLink "PondHouse$Minus" (1 : Nat) "PondHouse$Minus" "this$0" "LPondHouse;") ∈ lw_all := lw_g (lw_at lw_m8 38 rfl) rfl
theorem q1879 : (Jvm.Cond.laysFinal "PondHouse$Minus" "PondHouse$Minus" "of" "LPondHouse$Worth;") ∈ lw_all := lw_g (lw_at lw_m8 39 rfl) rfl
theorem q1880 : (Jvm.Cond.soleField "PondHouse$Minus" "of") ∈ lw_all := lw_g (lw_at lw_m8 40 rfl) rfl
theorem q1881 : (Jvm.Cond.laysFinal "PondHouse$Minus" "PondHouse$Minus" "this$0" "LPondHouse;") ∈ lw_all := lw_g (lw_at lw_m8 41 rfl) rfl
theorem q1882 : (Jvm.Cond.soleField "PondHouse$Minus" "this$0") ∈ lw_all := lw_g (lw_at lw_m8 42 rfl) rfl
theorem q1883 : (Jvm.Cond.laysFinal "PondHouse$Minus" "PondHouse$Worth" "this$0" "LPondHouse;") ∈ lw_all := lw_g (lw_at lw_m8 43 rfl) rfl
theorem q1884 : (Jvm.Cond.superclass "PondHouse$Minus" "PondHouse$Worth") ∈ lw_all := lw_g (lw_at lw_m8 44 rfl) rfl
theorem q3113 : (Jvm.Cond.castable "PondHouse$Minus" "java/lang/Object") ∈ lw_tbl := lw_at lw_m13 73 rfl
theorem q3134 : (Jvm.Cond.castable "PondHouse$Minus" "PondHouse$Worth") ∈ lw_tbl := lw_at lw_m13 94 rfl
theorem in_X17 : ∀ w ∈ wsX170, w ∈ lw_all := lw_in wsX170 [1883, 1879, 1881] (by decide +kernel) (by decide +kernel)

/-! PondHouse$Chain -/
set_option maxRecDepth 100000
def RX18 : String := "PondHouse$Chain"
def TX18 : u_T := fun k => match k with
  | 0 => ("PondHouse$Worth", "this$0", "LPondHouse;", true)
  | 1 => ("PondHouse$Chain", "first", "LPondHouse$Worth;", true)
  | 2 => ("PondHouse$Chain", "others", "[LPondHouse$Worth;", false)
  | 3 => ("PondHouse$Chain", "signs", "[C", false)
  | 4 => ("PondHouse$Chain", "many", "I", false)
  | _ => ("PondHouse$Chain", "this$0", "LPondHouse;", true)
def tyX18 : Nat → FieldType := fun k => match k with
  | 0 => .object "PondHouse"
  | 1 => .object "PondHouse$Worth"
  | 2 => .array (.object "PondHouse$Worth")
  | 3 => .array .char
  | 4 => .int
  | _ => .object "PondHouse"
abbrev wsX180 : List Cond := u_ws RX18 TX18 6
-- two fields of one name: no nmX18
theorem tyX18_ok : ∀ k, k < 6 → parseFieldDescriptor (TX18 k).2.2.1 = some (tyX18 k) := by decide +kernel
abbrev cX18_of : ByteArray := prog_5_method_3_code
def yX18_of : MethodName := ⟨RX18, "of", "(LPondHouse$Frame;)I"⟩
def dkwX18_of_2 : List UInt8 := [167, 255, 223, 28, 172]
abbrev dktX18_of_2 : List UInt8 := dkwX18_of_2 ++ []
def dkwX18_of_1 : List UInt8 := [180, 0, 19, 29, 52, 42, 180, 0, 15, 29, 50, 43, 182, 0, 43, 182, 0, 47, 61, 132, 3, 1]
abbrev dktX18_of_1 : List UInt8 := dkwX18_of_1 ++ dktX18_of_2
def dkwX18_of_0 : List UInt8 := [42, 180, 0, 23, 43, 182, 0, 43, 61, 3, 62, 29, 42, 180, 0, 27, 162, 0, 31, 42, 28, 42]
abbrev dktX18_of_0 : List UInt8 := dkwX18_of_0 ++ dktX18_of_1
theorem dksX18_of_0 : cX18_of.data.toList.drop 0 = dktX18_of_0 := by decide +kernel
theorem dksX18_of_1 : cX18_of.data.toList.drop 22 = dktX18_of_1 := dk_seg dksX18_of_0 22 rfl rfl
theorem dksX18_of_2 : cX18_of.data.toList.drop 44 = dktX18_of_2 := dk_seg dksX18_of_1 22 rfl rfl
theorem dX18_of_0 : decode cX18_of 0 = .ok (.aload_n 0, 1) := dk_42 (dk_at dksX18_of_0 0 rfl rfl)
theorem dX18_of_1 : decode cX18_of 1 = .ok (.getfield 23, 3) := dk_180 0 23 (dk_at dksX18_of_0 1 rfl rfl)
theorem dX18_of_4 : decode cX18_of 4 = .ok (.aload_n 1, 1) := dk_43 (dk_at dksX18_of_0 4 rfl rfl)
theorem dX18_of_5 : decode cX18_of 5 = .ok (.invokevirtual 43, 3) := dk_182 0 43 (dk_at dksX18_of_0 5 rfl rfl)
theorem dX18_of_8 : decode cX18_of 8 = .ok (.istore_n 2, 1) := dk_61 (dk_at dksX18_of_0 8 rfl rfl)
theorem dX18_of_9 : decode cX18_of 9 = .ok (.iconst 0, 1) := dk_3 (dk_at dksX18_of_0 9 rfl rfl)
theorem dX18_of_10 : decode cX18_of 10 = .ok (.istore_n 3, 1) := dk_62 (dk_at dksX18_of_0 10 rfl rfl)
theorem dX18_of_11 : decode cX18_of 11 = .ok (.iload_n 3, 1) := dk_29 (dk_at dksX18_of_0 11 rfl rfl)
theorem dX18_of_12 : decode cX18_of 12 = .ok (.aload_n 0, 1) := dk_42 (dk_at dksX18_of_0 12 rfl rfl)
theorem dX18_of_13 : decode cX18_of 13 = .ok (.getfield 27, 3) := dk_180 0 27 (dk_at dksX18_of_0 13 rfl rfl)
theorem dX18_of_16 : decode cX18_of 16 = .ok (.if_icmp .ge 31, 3) := dk_162 0 31 (dk_at dksX18_of_0 16 rfl rfl)
theorem dX18_of_19 : decode cX18_of 19 = .ok (.aload_n 0, 1) := dk_42 (dk_at dksX18_of_0 19 rfl rfl)
theorem dX18_of_20 : decode cX18_of 20 = .ok (.iload_n 2, 1) := dk_28 (dk_at dksX18_of_0 20 rfl rfl)
theorem dX18_of_21 : decode cX18_of 21 = .ok (.aload_n 0, 1) := dk_42 (dk_at dksX18_of_0 21 rfl rfl)
theorem dX18_of_22 : decode cX18_of 22 = .ok (.getfield 19, 3) := dk_180 0 19 (dk_at dksX18_of_1 0 rfl rfl)
theorem dX18_of_25 : decode cX18_of 25 = .ok (.iload_n 3, 1) := dk_29 (dk_at dksX18_of_1 3 rfl rfl)
theorem dX18_of_26 : decode cX18_of 26 = .ok (.caload, 1) := dk_52 (dk_at dksX18_of_1 4 rfl rfl)
theorem dX18_of_27 : decode cX18_of 27 = .ok (.aload_n 0, 1) := dk_42 (dk_at dksX18_of_1 5 rfl rfl)
theorem dX18_of_28 : decode cX18_of 28 = .ok (.getfield 15, 3) := dk_180 0 15 (dk_at dksX18_of_1 6 rfl rfl)
theorem dX18_of_31 : decode cX18_of 31 = .ok (.iload_n 3, 1) := dk_29 (dk_at dksX18_of_1 9 rfl rfl)
theorem dX18_of_32 : decode cX18_of 32 = .ok (.aaload, 1) := dk_50 (dk_at dksX18_of_1 10 rfl rfl)
theorem dX18_of_33 : decode cX18_of 33 = .ok (.aload_n 1, 1) := dk_43 (dk_at dksX18_of_1 11 rfl rfl)
theorem dX18_of_34 : decode cX18_of 34 = .ok (.invokevirtual 43, 3) := dk_182 0 43 (dk_at dksX18_of_1 12 rfl rfl)
theorem dX18_of_37 : decode cX18_of 37 = .ok (.invokevirtual 47, 3) := dk_182 0 47 (dk_at dksX18_of_1 15 rfl rfl)
theorem dX18_of_40 : decode cX18_of 40 = .ok (.istore_n 2, 1) := dk_61 (dk_at dksX18_of_1 18 rfl rfl)
theorem dX18_of_41 : decode cX18_of 41 = .ok (.iinc 3 1, 3) := dk_132 3 1 (dk_at dksX18_of_1 19 rfl rfl)
theorem dX18_of_44 : decode cX18_of 44 = .ok (.goto (-33), 3) := dk_167 255 223 (dk_at dksX18_of_2 0 rfl rfl)
theorem dX18_of_47 : decode cX18_of 47 = .ok (.iload_n 2, 1) := dk_28 (dk_at dksX18_of_2 3 rfl rfl)
theorem dX18_of_48 : decode cX18_of 48 = .ok (.ireturn, 1) := dk_172 (dk_at dksX18_of_2 4 rfl rfl)
abbrev cX18_together : ByteArray := prog_5_method_4_code
def yX18_together : MethodName := ⟨RX18, "together", "(ICI)I"⟩
def dkwX18_together_4 : List UInt8 := [191, 27, 29, 108, 172]
abbrev dktX18_together_4 : List UInt8 := dkwX18_together_4 ++ []
def dkwX18_together_3 : List UInt8 := [29, 160, 0, 7, 4, 167, 0, 4, 3, 172, 29, 154, 0, 14, 42, 180, 0, 3, 17, 3, 234, 182, 0, 51]
abbrev dktX18_together_3 : List UInt8 := dkwX18_together_3 ++ dktX18_together_4
def dkwX18_together_2 : List UInt8 := [27, 29, 96, 172, 27, 29, 100, 172, 27, 29, 104, 172, 27, 29, 162, 0, 7, 4, 167, 0, 4, 3, 172, 27]
abbrev dktX18_together_2 : List UInt8 := dkwX18_together_2 ++ dktX18_together_3
def dkwX18_together_1 : List UInt8 := [171, 0, 0, 0, 0, 0, 85, 0, 0, 0, 5, 0, 0, 0, 42, 0, 0, 0, 59, 0, 0, 0, 43, 0, 0, 0, 51, 0, 0, 0, 45, 0, 0, 0, 55, 0, 0, 0, 60, 0, 0, 0, 63, 0, 0, 0, 61, 0, 0, 0, 74]
abbrev dktX18_together_1 : List UInt8 := dkwX18_together_1 ++ dktX18_together_2
def dkwX18_together_0 : List UInt8 := [28]
abbrev dktX18_together_0 : List UInt8 := dkwX18_together_0 ++ dktX18_together_1
theorem dksX18_together_0 : cX18_together.data.toList.drop 0 = dktX18_together_0 := by decide +kernel
theorem dksX18_together_1 : cX18_together.data.toList.drop 1 = dktX18_together_1 := dk_seg dksX18_together_0 1 rfl rfl
theorem dksX18_together_2 : cX18_together.data.toList.drop 52 = dktX18_together_2 := dk_seg dksX18_together_1 51 rfl rfl
theorem dksX18_together_3 : cX18_together.data.toList.drop 76 = dktX18_together_3 := dk_seg dksX18_together_2 24 rfl rfl
theorem dksX18_together_4 : cX18_together.data.toList.drop 100 = dktX18_together_4 := dk_seg dksX18_together_3 24 rfl rfl
theorem dX18_together_0 : decode cX18_together 0 = .ok (.iload_n 2, 1) := dk_28 (dk_at dksX18_together_0 0 rfl rfl)
theorem dX18_together_1 : decode cX18_together 1 = .ok (.lookupswitch 85 #[(42, 59), (43, 51), (45, 55), (60, 63), (61, 74)], 51) := by decide +kernel
theorem dX18_together_52 : decode cX18_together 52 = .ok (.iload_n 1, 1) := dk_27 (dk_at dksX18_together_2 0 rfl rfl)
theorem dX18_together_53 : decode cX18_together 53 = .ok (.iload_n 3, 1) := dk_29 (dk_at dksX18_together_2 1 rfl rfl)
theorem dX18_together_54 : decode cX18_together 54 = .ok (.iadd, 1) := dk_96 (dk_at dksX18_together_2 2 rfl rfl)
theorem dX18_together_55 : decode cX18_together 55 = .ok (.ireturn, 1) := dk_172 (dk_at dksX18_together_2 3 rfl rfl)
theorem dX18_together_56 : decode cX18_together 56 = .ok (.iload_n 1, 1) := dk_27 (dk_at dksX18_together_2 4 rfl rfl)
theorem dX18_together_57 : decode cX18_together 57 = .ok (.iload_n 3, 1) := dk_29 (dk_at dksX18_together_2 5 rfl rfl)
theorem dX18_together_58 : decode cX18_together 58 = .ok (.isub, 1) := dk_100 (dk_at dksX18_together_2 6 rfl rfl)
theorem dX18_together_59 : decode cX18_together 59 = .ok (.ireturn, 1) := dk_172 (dk_at dksX18_together_2 7 rfl rfl)
theorem dX18_together_60 : decode cX18_together 60 = .ok (.iload_n 1, 1) := dk_27 (dk_at dksX18_together_2 8 rfl rfl)
theorem dX18_together_61 : decode cX18_together 61 = .ok (.iload_n 3, 1) := dk_29 (dk_at dksX18_together_2 9 rfl rfl)
theorem dX18_together_62 : decode cX18_together 62 = .ok (.imul, 1) := dk_104 (dk_at dksX18_together_2 10 rfl rfl)
theorem dX18_together_63 : decode cX18_together 63 = .ok (.ireturn, 1) := dk_172 (dk_at dksX18_together_2 11 rfl rfl)
theorem dX18_together_64 : decode cX18_together 64 = .ok (.iload_n 1, 1) := dk_27 (dk_at dksX18_together_2 12 rfl rfl)
theorem dX18_together_65 : decode cX18_together 65 = .ok (.iload_n 3, 1) := dk_29 (dk_at dksX18_together_2 13 rfl rfl)
theorem dX18_together_66 : decode cX18_together 66 = .ok (.if_icmp .ge 7, 3) := dk_162 0 7 (dk_at dksX18_together_2 14 rfl rfl)
theorem dX18_together_69 : decode cX18_together 69 = .ok (.iconst 1, 1) := dk_4 (dk_at dksX18_together_2 17 rfl rfl)
theorem dX18_together_70 : decode cX18_together 70 = .ok (.goto 4, 3) := dk_167 0 4 (dk_at dksX18_together_2 18 rfl rfl)
theorem dX18_together_73 : decode cX18_together 73 = .ok (.iconst 0, 1) := dk_3 (dk_at dksX18_together_2 21 rfl rfl)
theorem dX18_together_74 : decode cX18_together 74 = .ok (.ireturn, 1) := dk_172 (dk_at dksX18_together_2 22 rfl rfl)
theorem dX18_together_75 : decode cX18_together 75 = .ok (.iload_n 1, 1) := dk_27 (dk_at dksX18_together_2 23 rfl rfl)
theorem dX18_together_76 : decode cX18_together 76 = .ok (.iload_n 3, 1) := dk_29 (dk_at dksX18_together_3 0 rfl rfl)
theorem dX18_together_77 : decode cX18_together 77 = .ok (.if_icmp .ne 7, 3) := dk_160 0 7 (dk_at dksX18_together_3 1 rfl rfl)
theorem dX18_together_80 : decode cX18_together 80 = .ok (.iconst 1, 1) := dk_4 (dk_at dksX18_together_3 4 rfl rfl)
theorem dX18_together_81 : decode cX18_together 81 = .ok (.goto 4, 3) := dk_167 0 4 (dk_at dksX18_together_3 5 rfl rfl)
theorem dX18_together_84 : decode cX18_together 84 = .ok (.iconst 0, 1) := dk_3 (dk_at dksX18_together_3 8 rfl rfl)
theorem dX18_together_85 : decode cX18_together 85 = .ok (.ireturn, 1) := dk_172 (dk_at dksX18_together_3 9 rfl rfl)
theorem dX18_together_86 : decode cX18_together 86 = .ok (.iload_n 3, 1) := dk_29 (dk_at dksX18_together_3 10 rfl rfl)
theorem dX18_together_87 : decode cX18_together 87 = .ok (.ifCond .ne 14, 3) := dk_154 0 14 (dk_at dksX18_together_3 11 rfl rfl)
theorem dX18_together_90 : decode cX18_together 90 = .ok (.aload_n 0, 1) := dk_42 (dk_at dksX18_together_3 14 rfl rfl)
theorem dX18_together_91 : decode cX18_together 91 = .ok (.getfield 3, 3) := dk_180 0 3 (dk_at dksX18_together_3 15 rfl rfl)
theorem dX18_together_94 : decode cX18_together 94 = .ok (.sipush 1002, 3) := dk_17 3 234 (dk_at dksX18_together_3 18 rfl rfl)
theorem dX18_together_97 : decode cX18_together 97 = .ok (.invokevirtual 51, 3) := dk_182 0 51 (dk_at dksX18_together_3 21 rfl rfl)
theorem dX18_together_100 : decode cX18_together 100 = .ok (.athrow, 1) := dk_191 (dk_at dksX18_together_4 0 rfl rfl)
theorem dX18_together_101 : decode cX18_together 101 = .ok (.iload_n 1, 1) := dk_27 (dk_at dksX18_together_4 1 rfl rfl)
theorem dX18_together_102 : decode cX18_together 102 = .ok (.iload_n 3, 1) := dk_29 (dk_at dksX18_together_4 2 rfl rfl)
theorem dX18_together_103 : decode cX18_together 103 = .ok (.idiv, 1) := dk_108 (dk_at dksX18_together_4 3 rfl rfl)
theorem dX18_together_104 : decode cX18_together 104 = .ok (.ireturn, 1) := dk_172 (dk_at dksX18_together_4 4 rfl rfl)
abbrev cX18_init : ByteArray := prog_5_method_1_code
def yX18_init : MethodName := ⟨RX18, "<init>", "(LPondHouse;LPondHouse$Worth;)V"⟩
def dkwX18_init_1 : List UInt8 := [181, 0, 19, 42, 44, 181, 0, 23, 177]
abbrev dktX18_init_1 : List UInt8 := dkwX18_init_1 ++ []
def dkwX18_init_0 : List UInt8 := [42, 43, 181, 0, 3, 42, 43, 183, 0, 9, 42, 5, 189, 0, 10, 181, 0, 15, 42, 5, 188, 5]
abbrev dktX18_init_0 : List UInt8 := dkwX18_init_0 ++ dktX18_init_1
theorem dksX18_init_0 : cX18_init.data.toList.drop 0 = dktX18_init_0 := by decide +kernel
theorem dksX18_init_1 : cX18_init.data.toList.drop 22 = dktX18_init_1 := dk_seg dksX18_init_0 22 rfl rfl
theorem dX18_init_0 : decode cX18_init 0 = .ok (.aload_n 0, 1) := dk_42 (dk_at dksX18_init_0 0 rfl rfl)
theorem dX18_init_1 : decode cX18_init 1 = .ok (.aload_n 1, 1) := dk_43 (dk_at dksX18_init_0 1 rfl rfl)
theorem dX18_init_2 : decode cX18_init 2 = .ok (.putfield 3, 3) := dk_181 0 3 (dk_at dksX18_init_0 2 rfl rfl)
theorem dX18_init_5 : decode cX18_init 5 = .ok (.aload_n 0, 1) := dk_42 (dk_at dksX18_init_0 5 rfl rfl)
theorem dX18_init_6 : decode cX18_init 6 = .ok (.aload_n 1, 1) := dk_43 (dk_at dksX18_init_0 6 rfl rfl)
theorem dX18_init_7 : decode cX18_init 7 = .ok (.invokespecial 9, 3) := dk_183 0 9 (dk_at dksX18_init_0 7 rfl rfl)
theorem dX18_init_10 : decode cX18_init 10 = .ok (.aload_n 0, 1) := dk_42 (dk_at dksX18_init_0 10 rfl rfl)
theorem dX18_init_11 : decode cX18_init 11 = .ok (.iconst 2, 1) := dk_5 (dk_at dksX18_init_0 11 rfl rfl)
theorem dX18_init_12 : decode cX18_init 12 = .ok (.anewarray 10, 3) := dk_189 0 10 (dk_at dksX18_init_0 12 rfl rfl)
theorem dX18_init_15 : decode cX18_init 15 = .ok (.putfield 15, 3) := dk_181 0 15 (dk_at dksX18_init_0 15 rfl rfl)
theorem dX18_init_18 : decode cX18_init 18 = .ok (.aload_n 0, 1) := dk_42 (dk_at dksX18_init_0 18 rfl rfl)
theorem dX18_init_19 : decode cX18_init 19 = .ok (.iconst 2, 1) := dk_5 (dk_at dksX18_init_0 19 rfl rfl)
theorem dX18_init_20 : decode cX18_init 20 = .ok (.newarray .char, 2) := dk_188_5 (dk_at dksX18_init_0 20 rfl rfl)
theorem dX18_init_22 : decode cX18_init 22 = .ok (.putfield 19, 3) := dk_181 0 19 (dk_at dksX18_init_1 0 rfl rfl)
theorem dX18_init_25 : decode cX18_init 25 = .ok (.aload_n 0, 1) := dk_42 (dk_at dksX18_init_1 3 rfl rfl)
theorem dX18_init_26 : decode cX18_init 26 = .ok (.aload_n 2, 1) := dk_44 (dk_at dksX18_init_1 4 rfl rfl)
theorem dX18_init_27 : decode cX18_init 27 = .ok (.putfield 23, 3) := dk_181 0 23 (dk_at dksX18_init_1 5 rfl rfl)
theorem dX18_init_30 : decode cX18_init 30 = .ok (.return_, 1) := dk_177 (dk_at dksX18_init_1 8 rfl rfl)
abbrev cX18_add : ByteArray := prog_5_method_2_code
def yX18_add : MethodName := ⟨RX18, "add", "(CLPondHouse$Worth;)V"⟩
def dkwX18_add_3 : List UInt8 := [180, 0, 19, 42, 180, 0, 27, 27, 85, 42, 89, 180, 0, 27, 4, 96, 181, 0, 27, 177]
abbrev dktX18_add_3 : List UInt8 := dkwX18_add_3 ++ []
def dkwX18_add_2 : List UInt8 := [42, 180, 0, 27, 104, 184, 0, 37, 181, 0, 19, 42, 180, 0, 15, 42, 180, 0, 27, 44, 83, 42]
abbrev dktX18_add_2 : List UInt8 := dkwX18_add_2 ++ dktX18_add_3
def dkwX18_add_1 : List UInt8 := [180, 0, 15, 3, 45, 3, 42, 180, 0, 27, 184, 0, 31, 42, 45, 181, 0, 15, 42, 42, 180, 0, 19, 5]
abbrev dktX18_add_1 : List UInt8 := dkwX18_add_1 ++ dktX18_add_2
def dkwX18_add_0 : List UInt8 := [42, 180, 0, 27, 42, 180, 0, 19, 190, 160, 0, 49, 5, 42, 180, 0, 27, 104, 189, 0, 10, 78, 42]
abbrev dktX18_add_0 : List UInt8 := dkwX18_add_0 ++ dktX18_add_1
theorem dksX18_add_0 : cX18_add.data.toList.drop 0 = dktX18_add_0 := by decide +kernel
theorem dksX18_add_1 : cX18_add.data.toList.drop 23 = dktX18_add_1 := dk_seg dksX18_add_0 23 rfl rfl
theorem dksX18_add_2 : cX18_add.data.toList.drop 47 = dktX18_add_2 := dk_seg dksX18_add_1 24 rfl rfl
theorem dksX18_add_3 : cX18_add.data.toList.drop 69 = dktX18_add_3 := dk_seg dksX18_add_2 22 rfl rfl
theorem dX18_add_0 : decode cX18_add 0 = .ok (.aload_n 0, 1) := dk_42 (dk_at dksX18_add_0 0 rfl rfl)
theorem dX18_add_1 : decode cX18_add 1 = .ok (.getfield 27, 3) := dk_180 0 27 (dk_at dksX18_add_0 1 rfl rfl)
theorem dX18_add_4 : decode cX18_add 4 = .ok (.aload_n 0, 1) := dk_42 (dk_at dksX18_add_0 4 rfl rfl)
theorem dX18_add_5 : decode cX18_add 5 = .ok (.getfield 19, 3) := dk_180 0 19 (dk_at dksX18_add_0 5 rfl rfl)
theorem dX18_add_8 : decode cX18_add 8 = .ok (.arraylength, 1) := dk_190 (dk_at dksX18_add_0 8 rfl rfl)
theorem dX18_add_9 : decode cX18_add 9 = .ok (.if_icmp .ne 49, 3) := dk_160 0 49 (dk_at dksX18_add_0 9 rfl rfl)
theorem dX18_add_12 : decode cX18_add 12 = .ok (.iconst 2, 1) := dk_5 (dk_at dksX18_add_0 12 rfl rfl)
theorem dX18_add_13 : decode cX18_add 13 = .ok (.aload_n 0, 1) := dk_42 (dk_at dksX18_add_0 13 rfl rfl)
theorem dX18_add_14 : decode cX18_add 14 = .ok (.getfield 27, 3) := dk_180 0 27 (dk_at dksX18_add_0 14 rfl rfl)
theorem dX18_add_17 : decode cX18_add 17 = .ok (.imul, 1) := dk_104 (dk_at dksX18_add_0 17 rfl rfl)
theorem dX18_add_18 : decode cX18_add 18 = .ok (.anewarray 10, 3) := dk_189 0 10 (dk_at dksX18_add_0 18 rfl rfl)
theorem dX18_add_21 : decode cX18_add 21 = .ok (.astore_n 3, 1) := dk_78 (dk_at dksX18_add_0 21 rfl rfl)
theorem dX18_add_22 : decode cX18_add 22 = .ok (.aload_n 0, 1) := dk_42 (dk_at dksX18_add_0 22 rfl rfl)
theorem dX18_add_23 : decode cX18_add 23 = .ok (.getfield 15, 3) := dk_180 0 15 (dk_at dksX18_add_1 0 rfl rfl)
theorem dX18_add_26 : decode cX18_add 26 = .ok (.iconst 0, 1) := dk_3 (dk_at dksX18_add_1 3 rfl rfl)
theorem dX18_add_27 : decode cX18_add 27 = .ok (.aload_n 3, 1) := dk_45 (dk_at dksX18_add_1 4 rfl rfl)
theorem dX18_add_28 : decode cX18_add 28 = .ok (.iconst 0, 1) := dk_3 (dk_at dksX18_add_1 5 rfl rfl)
theorem dX18_add_29 : decode cX18_add 29 = .ok (.aload_n 0, 1) := dk_42 (dk_at dksX18_add_1 6 rfl rfl)
theorem dX18_add_30 : decode cX18_add 30 = .ok (.getfield 27, 3) := dk_180 0 27 (dk_at dksX18_add_1 7 rfl rfl)
theorem dX18_add_33 : decode cX18_add 33 = .ok (.invokestatic 31, 3) := dk_184 0 31 (dk_at dksX18_add_1 10 rfl rfl)
theorem dX18_add_36 : decode cX18_add 36 = .ok (.aload_n 0, 1) := dk_42 (dk_at dksX18_add_1 13 rfl rfl)
theorem dX18_add_37 : decode cX18_add 37 = .ok (.aload_n 3, 1) := dk_45 (dk_at dksX18_add_1 14 rfl rfl)
theorem dX18_add_38 : decode cX18_add 38 = .ok (.putfield 15, 3) := dk_181 0 15 (dk_at dksX18_add_1 15 rfl rfl)
theorem dX18_add_41 : decode cX18_add 41 = .ok (.aload_n 0, 1) := dk_42 (dk_at dksX18_add_1 18 rfl rfl)
theorem dX18_add_42 : decode cX18_add 42 = .ok (.aload_n 0, 1) := dk_42 (dk_at dksX18_add_1 19 rfl rfl)
theorem dX18_add_43 : decode cX18_add 43 = .ok (.getfield 19, 3) := dk_180 0 19 (dk_at dksX18_add_1 20 rfl rfl)
theorem dX18_add_46 : decode cX18_add 46 = .ok (.iconst 2, 1) := dk_5 (dk_at dksX18_add_1 23 rfl rfl)
theorem dX18_add_47 : decode cX18_add 47 = .ok (.aload_n 0, 1) := dk_42 (dk_at dksX18_add_2 0 rfl rfl)
theorem dX18_add_48 : decode cX18_add 48 = .ok (.getfield 27, 3) := dk_180 0 27 (dk_at dksX18_add_2 1 rfl rfl)
theorem dX18_add_51 : decode cX18_add 51 = .ok (.imul, 1) := dk_104 (dk_at dksX18_add_2 4 rfl rfl)
theorem dX18_add_52 : decode cX18_add 52 = .ok (.invokestatic 37, 3) := dk_184 0 37 (dk_at dksX18_add_2 5 rfl rfl)
theorem dX18_add_55 : decode cX18_add 55 = .ok (.putfield 19, 3) := dk_181 0 19 (dk_at dksX18_add_2 8 rfl rfl)
theorem dX18_add_58 : decode cX18_add 58 = .ok (.aload_n 0, 1) := dk_42 (dk_at dksX18_add_2 11 rfl rfl)
theorem dX18_add_59 : decode cX18_add 59 = .ok (.getfield 15, 3) := dk_180 0 15 (dk_at dksX18_add_2 12 rfl rfl)
theorem dX18_add_62 : decode cX18_add 62 = .ok (.aload_n 0, 1) := dk_42 (dk_at dksX18_add_2 15 rfl rfl)
theorem dX18_add_63 : decode cX18_add 63 = .ok (.getfield 27, 3) := dk_180 0 27 (dk_at dksX18_add_2 16 rfl rfl)
theorem dX18_add_66 : decode cX18_add 66 = .ok (.aload_n 2, 1) := dk_44 (dk_at dksX18_add_2 19 rfl rfl)
theorem dX18_add_67 : decode cX18_add 67 = .ok (.aastore, 1) := dk_83 (dk_at dksX18_add_2 20 rfl rfl)
theorem dX18_add_68 : decode cX18_add 68 = .ok (.aload_n 0, 1) := dk_42 (dk_at dksX18_add_2 21 rfl rfl)
theorem dX18_add_69 : decode cX18_add 69 = .ok (.getfield 19, 3) := dk_180 0 19 (dk_at dksX18_add_3 0 rfl rfl)
theorem dX18_add_72 : decode cX18_add 72 = .ok (.aload_n 0, 1) := dk_42 (dk_at dksX18_add_3 3 rfl rfl)
theorem dX18_add_73 : decode cX18_add 73 = .ok (.getfield 27, 3) := dk_180 0 27 (dk_at dksX18_add_3 4 rfl rfl)
theorem dX18_add_76 : decode cX18_add 76 = .ok (.iload_n 1, 1) := dk_27 (dk_at dksX18_add_3 7 rfl rfl)
theorem dX18_add_77 : decode cX18_add 77 = .ok (.castore, 1) := dk_85 (dk_at dksX18_add_3 8 rfl rfl)
theorem dX18_add_78 : decode cX18_add 78 = .ok (.aload_n 0, 1) := dk_42 (dk_at dksX18_add_3 9 rfl rfl)
theorem dX18_add_79 : decode cX18_add 79 = .ok (.dup, 1) := dk_89 (dk_at dksX18_add_3 10 rfl rfl)
theorem dX18_add_80 : decode cX18_add 80 = .ok (.getfield 27, 3) := dk_180 0 27 (dk_at dksX18_add_3 11 rfl rfl)
theorem dX18_add_83 : decode cX18_add 83 = .ok (.iconst 1, 1) := dk_4 (dk_at dksX18_add_3 14 rfl rfl)
theorem dX18_add_84 : decode cX18_add 84 = .ok (.iadd, 1) := dk_96 (dk_at dksX18_add_3 15 rfl rfl)
theorem dX18_add_85 : decode cX18_add 85 = .ok (.putfield 27, 3) := dk_181 0 27 (dk_at dksX18_add_3 16 rfl rfl)
theorem dX18_add_88 : decode cX18_add 88 = .ok (.return_, 1) := dk_177 (dk_at dksX18_add_3 19 rfl rfl)
theorem q196 : (Jvm.Cond.initialized "PondHouse$Chain") ∈ lw_all := lw_g (lw_at lw_m1 36 rfl) rfl
theorem q447 : (Jvm.Cond.selects "PondHouse$Chain" ({ cls := "PondHouse$Worth", name := "of", desc := "(LPondHouse$Frame;)I" } : Jvm.MethodName) ({ cls := "PondHouse$Chain", name := "of", desc := "(LPondHouse$Frame;)I" } : Jvm.MethodName)) ∈ lw_all := lw_g (lw_at lw_m2 47 rfl) rfl
theorem q448 : (Jvm.Cond.instanceMethod ({ cls := "PondHouse$Chain", name := "of", desc := "(LPondHouse$Frame;)I" } : Jvm.MethodName)) ∈ lw_all := lw_g (lw_at lw_m2 48 rfl) rfl
theorem q449 : (Jvm.Cond.code ({ cls := "PondHouse$Chain", name := "of", desc := "(LPondHouse$Frame;)I" } : Jvm.MethodName) prog_5_method_3_code (4 : Nat) (Option.some Jvm.ClassFile.FieldType.int)) ∈ lw_all := lw_g (lw_at lw_m2 49 rfl) rfl
theorem q450 : (Jvm.Cond.methodLink "PondHouse$Chain" (43 : Nat) ({ cls := "PondHouse$Worth", name := "of", desc := "(LPondHouse$Frame;)I" } : Jvm.MethodName)) ∈ lw_all := lw_g (lw_at lw_m2 50 rfl) rfl
theorem q461 : (Jvm.Cond.methodLink "PondHouse$Chain" (47 : Nat) ({ cls := "PondHouse$Chain", name := "together", desc := "(ICI)I" } : Jvm.MethodName)) ∈ lw_all := lw_g (lw_at lw_m2 61 rfl) rfl
theorem q462 : (Jvm.Cond.privateMethod ({ cls := "PondHouse$Chain", name := "together", desc := "(ICI)I" } : Jvm.MethodName)) ∈ lw_tbl := lw_at lw_m2 62 rfl
theorem q463 : (Jvm.Cond.instanceMethod ({ cls := "PondHouse$Chain", name := "together", desc := "(ICI)I" } : Jvm.MethodName)) ∈ lw_all := lw_g (lw_at lw_m2 63 rfl) rfl
theorem q464 : (Jvm.Cond.instantiable "PondHouse$Chain" (6 : Nat)) ∈ lw_all := lw_g (lw_at lw_m2 64 rfl) rfl
theorem q465 : (Jvm.Cond.code ({ cls := "PondHouse$Chain", name := "together", desc := "(ICI)I" } : Jvm.MethodName) prog_5_method_4_code (4 : Nat) (Option.some Jvm.ClassFile.FieldType.int)) ∈ lw_all := lw_g (lw_at lw_m2 65 rfl) rfl
theorem q466 : (Jvm.Cond.methodLinkNest "PondHouse$Chain" (51 : Nat) ({ cls := "PondHouse", name := "fails", desc := "(I)LPondHouse$Failure;" } : Jvm.MethodName) "PondHouse") ∈ lw_tbl := lw_at lw_m2 66 rfl
theorem q664 : (Jvm.Cond.selects "PondHouse$Chain" ({ cls := "java/lang/Object", name := "getClass", desc := "()Ljava/lang/Class;" } : Jvm.MethodName) ({ cls := "java/lang/Object", name := "getClass", desc := "()Ljava/lang/Class;" } : Jvm.MethodName)) ∈ lw_all := lw_g (lw_at lw_m3 24 rfl) rfl
theorem q1887 : (Jvm.Cond.instanceMethod ({ cls := "PondHouse$Chain", name := "<init>", desc := "(LPondHouse;LPondHouse$Worth;)V" } : Jvm.MethodName)) ∈ lw_all := lw_g (lw_at lw_m8 47 rfl) rfl
theorem q1888 : (Jvm.Cond.code ({ cls := "PondHouse$Chain", name := "<init>", desc := "(LPondHouse;LPondHouse$Worth;)V" } : Jvm.MethodName) prog_5_method_1_code (3 : Nat) (Option.none : Option Jvm.ClassFile.FieldType)) ∈ lw_all := lw_g (lw_at lw_m8 48 rfl) rfl
theorem q1889 : (Jvm.Cond.methodLinkNest "PondHouse$Chain" (9 : Nat) ({ cls := "PondHouse$Worth", name := "<init>", desc := "(LPondHouse;)V" } : Jvm.MethodName) "PondHouse") ∈ lw_tbl := lw_at lw_m8 49 rfl
theorem q1890 : (Jvm.Cond.classLink "PondHouse$Chain" (10 : Nat) "PondHouse$Worth") ∈ lw_all := lw_g (lw_at lw_m8 50 rfl) rfl
theorem q1892 : (Jvm.Cond.fieldLink "PondHouse$Chain" (23 : Nat) "PondHouse$Chain" "first" "LPondHouse$Worth;") ∈ lw_all := lw_g (lw_at lw_m8 52 rfl) rfl
theorem q1893 : (Jvm.Cond.fieldLink "PondHouse$Chain" (15 : Nat) "PondHouse$Chain" "others" "[LPondHouse$Worth;") ∈ lw_all := lw_g (lw_at lw_m8 53 rfl) rfl
theorem q1894 : (Jvm.Cond.fieldLink "PondHouse$Chain" (19 : Nat) "PondHouse$Chain" "signs" "[C") ∈ lw_all := lw_g (lw_at lw_m8 54 rfl) rfl
theorem q1895 : (Jvm.Cond.fieldLink "PondHouse$Chain" (27 : Nat) "PondHouse$Chain" "many" "I") ∈ lw_all := lw_g (lw_at lw_m8 55 rfl) rfl
theorem q1896 : (Jvm.Cond.fieldLink "PondHouse$Chain" (3 : Nat) "PondHouse$Chain" "this$0" "LPondHouse;") ∈ lw_all := lw_g (lw_at lw_m8 56 rfl) rfl
theorem q1897 : (Jvm.Cond.laysFinal "PondHouse$Chain" "PondHouse$Chain" "first" "LPondHouse$Worth;") ∈ lw_all := lw_g (lw_at lw_m8 57 rfl) rfl
theorem q1898 : (Jvm.Cond.soleField "PondHouse$Chain" "first") ∈ lw_all := lw_g (lw_at lw_m8 58 rfl) rfl
theorem q1899 : (Jvm.Cond.lays "PondHouse$Chain" "PondHouse$Chain" "others" "[LPondHouse$Worth;") ∈ lw_all := lw_g (lw_at lw_m8 59 rfl) rfl
theorem q1900 : (Jvm.Cond.soleField "PondHouse$Chain" "others") ∈ lw_all := lw_g (lw_at lw_m8 60 rfl) rfl
theorem q1901 : (Jvm.Cond.lays "PondHouse$Chain" "PondHouse$Chain" "signs" "[C") ∈ lw_all := lw_g (lw_at lw_m8 61 rfl) rfl
theorem q1902 : (Jvm.Cond.soleField "PondHouse$Chain" "signs") ∈ lw_all := lw_g (lw_at lw_m8 62 rfl) rfl
theorem q1903 : (Jvm.Cond.lays "PondHouse$Chain" "PondHouse$Chain" "many" "I") ∈ lw_all := lw_g (lw_at lw_m8 63 rfl) rfl
theorem q1904 : (Jvm.Cond.soleField "PondHouse$Chain" "many") ∈ lw_all := lw_g (lw_at lw_m8 64 rfl) rfl
theorem q1905 : (Jvm.Cond.laysFinal "PondHouse$Chain" "PondHouse$Chain" "this$0" "LPondHouse;") ∈ lw_all := lw_g (lw_at lw_m8 65 rfl) rfl
theorem q1906 : (Jvm.Cond.soleField "PondHouse$Chain" "this$0") ∈ lw_all := lw_g (lw_at lw_m8 66 rfl) rfl
theorem q1907 : (Jvm.Cond.laysFinal "PondHouse$Chain" "PondHouse$Worth" "this$0" "LPondHouse;") ∈ lw_all := lw_g (lw_at lw_m8 67 rfl) rfl
theorem q1908 : (Jvm.Cond.superclass "PondHouse$Chain" "PondHouse$Worth") ∈ lw_all := lw_g (lw_at lw_m8 68 rfl) rfl
theorem q1911 : (Jvm.Cond.instanceMethod ({ cls := "PondHouse$Chain", name := "add", desc := "(CLPondHouse$Worth;)V" } : Jvm.MethodName)) ∈ lw_all := lw_g (lw_at lw_m8 71 rfl) rfl
theorem q1912 : (Jvm.Cond.selects "PondHouse$Chain" ({ cls := "PondHouse$Chain", name := "add", desc := "(CLPondHouse$Worth;)V" } : Jvm.MethodName) ({ cls := "PondHouse$Chain", name := "add", desc := "(CLPondHouse$Worth;)V" } : Jvm.MethodName)) ∈ lw_all := lw_g (lw_at lw_m8 72 rfl) rfl
theorem q1913 : (Jvm.Cond.code ({ cls := "PondHouse$Chain", name := "add", desc := "(CLPondHouse$Worth;)V" } : Jvm.MethodName) prog_5_method_2_code (4 : Nat) (Option.none : Option Jvm.ClassFile.FieldType)) ∈ lw_all := lw_g (lw_at lw_m8 73 rfl) rfl
theorem q1914 : (Jvm.Cond.methodLink "PondHouse$Chain" (31 : Nat) ({ cls := "java/lang/System", name := "arraycopy", desc := "(Ljava/lang/Object;ILjava/lang/Object;II)V" } : Jvm.MethodName)) ∈ lw_all := lw_g (lw_at lw_m8 74 rfl) rfl
theorem q1915 : (Jvm.Cond.methodLink "PondHouse$Chain" (37 : Nat) ({ cls := "java/util/Arrays", name := "copyOf", desc := "([CI)[C" } : Jvm.MethodName)) ∈ lw_all := lw_g (lw_at lw_m8 75 rfl) rfl
theorem q3114 : (Jvm.Cond.castable "PondHouse$Chain" "java/lang/Object") ∈ lw_tbl := lw_at lw_m13 74 rfl
theorem q3135 : (Jvm.Cond.castable "PondHouse$Chain" "PondHouse$Worth") ∈ lw_tbl := lw_at lw_m13 95 rfl
theorem in_X18 : ∀ w ∈ wsX180, w ∈ lw_all := lw_in wsX180 [1907, 1897, 1899, 1901, 1903, 1905] (by decide +kernel) (by decide +kernel)

/-! PondHouse$Sets -/
set_option maxRecDepth 100000
def RX19 : String := "PondHouse$Sets"
def TX19 : u_T := fun k => match k with
  | 0 => ("PondHouse$Statement", "this$0", "LPondHouse;", true)
  | 1 => ("PondHouse$Sets", "name", "I", true)
  | 2 => ("PondHouse$Sets", "to", "LPondHouse$Worth;", true)
  | _ => ("PondHouse$Sets", "this$0", "LPondHouse;", true)
def tyX19 : Nat → FieldType := fun k => match k with
  | 0 => .object "PondHouse"
  | 1 => .int
  | 2 => .object "PondHouse$Worth"
  | _ => .object "PondHouse"
abbrev wsX190 : List Cond := u_ws RX19 TX19 4
-- two fields of one name: no nmX19
theorem tyX19_ok : ∀ k, k < 4 → parseFieldDescriptor (TX19 k).2.2.1 = some (tyX19 k) := by decide +kernel
abbrev cX19_does : ByteArray := prog_33_method_2_code
def yX19_does : MethodName := ⟨RX19, "does", "(LPondHouse$Frame;)Z"⟩
def dkwX19_does_0 : List UInt8 := [42, 180, 0, 17, 43, 182, 0, 21, 61, 43, 180, 0, 27, 42, 180, 0, 13, 28, 182, 0, 33, 4, 172]
abbrev dktX19_does_0 : List UInt8 := dkwX19_does_0 ++ []
theorem dksX19_does_0 : cX19_does.data.toList.drop 0 = dktX19_does_0 := by decide +kernel
theorem dX19_does_0 : decode cX19_does 0 = .ok (.aload_n 0, 1) := dk_42 (dk_at dksX19_does_0 0 rfl rfl)
theorem dX19_does_1 : decode cX19_does 1 = .ok (.getfield 17, 3) := dk_180 0 17 (dk_at dksX19_does_0 1 rfl rfl)
theorem dX19_does_4 : decode cX19_does 4 = .ok (.aload_n 1, 1) := dk_43 (dk_at dksX19_does_0 4 rfl rfl)
theorem dX19_does_5 : decode cX19_does 5 = .ok (.invokevirtual 21, 3) := dk_182 0 21 (dk_at dksX19_does_0 5 rfl rfl)
theorem dX19_does_8 : decode cX19_does 8 = .ok (.istore_n 2, 1) := dk_61 (dk_at dksX19_does_0 8 rfl rfl)
theorem dX19_does_9 : decode cX19_does 9 = .ok (.aload_n 1, 1) := dk_43 (dk_at dksX19_does_0 9 rfl rfl)
theorem dX19_does_10 : decode cX19_does 10 = .ok (.getfield 27, 3) := dk_180 0 27 (dk_at dksX19_does_0 10 rfl rfl)
theorem dX19_does_13 : decode cX19_does 13 = .ok (.aload_n 0, 1) := dk_42 (dk_at dksX19_does_0 13 rfl rfl)
theorem dX19_does_14 : decode cX19_does 14 = .ok (.getfield 13, 3) := dk_180 0 13 (dk_at dksX19_does_0 14 rfl rfl)
theorem dX19_does_17 : decode cX19_does 17 = .ok (.iload_n 2, 1) := dk_28 (dk_at dksX19_does_0 17 rfl rfl)
theorem dX19_does_18 : decode cX19_does 18 = .ok (.invokevirtual 33, 3) := dk_182 0 33 (dk_at dksX19_does_0 18 rfl rfl)
theorem dX19_does_21 : decode cX19_does 21 = .ok (.iconst 1, 1) := dk_4 (dk_at dksX19_does_0 21 rfl rfl)
theorem dX19_does_22 : decode cX19_does 22 = .ok (.ireturn, 1) := dk_172 (dk_at dksX19_does_0 22 rfl rfl)
abbrev cX19_init : ByteArray := prog_33_method_1_code
def yX19_init : MethodName := ⟨RX19, "<init>", "(LPondHouse;ILPondHouse$Worth;)V"⟩
def dkwX19_init_0 : List UInt8 := [42, 43, 181, 0, 1, 42, 43, 183, 0, 7, 42, 28, 181, 0, 13, 42, 45, 181, 0, 17, 177]
abbrev dktX19_init_0 : List UInt8 := dkwX19_init_0 ++ []
theorem dksX19_init_0 : cX19_init.data.toList.drop 0 = dktX19_init_0 := by decide +kernel
theorem dX19_init_0 : decode cX19_init 0 = .ok (.aload_n 0, 1) := dk_42 (dk_at dksX19_init_0 0 rfl rfl)
theorem dX19_init_1 : decode cX19_init 1 = .ok (.aload_n 1, 1) := dk_43 (dk_at dksX19_init_0 1 rfl rfl)
theorem dX19_init_2 : decode cX19_init 2 = .ok (.putfield 1, 3) := dk_181 0 1 (dk_at dksX19_init_0 2 rfl rfl)
theorem dX19_init_5 : decode cX19_init 5 = .ok (.aload_n 0, 1) := dk_42 (dk_at dksX19_init_0 5 rfl rfl)
theorem dX19_init_6 : decode cX19_init 6 = .ok (.aload_n 1, 1) := dk_43 (dk_at dksX19_init_0 6 rfl rfl)
theorem dX19_init_7 : decode cX19_init 7 = .ok (.invokespecial 7, 3) := dk_183 0 7 (dk_at dksX19_init_0 7 rfl rfl)
theorem dX19_init_10 : decode cX19_init 10 = .ok (.aload_n 0, 1) := dk_42 (dk_at dksX19_init_0 10 rfl rfl)
theorem dX19_init_11 : decode cX19_init 11 = .ok (.iload_n 2, 1) := dk_28 (dk_at dksX19_init_0 11 rfl rfl)
theorem dX19_init_12 : decode cX19_init 12 = .ok (.putfield 13, 3) := dk_181 0 13 (dk_at dksX19_init_0 12 rfl rfl)
theorem dX19_init_15 : decode cX19_init 15 = .ok (.aload_n 0, 1) := dk_42 (dk_at dksX19_init_0 15 rfl rfl)
theorem dX19_init_16 : decode cX19_init 16 = .ok (.aload_n 3, 1) := dk_45 (dk_at dksX19_init_0 16 rfl rfl)
theorem dX19_init_17 : decode cX19_init 17 = .ok (.putfield 17, 3) := dk_181 0 17 (dk_at dksX19_init_0 17 rfl rfl)
theorem dX19_init_20 : decode cX19_init 20 = .ok (.return_, 1) := dk_177 (dk_at dksX19_init_0 20 rfl rfl)
theorem q197 : (Jvm.Cond.initialized "PondHouse$Sets") ∈ lw_all := lw_g (lw_at lw_m1 37 rfl) rfl
theorem q308 : (Jvm.Cond.fieldLink "PondHouse$Sets" (27 : Nat) "PondHouse$Frame" "creature" "LPondHouse$Creature;") ∈ lw_all := lw_g (lw_at lw_m1 148 rfl) rfl
theorem q480 : (Jvm.Cond.selects "PondHouse$Sets" ({ cls := "PondHouse$Statement", name := "does", desc := "(LPondHouse$Frame;)Z" } : Jvm.MethodName) ({ cls := "PondHouse$Sets", name := "does", desc := "(LPondHouse$Frame;)Z" } : Jvm.MethodName)) ∈ lw_all := lw_g (lw_at lw_m2 80 rfl) rfl
theorem q481 : (Jvm.Cond.instanceMethod ({ cls := "PondHouse$Sets", name := "does", desc := "(LPondHouse$Frame;)Z" } : Jvm.MethodName)) ∈ lw_all := lw_g (lw_at lw_m2 81 rfl) rfl
theorem q482 : (Jvm.Cond.code ({ cls := "PondHouse$Sets", name := "does", desc := "(LPondHouse$Frame;)Z" } : Jvm.MethodName) prog_33_method_2_code (3 : Nat) (Option.some Jvm.ClassFile.FieldType.boolean)) ∈ lw_all := lw_g (lw_at lw_m2 82 rfl) rfl
theorem q483 : (Jvm.Cond.methodLink "PondHouse$Sets" (21 : Nat) ({ cls := "PondHouse$Worth", name := "of", desc := "(LPondHouse$Frame;)I" } : Jvm.MethodName)) ∈ lw_all := lw_g (lw_at lw_m2 83 rfl) rfl
theorem q484 : (Jvm.Cond.methodLink "PondHouse$Sets" (33 : Nat) ({ cls := "PondHouse$Creature", name := "set", desc := "(II)V" } : Jvm.MethodName)) ∈ lw_all := lw_g (lw_at lw_m2 84 rfl) rfl
theorem q691 : (Jvm.Cond.selects "PondHouse$Sets" ({ cls := "java/lang/Object", name := "getClass", desc := "()Ljava/lang/Class;" } : Jvm.MethodName) ({ cls := "java/lang/Object", name := "getClass", desc := "()Ljava/lang/Class;" } : Jvm.MethodName)) ∈ lw_all := lw_g (lw_at lw_m3 51 rfl) rfl
theorem q1954 : (Jvm.Cond.instantiable "PondHouse$Sets" (4 : Nat)) ∈ lw_all := lw_g (lw_at lw_m8 114 rfl) rfl
theorem q1956 : (Jvm.Cond.instanceMethod ({ cls := "PondHouse$Sets", name := "<init>", desc := "(LPondHouse;ILPondHouse$Worth;)V" } : Jvm.MethodName)) ∈ lw_all := lw_g (lw_at lw_m8 116 rfl) rfl
theorem q1957 : (Jvm.Cond.code ({ cls := "PondHouse$Sets", name := "<init>", desc := "(LPondHouse;ILPondHouse$Worth;)V" } : Jvm.MethodName) prog_33_method_1_code (4 : Nat) (Option.none : Option Jvm.ClassFile.FieldType)) ∈ lw_all := lw_g (lw_at lw_m8 117 rfl) rfl
theorem q1958 : (Jvm.Cond.methodLinkNest "PondHouse$Sets" (7 : Nat) ({ cls := "PondHouse$Statement", name := "<init>", desc := "(LPondHouse;)V" } : Jvm.MethodName) "PondHouse") ∈ lw_tbl := lw_at lw_m8 118 rfl
theorem q1959 : (Jvm.Cond.fieldLink "PondHouse$Sets" (13 : Nat) "PondHouse$Sets" "name" "I") ∈ lw_all := lw_g (lw_at lw_m8 119 rfl) rfl
theorem q1960 : (Jvm.Cond.fieldLink "PondHouse$Sets" (17 : Nat) "PondHouse$Sets" "to" "LPondHouse$Worth;") ∈ lw_all := lw_g (lw_at lw_m8 120 rfl) rfl
theorem q1961 : (Jvm.Cond.fieldLink "PondHouse$Sets" (1 : Nat) "PondHouse$Sets" "this$0" "LPondHouse;") ∈ lw_all := lw_g (lw_at lw_m8 121 rfl) rfl
theorem q1962 : (Jvm.Cond.laysFinal "PondHouse$Sets" "PondHouse$Sets" "name" "I") ∈ lw_all := lw_g (lw_at lw_m8 122 rfl) rfl
theorem q1963 : (Jvm.Cond.soleField "PondHouse$Sets" "name") ∈ lw_all := lw_g (lw_at lw_m8 123 rfl) rfl
theorem q1964 : (Jvm.Cond.laysFinal "PondHouse$Sets" "PondHouse$Sets" "to" "LPondHouse$Worth;") ∈ lw_all := lw_g (lw_at lw_m8 124 rfl) rfl
theorem q1965 : (Jvm.Cond.soleField "PondHouse$Sets" "to") ∈ lw_all := lw_g (lw_at lw_m8 125 rfl) rfl
theorem q1966 : (Jvm.Cond.laysFinal "PondHouse$Sets" "PondHouse$Sets" "this$0" "LPondHouse;") ∈ lw_all := lw_g (lw_at lw_m8 126 rfl) rfl
theorem q1967 : (Jvm.Cond.soleField "PondHouse$Sets" "this$0") ∈ lw_all := lw_g (lw_at lw_m8 127 rfl) rfl
theorem q1968 : (Jvm.Cond.laysFinal "PondHouse$Sets" "PondHouse$Statement" "this$0" "LPondHouse;") ∈ lw_all := lw_g (lw_at lw_m8 128 rfl) rfl
theorem q1969 : (Jvm.Cond.superclass "PondHouse$Sets" "PondHouse$Statement") ∈ lw_all := lw_g (lw_at lw_m8 129 rfl) rfl
theorem q3115 : (Jvm.Cond.castable "PondHouse$Sets" "java/lang/Object") ∈ lw_tbl := lw_at lw_m13 75 rfl
theorem q3127 : (Jvm.Cond.castable "PondHouse$Sets" "PondHouse$Statement") ∈ lw_tbl := lw_at lw_m13 87 rfl
theorem in_X19 : ∀ w ∈ wsX190, w ∈ lw_all := lw_in wsX190 [1968, 1962, 1964, 1966] (by decide +kernel) (by decide +kernel)

/-! PondHouse$Failure -/
set_option maxRecDepth 100000
def RX2 : String := "PondHouse$Failure"
def TX2 : u_T := fun k => match k with
  | 0 => ("java/lang/Throwable", "cause", "Ljava/lang/Throwable;", false)
  | 1 => ("java/lang/Throwable", "stackTrace", "[Ljava/lang/StackTraceElement;", false)
  | 2 => ("java/lang/Throwable", "suppressedExceptions", "Ljava/util/List;", false)
  | 3 => ("java/lang/Throwable", "detailMessage", "Ljava/lang/String;", false)
  | 4 => ("java/lang/Throwable", "backtrace", "Ljava/lang/Object;", false)
  | 5 => ("java/lang/Throwable", "depth", "I", false)
  | 6 => ("PondHouse$Failure", "code", "I", false)
  | _ => ("PondHouse$Failure", "isSpent", "Z", false)
def tyX2 : Nat → FieldType := fun k => match k with
  | 0 => .object "java/lang/Throwable"
  | 1 => .array (.object "java/lang/StackTraceElement")
  | 2 => .object "java/util/List"
  | 3 => .object "java/lang/String"
  | 4 => .object "java/lang/Object"
  | 5 => .int
  | 6 => .int
  | _ => .boolean
abbrev wsX20 : List Cond := u_ws RX2 TX2 8
theorem nmX2 : ∀ a, a < 8 → ∀ b, b < 8 → a ≠ b → (TX2 a).2.1 ≠ (TX2 b).2.1 := by decide +kernel
theorem tyX2_ok : ∀ k, k < 8 → parseFieldDescriptor (TX2 k).2.2.1 = some (tyX2 k) := by decide +kernel
abbrev cX2_init : ByteArray := prog_14_method_1_code
def yX2_init : MethodName := ⟨RX2, "<init>", "()V"⟩
def dkwX2_init_0 : List UInt8 := [42, 1, 1, 3, 3, 183, 0, 1, 177]
abbrev dktX2_init_0 : List UInt8 := dkwX2_init_0 ++ []
theorem dksX2_init_0 : cX2_init.data.toList.drop 0 = dktX2_init_0 := by decide +kernel
theorem dX2_init_0 : decode cX2_init 0 = .ok (.aload_n 0, 1) := dk_42 (dk_at dksX2_init_0 0 rfl rfl)
theorem dX2_init_1 : decode cX2_init 1 = .ok (.aconst_null, 1) := dk_1 (dk_at dksX2_init_0 1 rfl rfl)
theorem dX2_init_2 : decode cX2_init 2 = .ok (.aconst_null, 1) := dk_1 (dk_at dksX2_init_0 2 rfl rfl)
theorem dX2_init_3 : decode cX2_init 3 = .ok (.iconst 0, 1) := dk_3 (dk_at dksX2_init_0 3 rfl rfl)
theorem dX2_init_4 : decode cX2_init 4 = .ok (.iconst 0, 1) := dk_3 (dk_at dksX2_init_0 4 rfl rfl)
theorem dX2_init_5 : decode cX2_init 5 = .ok (.invokespecial 1, 3) := dk_183 0 1 (dk_at dksX2_init_0 5 rfl rfl)
theorem dX2_init_8 : decode cX2_init 8 = .ok (.return_, 1) := dk_177 (dk_at dksX2_init_0 8 rfl rfl)
theorem q165 : (Jvm.Cond.initialized "PondHouse$Failure") ∈ lw_all := lw_g (lw_at lw_m1 5 rfl) rfl
theorem q672 : (Jvm.Cond.selects "PondHouse$Failure" ({ cls := "java/lang/Object", name := "getClass", desc := "()Ljava/lang/Class;" } : Jvm.MethodName) ({ cls := "java/lang/Object", name := "getClass", desc := "()Ljava/lang/Class;" } : Jvm.MethodName)) ∈ lw_all := lw_g (lw_at lw_m3 32 rfl) rfl
theorem q1085 : (Jvm.Cond.instantiable "PondHouse$Failure" (8 : Nat)) ∈ lw_all := lw_g (lw_at lw_m4 205 rfl) rfl
theorem q1086 : (Jvm.Cond.castable "PondHouse$Failure" "PondHouse$Failure") ∈ lw_tbl := lw_at lw_m4 206 rfl
theorem q1091 : (Jvm.Cond.selects "PondHouse$Failure" ({ cls := "java/lang/Throwable", name := "fillInStackTrace", desc := "(I)Ljava/lang/Throwable;" } : Jvm.MethodName) ({ cls := "java/lang/Throwable", name := "fillInStackTrace", desc := "(I)Ljava/lang/Throwable;" } : Jvm.MethodName)) ∈ lw_all := lw_g (lw_at lw_m4 211 rfl) rfl
theorem q1092 : (Jvm.Cond.selects "PondHouse$Failure" ({ cls := "java/lang/Throwable", name := "fillInStackTrace", desc := "()Ljava/lang/Throwable;" } : Jvm.MethodName) ({ cls := "java/lang/Throwable", name := "fillInStackTrace", desc := "()Ljava/lang/Throwable;" } : Jvm.MethodName)) ∈ lw_all := lw_g (lw_at lw_m4 212 rfl) rfl
theorem q1093 : (Jvm.Cond.lays "PondHouse$Failure" "java/lang/Throwable" "cause" "Ljava/lang/Throwable;") ∈ lw_all := lw_g (lw_at lw_m4 213 rfl) rfl
theorem q1095 : (Jvm.Cond.lays "PondHouse$Failure" "java/lang/Throwable" "stackTrace" "[Ljava/lang/StackTraceElement;") ∈ lw_all := lw_g (lw_at lw_m4 215 rfl) rfl
theorem q1097 : (Jvm.Cond.lays "PondHouse$Failure" "java/lang/Throwable" "suppressedExceptions" "Ljava/util/List;") ∈ lw_all := lw_g (lw_at lw_m4 217 rfl) rfl
theorem q1099 : (Jvm.Cond.lays "PondHouse$Failure" "java/lang/Throwable" "detailMessage" "Ljava/lang/String;") ∈ lw_all := lw_g (lw_at lw_m4 219 rfl) rfl
theorem q1101 : (Jvm.Cond.lays "PondHouse$Failure" "java/lang/Throwable" "backtrace" "Ljava/lang/Object;") ∈ lw_all := lw_g (lw_at lw_m4 221 rfl) rfl
theorem q1124 : (Jvm.Cond.instanceMethod ({ cls := "PondHouse$Failure", name := "<init>", desc := "()V" } : Jvm.MethodName)) ∈ lw_all := lw_g (lw_at lw_m5 4 rfl) rfl
theorem q1125 : (Jvm.Cond.code ({ cls := "PondHouse$Failure", name := "<init>", desc := "()V" } : Jvm.MethodName) prog_14_method_1_code (1 : Nat) (Option.none : Option Jvm.ClassFile.FieldType)) ∈ lw_all := lw_g (lw_at lw_m5 5 rfl) rfl
theorem q1126 : (Jvm.Cond.methodLink "PondHouse$Failure" (1 : Nat) ({ cls := "java/lang/Exception", name := "<init>", desc := "(Ljava/lang/String;Ljava/lang/Throwable;ZZ)V" } : Jvm.MethodName)) ∈ lw_all := lw_g (lw_at lw_m5 6 rfl) rfl
theorem q1139 : (Jvm.Cond.lays "PondHouse$Failure" "PondHouse$Failure" "code" "I") ∈ lw_all := lw_g (lw_at lw_m5 19 rfl) rfl
theorem q1140 : (Jvm.Cond.soleField "PondHouse$Failure" "code") ∈ lw_all := lw_g (lw_at lw_m5 20 rfl) rfl
theorem q1141 : (Jvm.Cond.lays "PondHouse$Failure" "PondHouse$Failure" "isSpent" "Z") ∈ lw_all := lw_g (lw_at lw_m5 21 rfl) rfl
theorem q1142 : (Jvm.Cond.soleField "PondHouse$Failure" "isSpent") ∈ lw_all := lw_g (lw_at lw_m5 22 rfl) rfl
theorem q1147 : (Jvm.Cond.lays "PondHouse$Failure" "java/lang/Throwable" "depth" "I") ∈ lw_all := lw_g (lw_at lw_m5 27 rfl) rfl
theorem q1150 : (Jvm.Cond.superclass "PondHouse$Failure" "java/lang/Exception") ∈ lw_all := lw_g (lw_at lw_m5 30 rfl) rfl
theorem q3099 : (Jvm.Cond.castable "PondHouse$Failure" "java/lang/Object") ∈ lw_tbl := lw_at lw_m13 59 rfl
theorem in_X2 : ∀ w ∈ wsX20, w ∈ lw_all := lw_in wsX20 [1093, 1095, 1097, 1099, 1101, 1147, 1139, 1141] (by decide +kernel) (by decide +kernel)

/-! PondHouse$Gives -/
set_option maxRecDepth 100000
def RX20 : String := "PondHouse$Gives"
def TX20 : u_T := fun k => match k with
  | 0 => ("PondHouse$Statement", "this$0", "LPondHouse;", true)
  | 1 => ("PondHouse$Gives", "what", "LPondHouse$Worth;", true)
  | 2 => ("PondHouse$Gives", "isFailure", "Z", true)
  | _ => ("PondHouse$Gives", "this$0", "LPondHouse;", true)
def tyX20 : Nat → FieldType := fun k => match k with
  | 0 => .object "PondHouse"
  | 1 => .object "PondHouse$Worth"
  | 2 => .boolean
  | _ => .object "PondHouse"
abbrev wsX200 : List Cond := u_ws RX20 TX20 4
-- two fields of one name: no nmX20
theorem tyX20_ok : ∀ k, k < 4 → parseFieldDescriptor (TX20 k).2.2.1 = some (tyX20 k) := by decide +kernel
abbrev cX20_does : ByteArray := prog_18_method_2_code
def yX20_does : MethodName := ⟨RX20, "does", "(LPondHouse$Frame;)Z"⟩
def dkwX20_does_1 : List UInt8 := [191, 43, 28, 181, 0, 33, 3, 172]
abbrev dktX20_does_1 : List UInt8 := dkwX20_does_1 ++ []
def dkwX20_does_0 : List UInt8 := [42, 180, 0, 13, 43, 182, 0, 21, 61, 42, 180, 0, 17, 153, 0, 12, 42, 180, 0, 1, 28, 182, 0, 27]
abbrev dktX20_does_0 : List UInt8 := dkwX20_does_0 ++ dktX20_does_1
theorem dksX20_does_0 : cX20_does.data.toList.drop 0 = dktX20_does_0 := by decide +kernel
theorem dksX20_does_1 : cX20_does.data.toList.drop 24 = dktX20_does_1 := dk_seg dksX20_does_0 24 rfl rfl
theorem dX20_does_0 : decode cX20_does 0 = .ok (.aload_n 0, 1) := dk_42 (dk_at dksX20_does_0 0 rfl rfl)
theorem dX20_does_1 : decode cX20_does 1 = .ok (.getfield 13, 3) := dk_180 0 13 (dk_at dksX20_does_0 1 rfl rfl)
theorem dX20_does_4 : decode cX20_does 4 = .ok (.aload_n 1, 1) := dk_43 (dk_at dksX20_does_0 4 rfl rfl)
theorem dX20_does_5 : decode cX20_does 5 = .ok (.invokevirtual 21, 3) := dk_182 0 21 (dk_at dksX20_does_0 5 rfl rfl)
theorem dX20_does_8 : decode cX20_does 8 = .ok (.istore_n 2, 1) := dk_61 (dk_at dksX20_does_0 8 rfl rfl)
theorem dX20_does_9 : decode cX20_does 9 = .ok (.aload_n 0, 1) := dk_42 (dk_at dksX20_does_0 9 rfl rfl)
theorem dX20_does_10 : decode cX20_does 10 = .ok (.getfield 17, 3) := dk_180 0 17 (dk_at dksX20_does_0 10 rfl rfl)
theorem dX20_does_13 : decode cX20_does 13 = .ok (.ifCond .eq 12, 3) := dk_153 0 12 (dk_at dksX20_does_0 13 rfl rfl)
theorem dX20_does_16 : decode cX20_does 16 = .ok (.aload_n 0, 1) := dk_42 (dk_at dksX20_does_0 16 rfl rfl)
theorem dX20_does_17 : decode cX20_does 17 = .ok (.getfield 1, 3) := dk_180 0 1 (dk_at dksX20_does_0 17 rfl rfl)
theorem dX20_does_20 : decode cX20_does 20 = .ok (.iload_n 2, 1) := dk_28 (dk_at dksX20_does_0 20 rfl rfl)
theorem dX20_does_21 : decode cX20_does 21 = .ok (.invokevirtual 27, 3) := dk_182 0 27 (dk_at dksX20_does_0 21 rfl rfl)
theorem dX20_does_24 : decode cX20_does 24 = .ok (.athrow, 1) := dk_191 (dk_at dksX20_does_1 0 rfl rfl)
theorem dX20_does_25 : decode cX20_does 25 = .ok (.aload_n 1, 1) := dk_43 (dk_at dksX20_does_1 1 rfl rfl)
theorem dX20_does_26 : decode cX20_does 26 = .ok (.iload_n 2, 1) := dk_28 (dk_at dksX20_does_1 2 rfl rfl)
theorem dX20_does_27 : decode cX20_does 27 = .ok (.putfield 33, 3) := dk_181 0 33 (dk_at dksX20_does_1 3 rfl rfl)
theorem dX20_does_30 : decode cX20_does 30 = .ok (.iconst 0, 1) := dk_3 (dk_at dksX20_does_1 6 rfl rfl)
theorem dX20_does_31 : decode cX20_does 31 = .ok (.ireturn, 1) := dk_172 (dk_at dksX20_does_1 7 rfl rfl)
abbrev cX20_init : ByteArray := prog_18_method_1_code
def yX20_init : MethodName := ⟨RX20, "<init>", "(LPondHouse;LPondHouse$Worth;Z)V"⟩
def dkwX20_init_0 : List UInt8 := [42, 43, 181, 0, 1, 42, 43, 183, 0, 7, 42, 44, 181, 0, 13, 42, 29, 181, 0, 17, 177]
abbrev dktX20_init_0 : List UInt8 := dkwX20_init_0 ++ []
theorem dksX20_init_0 : cX20_init.data.toList.drop 0 = dktX20_init_0 := by decide +kernel
theorem dX20_init_0 : decode cX20_init 0 = .ok (.aload_n 0, 1) := dk_42 (dk_at dksX20_init_0 0 rfl rfl)
theorem dX20_init_1 : decode cX20_init 1 = .ok (.aload_n 1, 1) := dk_43 (dk_at dksX20_init_0 1 rfl rfl)
theorem dX20_init_2 : decode cX20_init 2 = .ok (.putfield 1, 3) := dk_181 0 1 (dk_at dksX20_init_0 2 rfl rfl)
theorem dX20_init_5 : decode cX20_init 5 = .ok (.aload_n 0, 1) := dk_42 (dk_at dksX20_init_0 5 rfl rfl)
theorem dX20_init_6 : decode cX20_init 6 = .ok (.aload_n 1, 1) := dk_43 (dk_at dksX20_init_0 6 rfl rfl)
theorem dX20_init_7 : decode cX20_init 7 = .ok (.invokespecial 7, 3) := dk_183 0 7 (dk_at dksX20_init_0 7 rfl rfl)
theorem dX20_init_10 : decode cX20_init 10 = .ok (.aload_n 0, 1) := dk_42 (dk_at dksX20_init_0 10 rfl rfl)
theorem dX20_init_11 : decode cX20_init 11 = .ok (.aload_n 2, 1) := dk_44 (dk_at dksX20_init_0 11 rfl rfl)
theorem dX20_init_12 : decode cX20_init 12 = .ok (.putfield 13, 3) := dk_181 0 13 (dk_at dksX20_init_0 12 rfl rfl)
theorem dX20_init_15 : decode cX20_init 15 = .ok (.aload_n 0, 1) := dk_42 (dk_at dksX20_init_0 15 rfl rfl)
theorem dX20_init_16 : decode cX20_init 16 = .ok (.iload_n 3, 1) := dk_29 (dk_at dksX20_init_0 16 rfl rfl)
theorem dX20_init_17 : decode cX20_init 17 = .ok (.putfield 17, 3) := dk_181 0 17 (dk_at dksX20_init_0 17 rfl rfl)
theorem dX20_init_20 : decode cX20_init 20 = .ok (.return_, 1) := dk_177 (dk_at dksX20_init_0 20 rfl rfl)
theorem q198 : (Jvm.Cond.initialized "PondHouse$Gives") ∈ lw_all := lw_g (lw_at lw_m1 38 rfl) rfl
theorem q321 : (Jvm.Cond.fieldLink "PondHouse$Gives" (33 : Nat) "PondHouse$Frame" "gave" "I") ∈ lw_all := lw_g (lw_at lw_m1 161 rfl) rfl
theorem q472 : (Jvm.Cond.selects "PondHouse$Gives" ({ cls := "PondHouse$Statement", name := "does", desc := "(LPondHouse$Frame;)Z" } : Jvm.MethodName) ({ cls := "PondHouse$Gives", name := "does", desc := "(LPondHouse$Frame;)Z" } : Jvm.MethodName)) ∈ lw_all := lw_g (lw_at lw_m2 72 rfl) rfl
theorem q473 : (Jvm.Cond.instanceMethod ({ cls := "PondHouse$Gives", name := "does", desc := "(LPondHouse$Frame;)Z" } : Jvm.MethodName)) ∈ lw_all := lw_g (lw_at lw_m2 73 rfl) rfl
theorem q474 : (Jvm.Cond.code ({ cls := "PondHouse$Gives", name := "does", desc := "(LPondHouse$Frame;)Z" } : Jvm.MethodName) prog_18_method_2_code (3 : Nat) (Option.some Jvm.ClassFile.FieldType.boolean)) ∈ lw_all := lw_g (lw_at lw_m2 74 rfl) rfl
theorem q475 : (Jvm.Cond.methodLink "PondHouse$Gives" (21 : Nat) ({ cls := "PondHouse$Worth", name := "of", desc := "(LPondHouse$Frame;)I" } : Jvm.MethodName)) ∈ lw_all := lw_g (lw_at lw_m2 75 rfl) rfl
theorem q476 : (Jvm.Cond.methodLinkNest "PondHouse$Gives" (27 : Nat) ({ cls := "PondHouse", name := "fails", desc := "(I)LPondHouse$Failure;" } : Jvm.MethodName) "PondHouse") ∈ lw_tbl := lw_at lw_m2 76 rfl
theorem q676 : (Jvm.Cond.selects "PondHouse$Gives" ({ cls := "java/lang/Object", name := "getClass", desc := "()Ljava/lang/Class;" } : Jvm.MethodName) ({ cls := "java/lang/Object", name := "getClass", desc := "()Ljava/lang/Class;" } : Jvm.MethodName)) ∈ lw_all := lw_g (lw_at lw_m3 36 rfl) rfl
theorem q1971 : (Jvm.Cond.instantiable "PondHouse$Gives" (4 : Nat)) ∈ lw_all := lw_g (lw_at lw_m8 131 rfl) rfl
theorem q1973 : (Jvm.Cond.instanceMethod ({ cls := "PondHouse$Gives", name := "<init>", desc := "(LPondHouse;LPondHouse$Worth;Z)V" } : Jvm.MethodName)) ∈ lw_all := lw_g (lw_at lw_m8 133 rfl) rfl
theorem q1974 : (Jvm.Cond.code ({ cls := "PondHouse$Gives", name := "<init>", desc := "(LPondHouse;LPondHouse$Worth;Z)V" } : Jvm.MethodName) prog_18_method_1_code (4 : Nat) (Option.none : Option Jvm.ClassFile.FieldType)) ∈ lw_all := lw_g (lw_at lw_m8 134 rfl) rfl
theorem q1975 : (Jvm.Cond.methodLinkNest "PondHouse$Gives" (7 : Nat) ({ cls := "PondHouse$Statement", name := "<init>", desc := "(LPondHouse;)V" } : Jvm.MethodName) "PondHouse") ∈ lw_tbl := lw_at lw_m8 135 rfl
theorem q1976 : (Jvm.Cond.fieldLink "PondHouse$Gives" (13 : Nat) "PondHouse$Gives" "what" "LPondHouse$Worth;") ∈ lw_all := lw_g (lw_at lw_m8 136 rfl) rfl
theorem q1977 : (Jvm.Cond.fieldLink "PondHouse$Gives" (17 : Nat) "PondHouse$Gives" "isFailure" "Z") ∈ lw_all := lw_g (lw_at lw_m8 137 rfl) rfl
theorem q1978 : (Jvm.Cond.fieldLink "PondHouse$Gives" (1 : Nat) "PondHouse$Gives" "this$0" "LPondHouse;") ∈ lw_all := lw_g (lw_at lw_m8 138 rfl) rfl
theorem q1979 : (Jvm.Cond.laysFinal "PondHouse$Gives" "PondHouse$Gives" "what" "LPondHouse$Worth;") ∈ lw_all := lw_g (lw_at lw_m8 139 rfl) rfl
theorem q1980 : (Jvm.Cond.soleField "PondHouse$Gives" "what") ∈ lw_all := lw_g (lw_at lw_m8 140 rfl) rfl
theorem q1981 : (Jvm.Cond.laysFinal "PondHouse$Gives" "PondHouse$Gives" "isFailure" "Z") ∈ lw_all := lw_g (lw_at lw_m8 141 rfl) rfl
theorem q1982 : (Jvm.Cond.soleField "PondHouse$Gives" "isFailure") ∈ lw_all := lw_g (lw_at lw_m8 142 rfl) rfl
theorem q1983 : (Jvm.Cond.laysFinal "PondHouse$Gives" "PondHouse$Gives" "this$0" "LPondHouse;") ∈ lw_all := lw_g (lw_at lw_m8 143 rfl) rfl
theorem q1984 : (Jvm.Cond.soleField "PondHouse$Gives" "this$0") ∈ lw_all := lw_g (lw_at lw_m8 144 rfl) rfl
theorem q1985 : (Jvm.Cond.laysFinal "PondHouse$Gives" "PondHouse$Statement" "this$0" "LPondHouse;") ∈ lw_all := lw_g (lw_at lw_m8 145 rfl) rfl
theorem q1986 : (Jvm.Cond.superclass "PondHouse$Gives" "PondHouse$Statement") ∈ lw_all := lw_g (lw_at lw_m8 146 rfl) rfl
theorem q3116 : (Jvm.Cond.castable "PondHouse$Gives" "java/lang/Object") ∈ lw_tbl := lw_at lw_m13 76 rfl
theorem q3128 : (Jvm.Cond.castable "PondHouse$Gives" "PondHouse$Statement") ∈ lw_tbl := lw_at lw_m13 88 rfl
theorem in_X20 : ∀ w ∈ wsX200, w ∈ lw_all := lw_in wsX200 [1985, 1979, 1981, 1983] (by decide +kernel) (by decide +kernel)

/-! PondHouse$Calls -/
set_option maxRecDepth 100000
def RX21 : String := "PondHouse$Calls"
def TX21 : u_T := fun k => match k with
  | 0 => ("PondHouse$Statement", "this$0", "LPondHouse;", true)
  | 1 => ("PondHouse$Calls", "link", "I", true)
  | 2 => ("PondHouse$Calls", "act", "I", true)
  | _ => ("PondHouse$Calls", "this$0", "LPondHouse;", true)
def tyX21 : Nat → FieldType := fun k => match k with
  | 0 => .object "PondHouse"
  | 1 => .int
  | 2 => .int
  | _ => .object "PondHouse"
abbrev wsX210 : List Cond := u_ws RX21 TX21 4
-- two fields of one name: no nmX21
theorem tyX21_ok : ∀ k, k < 4 → parseFieldDescriptor (TX21 k).2.2.1 = some (tyX21 k) := by decide +kernel
abbrev cX21_does : ByteArray := prog_4_method_2_code
def yX21_does : MethodName := ⟨RX21, "does", "(LPondHouse$Frame;)Z"⟩
def dkwX21_does_7 : List UInt8 := [4, 172]
abbrev dktX21_does_7 : List UInt8 := dkwX21_does_7 ++ []
def dkwX21_does_6 : List UInt8 := [180, 0, 3, 17, 3, 236, 182, 0, 69, 191, 43, 42, 180, 0, 3, 44, 45, 3, 182, 0, 52, 181, 0, 56]
abbrev dktX21_does_6 : List UInt8 := dkwX21_does_6 ++ dktX21_does_7
def dkwX21_does_5 : List UInt8 := [17, 3, 235, 182, 0, 69, 191, 44, 180, 0, 73, 42, 180, 0, 19, 182, 0, 42, 78, 45, 199, 0, 14, 42]
abbrev dktX21_does_5 : List UInt8 := dkwX21_does_5 ++ dktX21_does_6
def dkwX21_does_4 : List UInt8 := [180, 0, 3, 44, 42, 180, 0, 15, 182, 0, 59, 182, 0, 65, 77, 44, 199, 0, 14, 42, 180, 0, 3]
abbrev dktX21_does_4 : List UInt8 := dkwX21_does_4 ++ dktX21_does_5
def dkwX21_does_3 : List UInt8 := [182, 0, 52, 181, 0, 56, 4, 172, 43, 180, 0, 45, 77, 42, 180, 0, 15, 2, 159, 0, 34, 42]
abbrev dktX21_does_3 : List UInt8 := dkwX21_does_3 ++ dktX21_does_4
def dkwX21_does_2 : List UInt8 := [43, 44, 199, 0, 7, 3, 167, 0, 19, 42, 180, 0, 3, 43, 180, 0, 45, 44, 43, 180, 0, 49]
abbrev dktX21_does_2 : List UInt8 := dkwX21_does_2 ++ dktX21_does_3
def dkwX21_does_1 : List UInt8 := [167, 0, 23, 43, 180, 0, 22, 180, 0, 28, 180, 0, 34, 43, 180, 0, 22, 180, 0, 39, 182, 0, 42, 77]
abbrev dktX21_does_1 : List UInt8 := dkwX21_does_1 ++ dktX21_does_2
def dkwX21_does_0 : List UInt8 := [42, 180, 0, 19, 2, 160, 0, 71, 43, 180, 0, 22, 180, 0, 28, 180, 0, 34, 199, 0, 7, 1]
abbrev dktX21_does_0 : List UInt8 := dkwX21_does_0 ++ dktX21_does_1
theorem dksX21_does_0 : cX21_does.data.toList.drop 0 = dktX21_does_0 := by decide +kernel
theorem dksX21_does_1 : cX21_does.data.toList.drop 22 = dktX21_does_1 := dk_seg dksX21_does_0 22 rfl rfl
theorem dksX21_does_2 : cX21_does.data.toList.drop 46 = dktX21_does_2 := dk_seg dksX21_does_1 24 rfl rfl
theorem dksX21_does_3 : cX21_does.data.toList.drop 68 = dktX21_does_3 := dk_seg dksX21_does_2 22 rfl rfl
theorem dksX21_does_4 : cX21_does.data.toList.drop 90 = dktX21_does_4 := dk_seg dksX21_does_3 22 rfl rfl
theorem dksX21_does_5 : cX21_does.data.toList.drop 113 = dktX21_does_5 := dk_seg dksX21_does_4 23 rfl rfl
theorem dksX21_does_6 : cX21_does.data.toList.drop 137 = dktX21_does_6 := dk_seg dksX21_does_5 24 rfl rfl
theorem dksX21_does_7 : cX21_does.data.toList.drop 161 = dktX21_does_7 := dk_seg dksX21_does_6 24 rfl rfl
theorem dX21_does_0 : decode cX21_does 0 = .ok (.aload_n 0, 1) := dk_42 (dk_at dksX21_does_0 0 rfl rfl)
theorem dX21_does_1 : decode cX21_does 1 = .ok (.getfield 19, 3) := dk_180 0 19 (dk_at dksX21_does_0 1 rfl rfl)
theorem dX21_does_4 : decode cX21_does 4 = .ok (.iconst (-1), 1) := dk_2 (dk_at dksX21_does_0 4 rfl rfl)
theorem dX21_does_5 : decode cX21_does 5 = .ok (.if_icmp .ne 71, 3) := dk_160 0 71 (dk_at dksX21_does_0 5 rfl rfl)
theorem dX21_does_8 : decode cX21_does 8 = .ok (.aload_n 1, 1) := dk_43 (dk_at dksX21_does_0 8 rfl rfl)
theorem dX21_does_9 : decode cX21_does 9 = .ok (.getfield 22, 3) := dk_180 0 22 (dk_at dksX21_does_0 9 rfl rfl)
theorem dX21_does_12 : decode cX21_does 12 = .ok (.getfield 28, 3) := dk_180 0 28 (dk_at dksX21_does_0 12 rfl rfl)
theorem dX21_does_15 : decode cX21_does 15 = .ok (.getfield 34, 3) := dk_180 0 34 (dk_at dksX21_does_0 15 rfl rfl)
theorem dX21_does_18 : decode cX21_does 18 = .ok (.ifnonnull 7, 3) := dk_199 0 7 (dk_at dksX21_does_0 18 rfl rfl)
theorem dX21_does_21 : decode cX21_does 21 = .ok (.aconst_null, 1) := dk_1 (dk_at dksX21_does_0 21 rfl rfl)
theorem dX21_does_22 : decode cX21_does 22 = .ok (.goto 23, 3) := dk_167 0 23 (dk_at dksX21_does_1 0 rfl rfl)
theorem dX21_does_25 : decode cX21_does 25 = .ok (.aload_n 1, 1) := dk_43 (dk_at dksX21_does_1 3 rfl rfl)
theorem dX21_does_26 : decode cX21_does 26 = .ok (.getfield 22, 3) := dk_180 0 22 (dk_at dksX21_does_1 4 rfl rfl)
theorem dX21_does_29 : decode cX21_does 29 = .ok (.getfield 28, 3) := dk_180 0 28 (dk_at dksX21_does_1 7 rfl rfl)
theorem dX21_does_32 : decode cX21_does 32 = .ok (.getfield 34, 3) := dk_180 0 34 (dk_at dksX21_does_1 10 rfl rfl)
theorem dX21_does_35 : decode cX21_does 35 = .ok (.aload_n 1, 1) := dk_43 (dk_at dksX21_does_1 13 rfl rfl)
theorem dX21_does_36 : decode cX21_does 36 = .ok (.getfield 22, 3) := dk_180 0 22 (dk_at dksX21_does_1 14 rfl rfl)
theorem dX21_does_39 : decode cX21_does 39 = .ok (.getfield 39, 3) := dk_180 0 39 (dk_at dksX21_does_1 17 rfl rfl)
theorem dX21_does_42 : decode cX21_does 42 = .ok (.invokevirtual 42, 3) := dk_182 0 42 (dk_at dksX21_does_1 20 rfl rfl)
theorem dX21_does_45 : decode cX21_does 45 = .ok (.astore_n 2, 1) := dk_77 (dk_at dksX21_does_1 23 rfl rfl)
theorem dX21_does_46 : decode cX21_does 46 = .ok (.aload_n 1, 1) := dk_43 (dk_at dksX21_does_2 0 rfl rfl)
theorem dX21_does_47 : decode cX21_does 47 = .ok (.aload_n 2, 1) := dk_44 (dk_at dksX21_does_2 1 rfl rfl)
theorem dX21_does_48 : decode cX21_does 48 = .ok (.ifnonnull 7, 3) := dk_199 0 7 (dk_at dksX21_does_2 2 rfl rfl)
theorem dX21_does_51 : decode cX21_does 51 = .ok (.iconst 0, 1) := dk_3 (dk_at dksX21_does_2 5 rfl rfl)
theorem dX21_does_52 : decode cX21_does 52 = .ok (.goto 19, 3) := dk_167 0 19 (dk_at dksX21_does_2 6 rfl rfl)
theorem dX21_does_55 : decode cX21_does 55 = .ok (.aload_n 0, 1) := dk_42 (dk_at dksX21_does_2 9 rfl rfl)
theorem dX21_does_56 : decode cX21_does 56 = .ok (.getfield 3, 3) := dk_180 0 3 (dk_at dksX21_does_2 10 rfl rfl)
theorem dX21_does_59 : decode cX21_does 59 = .ok (.aload_n 1, 1) := dk_43 (dk_at dksX21_does_2 13 rfl rfl)
theorem dX21_does_60 : decode cX21_does 60 = .ok (.getfield 45, 3) := dk_180 0 45 (dk_at dksX21_does_2 14 rfl rfl)
theorem dX21_does_63 : decode cX21_does 63 = .ok (.aload_n 2, 1) := dk_44 (dk_at dksX21_does_2 17 rfl rfl)
theorem dX21_does_64 : decode cX21_does 64 = .ok (.aload_n 1, 1) := dk_43 (dk_at dksX21_does_2 18 rfl rfl)
theorem dX21_does_65 : decode cX21_does 65 = .ok (.getfield 49, 3) := dk_180 0 49 (dk_at dksX21_does_2 19 rfl rfl)
theorem dX21_does_68 : decode cX21_does 68 = .ok (.invokevirtual 52, 3) := dk_182 0 52 (dk_at dksX21_does_3 0 rfl rfl)
theorem dX21_does_71 : decode cX21_does 71 = .ok (.putfield 56, 3) := dk_181 0 56 (dk_at dksX21_does_3 3 rfl rfl)
theorem dX21_does_74 : decode cX21_does 74 = .ok (.iconst 1, 1) := dk_4 (dk_at dksX21_does_3 6 rfl rfl)
theorem dX21_does_75 : decode cX21_does 75 = .ok (.ireturn, 1) := dk_172 (dk_at dksX21_does_3 7 rfl rfl)
theorem dX21_does_76 : decode cX21_does 76 = .ok (.aload_n 1, 1) := dk_43 (dk_at dksX21_does_3 8 rfl rfl)
theorem dX21_does_77 : decode cX21_does 77 = .ok (.getfield 45, 3) := dk_180 0 45 (dk_at dksX21_does_3 9 rfl rfl)
theorem dX21_does_80 : decode cX21_does 80 = .ok (.astore_n 2, 1) := dk_77 (dk_at dksX21_does_3 12 rfl rfl)
theorem dX21_does_81 : decode cX21_does 81 = .ok (.aload_n 0, 1) := dk_42 (dk_at dksX21_does_3 13 rfl rfl)
theorem dX21_does_82 : decode cX21_does 82 = .ok (.getfield 15, 3) := dk_180 0 15 (dk_at dksX21_does_3 14 rfl rfl)
theorem dX21_does_85 : decode cX21_does 85 = .ok (.iconst (-1), 1) := dk_2 (dk_at dksX21_does_3 17 rfl rfl)
theorem dX21_does_86 : decode cX21_does 86 = .ok (.if_icmp .eq 34, 3) := dk_159 0 34 (dk_at dksX21_does_3 18 rfl rfl)
theorem dX21_does_89 : decode cX21_does 89 = .ok (.aload_n 0, 1) := dk_42 (dk_at dksX21_does_3 21 rfl rfl)
theorem dX21_does_90 : decode cX21_does 90 = .ok (.getfield 3, 3) := dk_180 0 3 (dk_at dksX21_does_4 0 rfl rfl)
theorem dX21_does_93 : decode cX21_does 93 = .ok (.aload_n 2, 1) := dk_44 (dk_at dksX21_does_4 3 rfl rfl)
theorem dX21_does_94 : decode cX21_does 94 = .ok (.aload_n 0, 1) := dk_42 (dk_at dksX21_does_4 4 rfl rfl)
theorem dX21_does_95 : decode cX21_does 95 = .ok (.getfield 15, 3) := dk_180 0 15 (dk_at dksX21_does_4 5 rfl rfl)
theorem dX21_does_98 : decode cX21_does 98 = .ok (.invokevirtual 59, 3) := dk_182 0 59 (dk_at dksX21_does_4 8 rfl rfl)
theorem dX21_does_101 : decode cX21_does 101 = .ok (.invokevirtual 65, 3) := dk_182 0 65 (dk_at dksX21_does_4 11 rfl rfl)
theorem dX21_does_104 : decode cX21_does 104 = .ok (.astore_n 2, 1) := dk_77 (dk_at dksX21_does_4 14 rfl rfl)
theorem dX21_does_105 : decode cX21_does 105 = .ok (.aload_n 2, 1) := dk_44 (dk_at dksX21_does_4 15 rfl rfl)
theorem dX21_does_106 : decode cX21_does 106 = .ok (.ifnonnull 14, 3) := dk_199 0 14 (dk_at dksX21_does_4 16 rfl rfl)
theorem dX21_does_109 : decode cX21_does 109 = .ok (.aload_n 0, 1) := dk_42 (dk_at dksX21_does_4 19 rfl rfl)
theorem dX21_does_110 : decode cX21_does 110 = .ok (.getfield 3, 3) := dk_180 0 3 (dk_at dksX21_does_4 20 rfl rfl)
theorem dX21_does_113 : decode cX21_does 113 = .ok (.sipush 1003, 3) := dk_17 3 235 (dk_at dksX21_does_5 0 rfl rfl)
theorem dX21_does_116 : decode cX21_does 116 = .ok (.invokevirtual 69, 3) := dk_182 0 69 (dk_at dksX21_does_5 3 rfl rfl)
theorem dX21_does_119 : decode cX21_does 119 = .ok (.athrow, 1) := dk_191 (dk_at dksX21_does_5 6 rfl rfl)
theorem dX21_does_120 : decode cX21_does 120 = .ok (.aload_n 2, 1) := dk_44 (dk_at dksX21_does_5 7 rfl rfl)
theorem dX21_does_121 : decode cX21_does 121 = .ok (.getfield 73, 3) := dk_180 0 73 (dk_at dksX21_does_5 8 rfl rfl)
theorem dX21_does_124 : decode cX21_does 124 = .ok (.aload_n 0, 1) := dk_42 (dk_at dksX21_does_5 11 rfl rfl)
theorem dX21_does_125 : decode cX21_does 125 = .ok (.getfield 19, 3) := dk_180 0 19 (dk_at dksX21_does_5 12 rfl rfl)
theorem dX21_does_128 : decode cX21_does 128 = .ok (.invokevirtual 42, 3) := dk_182 0 42 (dk_at dksX21_does_5 15 rfl rfl)
theorem dX21_does_131 : decode cX21_does 131 = .ok (.astore_n 3, 1) := dk_78 (dk_at dksX21_does_5 18 rfl rfl)
theorem dX21_does_132 : decode cX21_does 132 = .ok (.aload_n 3, 1) := dk_45 (dk_at dksX21_does_5 19 rfl rfl)
theorem dX21_does_133 : decode cX21_does 133 = .ok (.ifnonnull 14, 3) := dk_199 0 14 (dk_at dksX21_does_5 20 rfl rfl)
theorem dX21_does_136 : decode cX21_does 136 = .ok (.aload_n 0, 1) := dk_42 (dk_at dksX21_does_5 23 rfl rfl)
theorem dX21_does_137 : decode cX21_does 137 = .ok (.getfield 3, 3) := dk_180 0 3 (dk_at dksX21_does_6 0 rfl rfl)
theorem dX21_does_140 : decode cX21_does 140 = .ok (.sipush 1004, 3) := dk_17 3 236 (dk_at dksX21_does_6 3 rfl rfl)
theorem dX21_does_143 : decode cX21_does 143 = .ok (.invokevirtual 69, 3) := dk_182 0 69 (dk_at dksX21_does_6 6 rfl rfl)
theorem dX21_does_146 : decode cX21_does 146 = .ok (.athrow, 1) := dk_191 (dk_at dksX21_does_6 9 rfl rfl)
theorem dX21_does_147 : decode cX21_does 147 = .ok (.aload_n 1, 1) := dk_43 (dk_at dksX21_does_6 10 rfl rfl)
theorem dX21_does_148 : decode cX21_does 148 = .ok (.aload_n 0, 1) := dk_42 (dk_at dksX21_does_6 11 rfl rfl)
theorem dX21_does_149 : decode cX21_does 149 = .ok (.getfield 3, 3) := dk_180 0 3 (dk_at dksX21_does_6 12 rfl rfl)
theorem dX21_does_152 : decode cX21_does 152 = .ok (.aload_n 2, 1) := dk_44 (dk_at dksX21_does_6 15 rfl rfl)
theorem dX21_does_153 : decode cX21_does 153 = .ok (.aload_n 3, 1) := dk_45 (dk_at dksX21_does_6 16 rfl rfl)
theorem dX21_does_154 : decode cX21_does 154 = .ok (.iconst 0, 1) := dk_3 (dk_at dksX21_does_6 17 rfl rfl)
theorem dX21_does_155 : decode cX21_does 155 = .ok (.invokevirtual 52, 3) := dk_182 0 52 (dk_at dksX21_does_6 18 rfl rfl)
theorem dX21_does_158 : decode cX21_does 158 = .ok (.putfield 56, 3) := dk_181 0 56 (dk_at dksX21_does_6 21 rfl rfl)
theorem dX21_does_161 : decode cX21_does 161 = .ok (.iconst 1, 1) := dk_4 (dk_at dksX21_does_7 0 rfl rfl)
theorem dX21_does_162 : decode cX21_does 162 = .ok (.ireturn, 1) := dk_172 (dk_at dksX21_does_7 1 rfl rfl)
abbrev cX21_init : ByteArray := prog_4_method_1_code
def yX21_init : MethodName := ⟨RX21, "<init>", "(LPondHouse;II)V"⟩
def dkwX21_init_0 : List UInt8 := [42, 43, 181, 0, 3, 42, 43, 183, 0, 9, 42, 28, 181, 0, 15, 42, 29, 181, 0, 19, 177]
abbrev dktX21_init_0 : List UInt8 := dkwX21_init_0 ++ []
theorem dksX21_init_0 : cX21_init.data.toList.drop 0 = dktX21_init_0 := by decide +kernel
theorem dX21_init_0 : decode cX21_init 0 = .ok (.aload_n 0, 1) := dk_42 (dk_at dksX21_init_0 0 rfl rfl)
theorem dX21_init_1 : decode cX21_init 1 = .ok (.aload_n 1, 1) := dk_43 (dk_at dksX21_init_0 1 rfl rfl)
theorem dX21_init_2 : decode cX21_init 2 = .ok (.putfield 3, 3) := dk_181 0 3 (dk_at dksX21_init_0 2 rfl rfl)
theorem dX21_init_5 : decode cX21_init 5 = .ok (.aload_n 0, 1) := dk_42 (dk_at dksX21_init_0 5 rfl rfl)
theorem dX21_init_6 : decode cX21_init 6 = .ok (.aload_n 1, 1) := dk_43 (dk_at dksX21_init_0 6 rfl rfl)
theorem dX21_init_7 : decode cX21_init 7 = .ok (.invokespecial 9, 3) := dk_183 0 9 (dk_at dksX21_init_0 7 rfl rfl)
theorem dX21_init_10 : decode cX21_init 10 = .ok (.aload_n 0, 1) := dk_42 (dk_at dksX21_init_0 10 rfl rfl)
theorem dX21_init_11 : decode cX21_init 11 = .ok (.iload_n 2, 1) := dk_28 (dk_at dksX21_init_0 11 rfl rfl)
theorem dX21_init_12 : decode cX21_init 12 = .ok (.putfield 15, 3) := dk_181 0 15 (dk_at dksX21_init_0 12 rfl rfl)
theorem dX21_init_15 : decode cX21_init 15 = .ok (.aload_n 0, 1) := dk_42 (dk_at dksX21_init_0 15 rfl rfl)
theorem dX21_init_16 : decode cX21_init 16 = .ok (.iload_n 3, 1) := dk_29 (dk_at dksX21_init_0 16 rfl rfl)
theorem dX21_init_17 : decode cX21_init 17 = .ok (.putfield 19, 3) := dk_181 0 19 (dk_at dksX21_init_0 17 rfl rfl)
theorem dX21_init_20 : decode cX21_init 20 = .ok (.return_, 1) := dk_177 (dk_at dksX21_init_0 20 rfl rfl)
theorem q199 : (Jvm.Cond.initialized "PondHouse$Calls") ∈ lw_all := lw_g (lw_at lw_m1 39 rfl) rfl
theorem q309 : (Jvm.Cond.fieldLink "PondHouse$Calls" (45 : Nat) "PondHouse$Frame" "creature" "LPondHouse$Creature;") ∈ lw_all := lw_g (lw_at lw_m1 149 rfl) rfl
theorem q312 : (Jvm.Cond.fieldLink "PondHouse$Calls" (22 : Nat) "PondHouse$Frame" "body" "LPondHouse$Body;") ∈ lw_all := lw_g (lw_at lw_m1 152 rfl) rfl
theorem q316 : (Jvm.Cond.fieldLink "PondHouse$Calls" (49 : Nat) "PondHouse$Frame" "v" "I") ∈ lw_all := lw_g (lw_at lw_m1 156 rfl) rfl
theorem q319 : (Jvm.Cond.fieldLink "PondHouse$Calls" (56 : Nat) "PondHouse$Frame" "last" "I") ∈ lw_all := lw_g (lw_at lw_m1 159 rfl) rfl
theorem q417 : (Jvm.Cond.selects "PondHouse$Calls" ({ cls := "PondHouse$Statement", name := "does", desc := "(LPondHouse$Frame;)Z" } : Jvm.MethodName) ({ cls := "PondHouse$Calls", name := "does", desc := "(LPondHouse$Frame;)Z" } : Jvm.MethodName)) ∈ lw_all := lw_g (lw_at lw_m2 17 rfl) rfl
theorem q418 : (Jvm.Cond.instanceMethod ({ cls := "PondHouse$Calls", name := "does", desc := "(LPondHouse$Frame;)Z" } : Jvm.MethodName)) ∈ lw_all := lw_g (lw_at lw_m2 18 rfl) rfl
theorem q419 : (Jvm.Cond.code ({ cls := "PondHouse$Calls", name := "does", desc := "(LPondHouse$Frame;)Z" } : Jvm.MethodName) prog_4_method_2_code (4 : Nat) (Option.some Jvm.ClassFile.FieldType.boolean)) ∈ lw_all := lw_g (lw_at lw_m2 19 rfl) rfl
theorem q420 : (Jvm.Cond.methodLink "PondHouse$Calls" (42 : Nat) ({ cls := "PondHouse$Kind", name := "body", desc := "(I)LPondHouse$Body;" } : Jvm.MethodName)) ∈ lw_all := lw_g (lw_at lw_m2 20 rfl) rfl
theorem q421 : (Jvm.Cond.methodLinkNest "PondHouse$Calls" (52 : Nat) ({ cls := "PondHouse", name := "called", desc := "(LPondHouse$Creature;LPondHouse$Body;I)I" } : Jvm.MethodName) "PondHouse") ∈ lw_tbl := lw_at lw_m2 21 rfl
theorem q429 : (Jvm.Cond.methodLink "PondHouse$Calls" (59 : Nat) ({ cls := "PondHouse$Creature", name := "get", desc := "(I)I" } : Jvm.MethodName)) ∈ lw_all := lw_g (lw_at lw_m2 29 rfl) rfl
theorem q439 : (Jvm.Cond.methodLinkNest "PondHouse$Calls" (65 : Nat) ({ cls := "PondHouse", name := "living", desc := "(I)LPondHouse$Creature;" } : Jvm.MethodName) "PondHouse") ∈ lw_tbl := lw_at lw_m2 39 rfl
theorem q440 : (Jvm.Cond.methodLinkNest "PondHouse$Calls" (69 : Nat) ({ cls := "PondHouse", name := "fails", desc := "(I)LPondHouse$Failure;" } : Jvm.MethodName) "PondHouse") ∈ lw_tbl := lw_at lw_m2 40 rfl
theorem q663 : (Jvm.Cond.selects "PondHouse$Calls" ({ cls := "java/lang/Object", name := "getClass", desc := "()Ljava/lang/Class;" } : Jvm.MethodName) ({ cls := "java/lang/Object", name := "getClass", desc := "()Ljava/lang/Class;" } : Jvm.MethodName)) ∈ lw_all := lw_g (lw_at lw_m3 23 rfl) rfl
theorem q888 : (Jvm.Cond.fieldLink "PondHouse$Calls" (28 : Nat) "PondHouse$Body" "kind" "LPondHouse$Kind;") ∈ lw_all := lw_g (lw_at lw_m4 8 rfl) rfl
theorem q892 : (Jvm.Cond.fieldLink "PondHouse$Calls" (39 : Nat) "PondHouse$Body" "name" "I") ∈ lw_all := lw_g (lw_at lw_m4 12 rfl) rfl
theorem q912 : (Jvm.Cond.fieldLink "PondHouse$Calls" (34 : Nat) "PondHouse$Kind" "above" "LPondHouse$Kind;") ∈ lw_all := lw_g (lw_at lw_m4 32 rfl) rfl
theorem q1988 : (Jvm.Cond.instantiable "PondHouse$Calls" (4 : Nat)) ∈ lw_all := lw_g (lw_at lw_m8 148 rfl) rfl
theorem q1990 : (Jvm.Cond.instanceMethod ({ cls := "PondHouse$Calls", name := "<init>", desc := "(LPondHouse;II)V" } : Jvm.MethodName)) ∈ lw_all := lw_g (lw_at lw_m8 150 rfl) rfl
theorem q1991 : (Jvm.Cond.code ({ cls := "PondHouse$Calls", name := "<init>", desc := "(LPondHouse;II)V" } : Jvm.MethodName) prog_4_method_1_code (4 : Nat) (Option.none : Option Jvm.ClassFile.FieldType)) ∈ lw_all := lw_g (lw_at lw_m8 151 rfl) rfl
theorem q1992 : (Jvm.Cond.methodLinkNest "PondHouse$Calls" (9 : Nat) ({ cls := "PondHouse$Statement", name := "<init>", desc := "(LPondHouse;)V" } : Jvm.MethodName) "PondHouse") ∈ lw_tbl := lw_at lw_m8 152 rfl
theorem q1993 : (Jvm.Cond.fieldLink "PondHouse$Calls" (15 : Nat) "PondHouse$Calls" "link" "I") ∈ lw_all := lw_g (lw_at lw_m8 153 rfl) rfl
theorem q1994 : (Jvm.Cond.fieldLink "PondHouse$Calls" (19 : Nat) "PondHouse$Calls" "act" "I") ∈ lw_all := lw_g (lw_at lw_m8 154 rfl) rfl
theorem q1995 : (Jvm.Cond.fieldLink "PondHouse$Calls" (3 : Nat) "PondHouse$Calls" "this$0" "LPondHouse;") ∈ lw_all := lw_g (lw_at lw_m8 155 rfl) rfl
theorem q1996 : (Jvm.Cond.laysFinal "PondHouse$Calls" "PondHouse$Calls" "link" "I") ∈ lw_all := lw_g (lw_at lw_m8 156 rfl) rfl
theorem q1997 : (Jvm.Cond.soleField "PondHouse$Calls" "link") ∈ lw_all := lw_g (lw_at lw_m8 157 rfl) rfl
theorem q1998 : (Jvm.Cond.laysFinal "PondHouse$Calls" "PondHouse$Calls" "act" "I") ∈ lw_all := lw_g (lw_at lw_m8 158 rfl) rfl
theorem q1999 : (Jvm.Cond.soleField "PondHouse$Calls" "act") ∈ lw_all := lw_g (lw_at lw_m8 159 rfl) rfl
theorem q2000 : (Jvm.Cond.laysFinal "PondHouse$Calls" "PondHouse$Calls" "this$0" "LPondHouse;") ∈ lw_all := lw_g (lw_at lw_m8 160 rfl) rfl
theorem q2001 : (Jvm.Cond.soleField "PondHouse$Calls" "this$0") ∈ lw_all := lw_g (lw_at lw_m8 161 rfl) rfl
theorem q2002 : (Jvm.Cond.laysFinal "PondHouse$Calls" "PondHouse$Statement" "this$0" "LPondHouse;") ∈ lw_all := lw_g (lw_at lw_m8 162 rfl) rfl
theorem q2003 : (Jvm.Cond.superclass "PondHouse$Calls" "PondHouse$Statement") ∈ lw_all := lw_g (lw_at lw_m8 163 rfl) rfl
theorem q2252 : (Jvm.Cond.fieldLink "PondHouse$Calls" (73 : Nat) "PondHouse$Creature" "kind" "LPondHouse$Kind;") ∈ lw_all := lw_g (lw_at lw_m9 172 rfl) rfl
theorem q3117 : (Jvm.Cond.castable "PondHouse$Calls" "java/lang/Object") ∈ lw_tbl := lw_at lw_m13 77 rfl
theorem q3129 : (Jvm.Cond.castable "PondHouse$Calls" "PondHouse$Statement") ∈ lw_tbl := lw_at lw_m13 89 rfl
theorem in_X21 : ∀ w ∈ wsX210, w ∈ lw_all := lw_in wsX210 [2002, 1996, 1998, 2000] (by decide +kernel) (by decide +kernel)

/-! PondHouse$Rests -/
set_option maxRecDepth 100000
def RX22 : String := "PondHouse$Rests"
def TX22 : u_T := fun k => match k with
  | 0 => ("PondHouse$Statement", "this$0", "LPondHouse;", true)
  | _ => ("PondHouse$Rests", "this$0", "LPondHouse;", true)
def tyX22 : Nat → FieldType := fun k => match k with
  | 0 => .object "PondHouse"
  | _ => .object "PondHouse"
abbrev wsX220 : List Cond := u_ws RX22 TX22 2
-- two fields of one name: no nmX22
theorem tyX22_ok : ∀ k, k < 2 → parseFieldDescriptor (TX22 k).2.2.1 = some (tyX22 k) := by decide +kernel
abbrev cX22_does : ByteArray := prog_31_method_2_code
def yX22_does : MethodName := ⟨RX22, "does", "(LPondHouse$Frame;)Z"⟩
theorem dX22_does_0 : decode cX22_does 0 = .ok (.iconst 1, 1) := by decide +kernel
theorem dX22_does_1 : decode cX22_does 1 = .ok (.ireturn, 1) := by decide +kernel
abbrev cX22_init : ByteArray := prog_31_method_1_code
def yX22_init : MethodName := ⟨RX22, "<init>", "(LPondHouse;)V"⟩
def dkwX22_init_0 : List UInt8 := [42, 43, 181, 0, 1, 42, 43, 183, 0, 7, 177]
abbrev dktX22_init_0 : List UInt8 := dkwX22_init_0 ++ []
theorem dksX22_init_0 : cX22_init.data.toList.drop 0 = dktX22_init_0 := by decide +kernel
theorem dX22_init_0 : decode cX22_init 0 = .ok (.aload_n 0, 1) := dk_42 (dk_at dksX22_init_0 0 rfl rfl)
theorem dX22_init_1 : decode cX22_init 1 = .ok (.aload_n 1, 1) := dk_43 (dk_at dksX22_init_0 1 rfl rfl)
theorem dX22_init_2 : decode cX22_init 2 = .ok (.putfield 1, 3) := dk_181 0 1 (dk_at dksX22_init_0 2 rfl rfl)
theorem dX22_init_5 : decode cX22_init 5 = .ok (.aload_n 0, 1) := dk_42 (dk_at dksX22_init_0 5 rfl rfl)
theorem dX22_init_6 : decode cX22_init 6 = .ok (.aload_n 1, 1) := dk_43 (dk_at dksX22_init_0 6 rfl rfl)
theorem dX22_init_7 : decode cX22_init 7 = .ok (.invokespecial 7, 3) := dk_183 0 7 (dk_at dksX22_init_0 7 rfl rfl)
theorem dX22_init_10 : decode cX22_init 10 = .ok (.return_, 1) := dk_177 (dk_at dksX22_init_0 10 rfl rfl)
theorem q200 : (Jvm.Cond.initialized "PondHouse$Rests") ∈ lw_all := lw_g (lw_at lw_m1 40 rfl) rfl
theorem q477 : (Jvm.Cond.selects "PondHouse$Rests" ({ cls := "PondHouse$Statement", name := "does", desc := "(LPondHouse$Frame;)Z" } : Jvm.MethodName) ({ cls := "PondHouse$Rests", name := "does", desc := "(LPondHouse$Frame;)Z" } : Jvm.MethodName)) ∈ lw_all := lw_g (lw_at lw_m2 77 rfl) rfl
theorem q478 : (Jvm.Cond.instanceMethod ({ cls := "PondHouse$Rests", name := "does", desc := "(LPondHouse$Frame;)Z" } : Jvm.MethodName)) ∈ lw_all := lw_g (lw_at lw_m2 78 rfl) rfl
theorem q479 : (Jvm.Cond.code ({ cls := "PondHouse$Rests", name := "does", desc := "(LPondHouse$Frame;)Z" } : Jvm.MethodName) prog_31_method_2_code (2 : Nat) (Option.some Jvm.ClassFile.FieldType.boolean)) ∈ lw_all := lw_g (lw_at lw_m2 79 rfl) rfl
theorem q689 : (Jvm.Cond.selects "PondHouse$Rests" ({ cls := "java/lang/Object", name := "getClass", desc := "()Ljava/lang/Class;" } : Jvm.MethodName) ({ cls := "java/lang/Object", name := "getClass", desc := "()Ljava/lang/Class;" } : Jvm.MethodName)) ∈ lw_all := lw_g (lw_at lw_m3 49 rfl) rfl
theorem q2005 : (Jvm.Cond.instantiable "PondHouse$Rests" (2 : Nat)) ∈ lw_all := lw_g (lw_at lw_m8 165 rfl) rfl
theorem q2007 : (Jvm.Cond.instanceMethod ({ cls := "PondHouse$Rests", name := "<init>", desc := "(LPondHouse;)V" } : Jvm.MethodName)) ∈ lw_all := lw_g (lw_at lw_m8 167 rfl) rfl
theorem q2008 : (Jvm.Cond.code ({ cls := "PondHouse$Rests", name := "<init>", desc := "(LPondHouse;)V" } : Jvm.MethodName) prog_31_method_1_code (2 : Nat) (Option.none : Option Jvm.ClassFile.FieldType)) ∈ lw_all := lw_g (lw_at lw_m8 168 rfl) rfl
theorem q2009 : (Jvm.Cond.methodLinkNest "PondHouse$Rests" (7 : Nat) ({ cls := "PondHouse$Statement", name := "<init>", desc := "(LPondHouse;)V" } : Jvm.MethodName) "PondHouse") ∈ lw_tbl := lw_at lw_m8 169 rfl
theorem q2010 : (Jvm.Cond.fieldLink "PondHouse$Rests" (1 : Nat) "PondHouse$Rests" "this$0" "LPondHouse;") ∈ lw_all := lw_g (lw_at lw_m8 170 rfl) rfl
theorem q2011 : (Jvm.Cond.laysFinal "PondHouse$Rests" "PondHouse$Rests" "this$0" "LPondHouse;") ∈ lw_all := lw_g (lw_at lw_m8 171 rfl) rfl
theorem q2012 : (Jvm.Cond.soleField "PondHouse$Rests" "this$0") ∈ lw_all := lw_g (lw_at lw_m8 172 rfl) rfl
theorem q2013 : (Jvm.Cond.laysFinal "PondHouse$Rests" "PondHouse$Statement" "this$0" "LPondHouse;") ∈ lw_all := lw_g (lw_at lw_m8 173 rfl) rfl
theorem q2014 : (Jvm.Cond.superclass "PondHouse$Rests" "PondHouse$Statement") ∈ lw_all := lw_g (lw_at lw_m8 174 rfl) rfl
theorem q3118 : (Jvm.Cond.castable "PondHouse$Rests" "java/lang/Object") ∈ lw_tbl := lw_at lw_m13 78 rfl
theorem q3130 : (Jvm.Cond.castable "PondHouse$Rests" "PondHouse$Statement") ∈ lw_tbl := lw_at lw_m13 90 rfl
theorem in_X22 : ∀ w ∈ wsX220, w ∈ lw_all := lw_in wsX220 [2013, 2011] (by decide +kernel) (by decide +kernel)

/-! PondHouse$Kind -/
set_option maxRecDepth 100000
def RX23 : String := "PondHouse$Kind"
def TX23 : u_T := fun k => match k with
  | 0 => ("PondHouse$Kind", "name", "I", true)
  | 1 => ("PondHouse$Kind", "generation", "I", true)
  | 2 => ("PondHouse$Kind", "above", "LPondHouse$Kind;", true)
  | 3 => ("PondHouse$Kind", "fields", "[I", true)
  | 4 => ("PondHouse$Kind", "firsts", "[I", true)
  | 5 => ("PondHouse$Kind", "statics", "[I", true)
  | 6 => ("PondHouse$Kind", "fixed", "[I", true)
  | 7 => ("PondHouse$Kind", "from", "[I", true)
  | _ => ("PondHouse$Kind", "bodies", "[LPondHouse$Body;", true)
def tyX23 : Nat → FieldType := fun k => match k with
  | 0 => .int
  | 1 => .int
  | 2 => .object "PondHouse$Kind"
  | 3 => .array .int
  | 4 => .array .int
  | 5 => .array .int
  | 6 => .array .int
  | 7 => .array .int
  | _ => .array (.object "PondHouse$Body")
abbrev wsX230 : List Cond := u_ws RX23 TX23 9
theorem nmX23 : ∀ a, a < 9 → ∀ b, b < 9 → a ≠ b → (TX23 a).2.1 ≠ (TX23 b).2.1 := by decide +kernel
theorem tyX23_ok : ∀ k, k < 9 → parseFieldDescriptor (TX23 k).2.2.1 = some (tyX23 k) := by decide +kernel
abbrev cX23_all : ByteArray := prog_20_method_3_code
def yX23_all : MethodName := ⟨RX23, "all", "()I"⟩
def dkwX23_all_1 : List UInt8 := [172]
abbrev dktX23_all_1 : List UInt8 := dkwX23_all_1 ++ []
def dkwX23_all_0 : List UInt8 := [42, 180, 0, 38, 190, 42, 180, 0, 18, 199, 0, 7, 3, 167, 0, 10, 42, 180, 0, 18, 182, 0, 82, 96]
abbrev dktX23_all_0 : List UInt8 := dkwX23_all_0 ++ dktX23_all_1
theorem dksX23_all_0 : cX23_all.data.toList.drop 0 = dktX23_all_0 := by decide +kernel
theorem dksX23_all_1 : cX23_all.data.toList.drop 24 = dktX23_all_1 := dk_seg dksX23_all_0 24 rfl rfl
theorem dX23_all_0 : decode cX23_all 0 = .ok (.aload_n 0, 1) := dk_42 (dk_at dksX23_all_0 0 rfl rfl)
theorem dX23_all_1 : decode cX23_all 1 = .ok (.getfield 38, 3) := dk_180 0 38 (dk_at dksX23_all_0 1 rfl rfl)
theorem dX23_all_4 : decode cX23_all 4 = .ok (.arraylength, 1) := dk_190 (dk_at dksX23_all_0 4 rfl rfl)
theorem dX23_all_5 : decode cX23_all 5 = .ok (.aload_n 0, 1) := dk_42 (dk_at dksX23_all_0 5 rfl rfl)
theorem dX23_all_6 : decode cX23_all 6 = .ok (.getfield 18, 3) := dk_180 0 18 (dk_at dksX23_all_0 6 rfl rfl)
theorem dX23_all_9 : decode cX23_all 9 = .ok (.ifnonnull 7, 3) := dk_199 0 7 (dk_at dksX23_all_0 9 rfl rfl)
theorem dX23_all_12 : decode cX23_all 12 = .ok (.iconst 0, 1) := dk_3 (dk_at dksX23_all_0 12 rfl rfl)
theorem dX23_all_13 : decode cX23_all 13 = .ok (.goto 10, 3) := dk_167 0 10 (dk_at dksX23_all_0 13 rfl rfl)
theorem dX23_all_16 : decode cX23_all 16 = .ok (.aload_n 0, 1) := dk_42 (dk_at dksX23_all_0 16 rfl rfl)
theorem dX23_all_17 : decode cX23_all 17 = .ok (.getfield 18, 3) := dk_180 0 18 (dk_at dksX23_all_0 17 rfl rfl)
theorem dX23_all_20 : decode cX23_all 20 = .ok (.invokevirtual 82, 3) := dk_182 0 82 (dk_at dksX23_all_0 20 rfl rfl)
theorem dX23_all_23 : decode cX23_all 23 = .ok (.iadd, 1) := dk_96 (dk_at dksX23_all_0 23 rfl rfl)
theorem dX23_all_24 : decode cX23_all 24 = .ok (.ireturn, 1) := dk_172 (dk_at dksX23_all_1 0 rfl rfl)
abbrev cX23_owner : ByteArray := prog_20_method_5_code
def yX23_owner : MethodName := ⟨RX23, "owner", "(I)LPondHouse$Kind;"⟩
def dkwX23_owner_1 : List UInt8 := [182, 0, 90, 167, 0, 4, 42, 176]
abbrev dktX23_owner_1 : List UInt8 := dkwX23_owner_1 ++ []
def dkwX23_owner_0 : List UInt8 := [42, 180, 0, 18, 198, 0, 25, 27, 42, 180, 0, 18, 182, 0, 82, 162, 0, 14, 42, 180, 0, 18, 27]
abbrev dktX23_owner_0 : List UInt8 := dkwX23_owner_0 ++ dktX23_owner_1
theorem dksX23_owner_0 : cX23_owner.data.toList.drop 0 = dktX23_owner_0 := by decide +kernel
theorem dksX23_owner_1 : cX23_owner.data.toList.drop 23 = dktX23_owner_1 := dk_seg dksX23_owner_0 23 rfl rfl
theorem dX23_owner_0 : decode cX23_owner 0 = .ok (.aload_n 0, 1) := dk_42 (dk_at dksX23_owner_0 0 rfl rfl)
theorem dX23_owner_1 : decode cX23_owner 1 = .ok (.getfield 18, 3) := dk_180 0 18 (dk_at dksX23_owner_0 1 rfl rfl)
theorem dX23_owner_4 : decode cX23_owner 4 = .ok (.ifnull 25, 3) := dk_198 0 25 (dk_at dksX23_owner_0 4 rfl rfl)
theorem dX23_owner_7 : decode cX23_owner 7 = .ok (.iload_n 1, 1) := dk_27 (dk_at dksX23_owner_0 7 rfl rfl)
theorem dX23_owner_8 : decode cX23_owner 8 = .ok (.aload_n 0, 1) := dk_42 (dk_at dksX23_owner_0 8 rfl rfl)
theorem dX23_owner_9 : decode cX23_owner 9 = .ok (.getfield 18, 3) := dk_180 0 18 (dk_at dksX23_owner_0 9 rfl rfl)
theorem dX23_owner_12 : decode cX23_owner 12 = .ok (.invokevirtual 82, 3) := dk_182 0 82 (dk_at dksX23_owner_0 12 rfl rfl)
theorem dX23_owner_15 : decode cX23_owner 15 = .ok (.if_icmp .ge 14, 3) := dk_162 0 14 (dk_at dksX23_owner_0 15 rfl rfl)
theorem dX23_owner_18 : decode cX23_owner 18 = .ok (.aload_n 0, 1) := dk_42 (dk_at dksX23_owner_0 18 rfl rfl)
theorem dX23_owner_19 : decode cX23_owner 19 = .ok (.getfield 18, 3) := dk_180 0 18 (dk_at dksX23_owner_0 19 rfl rfl)
theorem dX23_owner_22 : decode cX23_owner 22 = .ok (.iload_n 1, 1) := dk_27 (dk_at dksX23_owner_0 22 rfl rfl)
theorem dX23_owner_23 : decode cX23_owner 23 = .ok (.invokevirtual 90, 3) := dk_182 0 90 (dk_at dksX23_owner_1 0 rfl rfl)
theorem dX23_owner_26 : decode cX23_owner 26 = .ok (.goto 4, 3) := dk_167 0 4 (dk_at dksX23_owner_1 3 rfl rfl)
theorem dX23_owner_29 : decode cX23_owner 29 = .ok (.aload_n 0, 1) := dk_42 (dk_at dksX23_owner_1 6 rfl rfl)
theorem dX23_owner_30 : decode cX23_owner 30 = .ok (.areturn, 1) := dk_176 (dk_at dksX23_owner_1 7 rfl rfl)
abbrev cX23_field : ByteArray := prog_20_method_7_code
def yX23_field : MethodName := ⟨RX23, "field", "(I)I"⟩
def dkwX23_field_0 : List UInt8 := [42, 27, 182, 0, 90, 77, 44, 180, 0, 38, 44, 27, 182, 0, 94, 46, 172]
abbrev dktX23_field_0 : List UInt8 := dkwX23_field_0 ++ []
theorem dksX23_field_0 : cX23_field.data.toList.drop 0 = dktX23_field_0 := by decide +kernel
theorem dX23_field_0 : decode cX23_field 0 = .ok (.aload_n 0, 1) := dk_42 (dk_at dksX23_field_0 0 rfl rfl)
theorem dX23_field_1 : decode cX23_field 1 = .ok (.iload_n 1, 1) := dk_27 (dk_at dksX23_field_0 1 rfl rfl)
theorem dX23_field_2 : decode cX23_field 2 = .ok (.invokevirtual 90, 3) := dk_182 0 90 (dk_at dksX23_field_0 2 rfl rfl)
theorem dX23_field_5 : decode cX23_field 5 = .ok (.astore_n 2, 1) := dk_77 (dk_at dksX23_field_0 5 rfl rfl)
theorem dX23_field_6 : decode cX23_field 6 = .ok (.aload_n 2, 1) := dk_44 (dk_at dksX23_field_0 6 rfl rfl)
theorem dX23_field_7 : decode cX23_field 7 = .ok (.getfield 38, 3) := dk_180 0 38 (dk_at dksX23_field_0 7 rfl rfl)
theorem dX23_field_10 : decode cX23_field 10 = .ok (.aload_n 2, 1) := dk_44 (dk_at dksX23_field_0 10 rfl rfl)
theorem dX23_field_11 : decode cX23_field 11 = .ok (.iload_n 1, 1) := dk_27 (dk_at dksX23_field_0 11 rfl rfl)
theorem dX23_field_12 : decode cX23_field 12 = .ok (.invokevirtual 94, 3) := dk_182 0 94 (dk_at dksX23_field_0 12 rfl rfl)
theorem dX23_field_15 : decode cX23_field 15 = .ok (.iaload, 1) := dk_46 (dk_at dksX23_field_0 15 rfl rfl)
theorem dX23_field_16 : decode cX23_field 16 = .ok (.ireturn, 1) := dk_172 (dk_at dksX23_field_0 16 rfl rfl)
abbrev cX23_own : ByteArray := prog_20_method_6_code
def yX23_own : MethodName := ⟨RX23, "own", "(I)I"⟩
def dkwX23_own_0 : List UInt8 := [27, 42, 180, 0, 18, 199, 0, 7, 3, 167, 0, 10, 42, 180, 0, 18, 182, 0, 82, 100, 172]
abbrev dktX23_own_0 : List UInt8 := dkwX23_own_0 ++ []
theorem dksX23_own_0 : cX23_own.data.toList.drop 0 = dktX23_own_0 := by decide +kernel
theorem dX23_own_0 : decode cX23_own 0 = .ok (.iload_n 1, 1) := dk_27 (dk_at dksX23_own_0 0 rfl rfl)
theorem dX23_own_1 : decode cX23_own 1 = .ok (.aload_n 0, 1) := dk_42 (dk_at dksX23_own_0 1 rfl rfl)
theorem dX23_own_2 : decode cX23_own 2 = .ok (.getfield 18, 3) := dk_180 0 18 (dk_at dksX23_own_0 2 rfl rfl)
theorem dX23_own_5 : decode cX23_own 5 = .ok (.ifnonnull 7, 3) := dk_199 0 7 (dk_at dksX23_own_0 5 rfl rfl)
theorem dX23_own_8 : decode cX23_own 8 = .ok (.iconst 0, 1) := dk_3 (dk_at dksX23_own_0 8 rfl rfl)
theorem dX23_own_9 : decode cX23_own 9 = .ok (.goto 10, 3) := dk_167 0 10 (dk_at dksX23_own_0 9 rfl rfl)
theorem dX23_own_12 : decode cX23_own 12 = .ok (.aload_n 0, 1) := dk_42 (dk_at dksX23_own_0 12 rfl rfl)
theorem dX23_own_13 : decode cX23_own 13 = .ok (.getfield 18, 3) := dk_180 0 18 (dk_at dksX23_own_0 13 rfl rfl)
theorem dX23_own_16 : decode cX23_own 16 = .ok (.invokevirtual 82, 3) := dk_182 0 82 (dk_at dksX23_own_0 16 rfl rfl)
theorem dX23_own_19 : decode cX23_own 19 = .ok (.isub, 1) := dk_100 (dk_at dksX23_own_0 19 rfl rfl)
theorem dX23_own_20 : decode cX23_own 20 = .ok (.ireturn, 1) := dk_172 (dk_at dksX23_own_0 20 rfl rfl)
abbrev cX23_place : ByteArray := prog_20_method_4_code
def yX23_place : MethodName := ⟨RX23, "place", "(I)I"⟩
def dkwX23_place_2 : List UInt8 := [167, 255, 230, 42, 180, 0, 18, 199, 0, 7, 2, 167, 0, 11, 42, 180, 0, 18, 27, 182, 0, 86, 172]
abbrev dktX23_place_2 : List UInt8 := dkwX23_place_2 ++ []
def dkwX23_place_1 : List UInt8 := [180, 0, 38, 190, 162, 0, 23, 42, 180, 0, 38, 29, 46, 27, 160, 0, 7, 28, 29, 96, 172, 132, 3, 1]
abbrev dktX23_place_1 : List UInt8 := dkwX23_place_1 ++ dktX23_place_2
def dkwX23_place_0 : List UInt8 := [42, 180, 0, 18, 199, 0, 7, 3, 167, 0, 10, 42, 180, 0, 18, 182, 0, 82, 61, 3, 62, 29, 42]
abbrev dktX23_place_0 : List UInt8 := dkwX23_place_0 ++ dktX23_place_1
theorem dksX23_place_0 : cX23_place.data.toList.drop 0 = dktX23_place_0 := by decide +kernel
theorem dksX23_place_1 : cX23_place.data.toList.drop 23 = dktX23_place_1 := dk_seg dksX23_place_0 23 rfl rfl
theorem dksX23_place_2 : cX23_place.data.toList.drop 47 = dktX23_place_2 := dk_seg dksX23_place_1 24 rfl rfl
theorem dX23_place_0 : decode cX23_place 0 = .ok (.aload_n 0, 1) := dk_42 (dk_at dksX23_place_0 0 rfl rfl)
theorem dX23_place_1 : decode cX23_place 1 = .ok (.getfield 18, 3) := dk_180 0 18 (dk_at dksX23_place_0 1 rfl rfl)
theorem dX23_place_4 : decode cX23_place 4 = .ok (.ifnonnull 7, 3) := dk_199 0 7 (dk_at dksX23_place_0 4 rfl rfl)
theorem dX23_place_7 : decode cX23_place 7 = .ok (.iconst 0, 1) := dk_3 (dk_at dksX23_place_0 7 rfl rfl)
theorem dX23_place_8 : decode cX23_place 8 = .ok (.goto 10, 3) := dk_167 0 10 (dk_at dksX23_place_0 8 rfl rfl)
theorem dX23_place_11 : decode cX23_place 11 = .ok (.aload_n 0, 1) := dk_42 (dk_at dksX23_place_0 11 rfl rfl)
theorem dX23_place_12 : decode cX23_place 12 = .ok (.getfield 18, 3) := dk_180 0 18 (dk_at dksX23_place_0 12 rfl rfl)
theorem dX23_place_15 : decode cX23_place 15 = .ok (.invokevirtual 82, 3) := dk_182 0 82 (dk_at dksX23_place_0 15 rfl rfl)
theorem dX23_place_18 : decode cX23_place 18 = .ok (.istore_n 2, 1) := dk_61 (dk_at dksX23_place_0 18 rfl rfl)
theorem dX23_place_19 : decode cX23_place 19 = .ok (.iconst 0, 1) := dk_3 (dk_at dksX23_place_0 19 rfl rfl)
theorem dX23_place_20 : decode cX23_place 20 = .ok (.istore_n 3, 1) := dk_62 (dk_at dksX23_place_0 20 rfl rfl)
theorem dX23_place_21 : decode cX23_place 21 = .ok (.iload_n 3, 1) := dk_29 (dk_at dksX23_place_0 21 rfl rfl)
theorem dX23_place_22 : decode cX23_place 22 = .ok (.aload_n 0, 1) := dk_42 (dk_at dksX23_place_0 22 rfl rfl)
theorem dX23_place_23 : decode cX23_place 23 = .ok (.getfield 38, 3) := dk_180 0 38 (dk_at dksX23_place_1 0 rfl rfl)
theorem dX23_place_26 : decode cX23_place 26 = .ok (.arraylength, 1) := dk_190 (dk_at dksX23_place_1 3 rfl rfl)
theorem dX23_place_27 : decode cX23_place 27 = .ok (.if_icmp .ge 23, 3) := dk_162 0 23 (dk_at dksX23_place_1 4 rfl rfl)
theorem dX23_place_30 : decode cX23_place 30 = .ok (.aload_n 0, 1) := dk_42 (dk_at dksX23_place_1 7 rfl rfl)
theorem dX23_place_31 : decode cX23_place 31 = .ok (.getfield 38, 3) := dk_180 0 38 (dk_at dksX23_place_1 8 rfl rfl)
theorem dX23_place_34 : decode cX23_place 34 = .ok (.iload_n 3, 1) := dk_29 (dk_at dksX23_place_1 11 rfl rfl)
theorem dX23_place_35 : decode cX23_place 35 = .ok (.iaload, 1) := dk_46 (dk_at dksX23_place_1 12 rfl rfl)
theorem dX23_place_36 : decode cX23_place 36 = .ok (.iload_n 1, 1) := dk_27 (dk_at dksX23_place_1 13 rfl rfl)
theorem dX23_place_37 : decode cX23_place 37 = .ok (.if_icmp .ne 7, 3) := dk_160 0 7 (dk_at dksX23_place_1 14 rfl rfl)
theorem dX23_place_40 : decode cX23_place 40 = .ok (.iload_n 2, 1) := dk_28 (dk_at dksX23_place_1 17 rfl rfl)
theorem dX23_place_41 : decode cX23_place 41 = .ok (.iload_n 3, 1) := dk_29 (dk_at dksX23_place_1 18 rfl rfl)
theorem dX23_place_42 : decode cX23_place 42 = .ok (.iadd, 1) := dk_96 (dk_at dksX23_place_1 19 rfl rfl)
theorem dX23_place_43 : decode cX23_place 43 = .ok (.ireturn, 1) := dk_172 (dk_at dksX23_place_1 20 rfl rfl)
theorem dX23_place_44 : decode cX23_place 44 = .ok (.iinc 3 1, 3) := dk_132 3 1 (dk_at dksX23_place_1 21 rfl rfl)
theorem dX23_place_47 : decode cX23_place 47 = .ok (.goto (-26), 3) := dk_167 255 230 (dk_at dksX23_place_2 0 rfl rfl)
theorem dX23_place_50 : decode cX23_place 50 = .ok (.aload_n 0, 1) := dk_42 (dk_at dksX23_place_2 3 rfl rfl)
theorem dX23_place_51 : decode cX23_place 51 = .ok (.getfield 18, 3) := dk_180 0 18 (dk_at dksX23_place_2 4 rfl rfl)
theorem dX23_place_54 : decode cX23_place 54 = .ok (.ifnonnull 7, 3) := dk_199 0 7 (dk_at dksX23_place_2 7 rfl rfl)
theorem dX23_place_57 : decode cX23_place 57 = .ok (.iconst (-1), 1) := dk_2 (dk_at dksX23_place_2 10 rfl rfl)
theorem dX23_place_58 : decode cX23_place 58 = .ok (.goto 11, 3) := dk_167 0 11 (dk_at dksX23_place_2 11 rfl rfl)
theorem dX23_place_61 : decode cX23_place 61 = .ok (.aload_n 0, 1) := dk_42 (dk_at dksX23_place_2 14 rfl rfl)
theorem dX23_place_62 : decode cX23_place 62 = .ok (.getfield 18, 3) := dk_180 0 18 (dk_at dksX23_place_2 15 rfl rfl)
theorem dX23_place_65 : decode cX23_place 65 = .ok (.iload_n 1, 1) := dk_27 (dk_at dksX23_place_2 18 rfl rfl)
theorem dX23_place_66 : decode cX23_place 66 = .ok (.invokevirtual 86, 3) := dk_182 0 86 (dk_at dksX23_place_2 19 rfl rfl)
theorem dX23_place_69 : decode cX23_place 69 = .ok (.ireturn, 1) := dk_172 (dk_at dksX23_place_2 22 rfl rfl)
abbrev cX23_former : ByteArray := prog_20_method_9_code
def yX23_former : MethodName := ⟨RX23, "former", "(I)I"⟩
def dkwX23_former_0 : List UInt8 := [42, 27, 182, 0, 90, 77, 44, 180, 0, 46, 44, 27, 182, 0, 94, 46, 172]
abbrev dktX23_former_0 : List UInt8 := dkwX23_former_0 ++ []
theorem dksX23_former_0 : cX23_former.data.toList.drop 0 = dktX23_former_0 := by decide +kernel
theorem dX23_former_0 : decode cX23_former 0 = .ok (.aload_n 0, 1) := dk_42 (dk_at dksX23_former_0 0 rfl rfl)
theorem dX23_former_1 : decode cX23_former 1 = .ok (.iload_n 1, 1) := dk_27 (dk_at dksX23_former_0 1 rfl rfl)
theorem dX23_former_2 : decode cX23_former 2 = .ok (.invokevirtual 90, 3) := dk_182 0 90 (dk_at dksX23_former_0 2 rfl rfl)
theorem dX23_former_5 : decode cX23_former 5 = .ok (.astore_n 2, 1) := dk_77 (dk_at dksX23_former_0 5 rfl rfl)
theorem dX23_former_6 : decode cX23_former 6 = .ok (.aload_n 2, 1) := dk_44 (dk_at dksX23_former_0 6 rfl rfl)
theorem dX23_former_7 : decode cX23_former 7 = .ok (.getfield 46, 3) := dk_180 0 46 (dk_at dksX23_former_0 7 rfl rfl)
theorem dX23_former_10 : decode cX23_former 10 = .ok (.aload_n 2, 1) := dk_44 (dk_at dksX23_former_0 10 rfl rfl)
theorem dX23_former_11 : decode cX23_former 11 = .ok (.iload_n 1, 1) := dk_27 (dk_at dksX23_former_0 11 rfl rfl)
theorem dX23_former_12 : decode cX23_former 12 = .ok (.invokevirtual 94, 3) := dk_182 0 94 (dk_at dksX23_former_0 12 rfl rfl)
theorem dX23_former_15 : decode cX23_former 15 = .ok (.iaload, 1) := dk_46 (dk_at dksX23_former_0 15 rfl rfl)
theorem dX23_former_16 : decode cX23_former 16 = .ok (.ireturn, 1) := dk_172 (dk_at dksX23_former_0 16 rfl rfl)
abbrev cX23_holds : ByteArray := prog_20_method_11_code
def yX23_holds : MethodName := ⟨RX23, "holds", "(I)Z"⟩
def dkwX23_holds_1 : List UInt8 := [180, 0, 46, 28, 46, 27, 160, 0, 7, 4, 167, 0, 4, 3, 172, 132, 2, 1, 167, 255, 218, 3, 172]
abbrev dktX23_holds_1 : List UInt8 := dkwX23_holds_1 ++ []
def dkwX23_holds_0 : List UInt8 := [3, 61, 28, 42, 180, 0, 38, 190, 162, 0, 35, 42, 180, 0, 38, 28, 46, 27, 160, 0, 19, 42]
abbrev dktX23_holds_0 : List UInt8 := dkwX23_holds_0 ++ dktX23_holds_1
theorem dksX23_holds_0 : cX23_holds.data.toList.drop 0 = dktX23_holds_0 := by decide +kernel
theorem dksX23_holds_1 : cX23_holds.data.toList.drop 22 = dktX23_holds_1 := dk_seg dksX23_holds_0 22 rfl rfl
theorem dX23_holds_0 : decode cX23_holds 0 = .ok (.iconst 0, 1) := dk_3 (dk_at dksX23_holds_0 0 rfl rfl)
theorem dX23_holds_1 : decode cX23_holds 1 = .ok (.istore_n 2, 1) := dk_61 (dk_at dksX23_holds_0 1 rfl rfl)
theorem dX23_holds_2 : decode cX23_holds 2 = .ok (.iload_n 2, 1) := dk_28 (dk_at dksX23_holds_0 2 rfl rfl)
theorem dX23_holds_3 : decode cX23_holds 3 = .ok (.aload_n 0, 1) := dk_42 (dk_at dksX23_holds_0 3 rfl rfl)
theorem dX23_holds_4 : decode cX23_holds 4 = .ok (.getfield 38, 3) := dk_180 0 38 (dk_at dksX23_holds_0 4 rfl rfl)
theorem dX23_holds_7 : decode cX23_holds 7 = .ok (.arraylength, 1) := dk_190 (dk_at dksX23_holds_0 7 rfl rfl)
theorem dX23_holds_8 : decode cX23_holds 8 = .ok (.if_icmp .ge 35, 3) := dk_162 0 35 (dk_at dksX23_holds_0 8 rfl rfl)
theorem dX23_holds_11 : decode cX23_holds 11 = .ok (.aload_n 0, 1) := dk_42 (dk_at dksX23_holds_0 11 rfl rfl)
theorem dX23_holds_12 : decode cX23_holds 12 = .ok (.getfield 38, 3) := dk_180 0 38 (dk_at dksX23_holds_0 12 rfl rfl)
theorem dX23_holds_15 : decode cX23_holds 15 = .ok (.iload_n 2, 1) := dk_28 (dk_at dksX23_holds_0 15 rfl rfl)
theorem dX23_holds_16 : decode cX23_holds 16 = .ok (.iaload, 1) := dk_46 (dk_at dksX23_holds_0 16 rfl rfl)
theorem dX23_holds_17 : decode cX23_holds 17 = .ok (.iload_n 1, 1) := dk_27 (dk_at dksX23_holds_0 17 rfl rfl)
theorem dX23_holds_18 : decode cX23_holds 18 = .ok (.if_icmp .ne 19, 3) := dk_160 0 19 (dk_at dksX23_holds_0 18 rfl rfl)
theorem dX23_holds_21 : decode cX23_holds 21 = .ok (.aload_n 0, 1) := dk_42 (dk_at dksX23_holds_0 21 rfl rfl)
theorem dX23_holds_22 : decode cX23_holds 22 = .ok (.getfield 46, 3) := dk_180 0 46 (dk_at dksX23_holds_1 0 rfl rfl)
theorem dX23_holds_25 : decode cX23_holds 25 = .ok (.iload_n 2, 1) := dk_28 (dk_at dksX23_holds_1 3 rfl rfl)
theorem dX23_holds_26 : decode cX23_holds 26 = .ok (.iaload, 1) := dk_46 (dk_at dksX23_holds_1 4 rfl rfl)
theorem dX23_holds_27 : decode cX23_holds 27 = .ok (.iload_n 1, 1) := dk_27 (dk_at dksX23_holds_1 5 rfl rfl)
theorem dX23_holds_28 : decode cX23_holds 28 = .ok (.if_icmp .ne 7, 3) := dk_160 0 7 (dk_at dksX23_holds_1 6 rfl rfl)
theorem dX23_holds_31 : decode cX23_holds 31 = .ok (.iconst 1, 1) := dk_4 (dk_at dksX23_holds_1 9 rfl rfl)
theorem dX23_holds_32 : decode cX23_holds 32 = .ok (.goto 4, 3) := dk_167 0 4 (dk_at dksX23_holds_1 10 rfl rfl)
theorem dX23_holds_35 : decode cX23_holds 35 = .ok (.iconst 0, 1) := dk_3 (dk_at dksX23_holds_1 13 rfl rfl)
theorem dX23_holds_36 : decode cX23_holds 36 = .ok (.ireturn, 1) := dk_172 (dk_at dksX23_holds_1 14 rfl rfl)
theorem dX23_holds_37 : decode cX23_holds 37 = .ok (.iinc 2 1, 3) := dk_132 2 1 (dk_at dksX23_holds_1 15 rfl rfl)
theorem dX23_holds_40 : decode cX23_holds 40 = .ok (.goto (-38), 3) := dk_167 255 218 (dk_at dksX23_holds_1 18 rfl rfl)
theorem dX23_holds_43 : decode cX23_holds 43 = .ok (.iconst 0, 1) := dk_3 (dk_at dksX23_holds_1 21 rfl rfl)
theorem dX23_holds_44 : decode cX23_holds 44 = .ok (.ireturn, 1) := dk_172 (dk_at dksX23_holds_1 22 rfl rfl)
abbrev cX23_first : ByteArray := prog_20_method_8_code
def yX23_first : MethodName := ⟨RX23, "first", "(I)I"⟩
def dkwX23_first_0 : List UInt8 := [42, 27, 182, 0, 90, 77, 44, 180, 0, 42, 44, 27, 182, 0, 94, 46, 172]
abbrev dktX23_first_0 : List UInt8 := dkwX23_first_0 ++ []
theorem dksX23_first_0 : cX23_first.data.toList.drop 0 = dktX23_first_0 := by decide +kernel
theorem dX23_first_0 : decode cX23_first 0 = .ok (.aload_n 0, 1) := dk_42 (dk_at dksX23_first_0 0 rfl rfl)
theorem dX23_first_1 : decode cX23_first 1 = .ok (.iload_n 1, 1) := dk_27 (dk_at dksX23_first_0 1 rfl rfl)
theorem dX23_first_2 : decode cX23_first 2 = .ok (.invokevirtual 90, 3) := dk_182 0 90 (dk_at dksX23_first_0 2 rfl rfl)
theorem dX23_first_5 : decode cX23_first 5 = .ok (.astore_n 2, 1) := dk_77 (dk_at dksX23_first_0 5 rfl rfl)
theorem dX23_first_6 : decode cX23_first 6 = .ok (.aload_n 2, 1) := dk_44 (dk_at dksX23_first_0 6 rfl rfl)
theorem dX23_first_7 : decode cX23_first 7 = .ok (.getfield 42, 3) := dk_180 0 42 (dk_at dksX23_first_0 7 rfl rfl)
theorem dX23_first_10 : decode cX23_first 10 = .ok (.aload_n 2, 1) := dk_44 (dk_at dksX23_first_0 10 rfl rfl)
theorem dX23_first_11 : decode cX23_first 11 = .ok (.iload_n 1, 1) := dk_27 (dk_at dksX23_first_0 11 rfl rfl)
theorem dX23_first_12 : decode cX23_first 12 = .ok (.invokevirtual 94, 3) := dk_182 0 94 (dk_at dksX23_first_0 12 rfl rfl)
theorem dX23_first_15 : decode cX23_first 15 = .ok (.iaload, 1) := dk_46 (dk_at dksX23_first_0 15 rfl rfl)
theorem dX23_first_16 : decode cX23_first 16 = .ok (.ireturn, 1) := dk_172 (dk_at dksX23_first_0 16 rfl rfl)
abbrev cX23_body : ByteArray := prog_20_method_2_code
def yX23_body : MethodName := ⟨RX23, "body", "(I)LPondHouse$Body;"⟩
def dkwX23_body_2 : List UInt8 := [199, 0, 7, 1, 167, 0, 11, 42, 180, 0, 18, 27, 182, 0, 78, 176]
abbrev dktX23_body_2 : List UInt8 := dkwX23_body_2 ++ []
def dkwX23_body_1 : List UInt8 := [25, 5, 180, 0, 77, 27, 160, 0, 6, 25, 5, 176, 132, 4, 1, 167, 255, 229, 42, 180, 0, 18]
abbrev dktX23_body_1 : List UInt8 := dkwX23_body_1 ++ dktX23_body_2
def dkwX23_body_0 : List UInt8 := [42, 180, 0, 63, 77, 44, 190, 62, 3, 54, 4, 21, 4, 29, 162, 0, 27, 44, 21, 4, 50, 58, 5]
abbrev dktX23_body_0 : List UInt8 := dkwX23_body_0 ++ dktX23_body_1
theorem dksX23_body_0 : cX23_body.data.toList.drop 0 = dktX23_body_0 := by decide +kernel
theorem dksX23_body_1 : cX23_body.data.toList.drop 23 = dktX23_body_1 := dk_seg dksX23_body_0 23 rfl rfl
theorem dksX23_body_2 : cX23_body.data.toList.drop 45 = dktX23_body_2 := dk_seg dksX23_body_1 22 rfl rfl
theorem dX23_body_0 : decode cX23_body 0 = .ok (.aload_n 0, 1) := dk_42 (dk_at dksX23_body_0 0 rfl rfl)
theorem dX23_body_1 : decode cX23_body 1 = .ok (.getfield 63, 3) := dk_180 0 63 (dk_at dksX23_body_0 1 rfl rfl)
theorem dX23_body_4 : decode cX23_body 4 = .ok (.astore_n 2, 1) := dk_77 (dk_at dksX23_body_0 4 rfl rfl)
theorem dX23_body_5 : decode cX23_body 5 = .ok (.aload_n 2, 1) := dk_44 (dk_at dksX23_body_0 5 rfl rfl)
theorem dX23_body_6 : decode cX23_body 6 = .ok (.arraylength, 1) := dk_190 (dk_at dksX23_body_0 6 rfl rfl)
theorem dX23_body_7 : decode cX23_body 7 = .ok (.istore_n 3, 1) := dk_62 (dk_at dksX23_body_0 7 rfl rfl)
theorem dX23_body_8 : decode cX23_body 8 = .ok (.iconst 0, 1) := dk_3 (dk_at dksX23_body_0 8 rfl rfl)
theorem dX23_body_9 : decode cX23_body 9 = .ok (.istore 4, 2) := dk_54 4 (dk_at dksX23_body_0 9 rfl rfl)
theorem dX23_body_11 : decode cX23_body 11 = .ok (.iload 4, 2) := dk_21 4 (dk_at dksX23_body_0 11 rfl rfl)
theorem dX23_body_13 : decode cX23_body 13 = .ok (.iload_n 3, 1) := dk_29 (dk_at dksX23_body_0 13 rfl rfl)
theorem dX23_body_14 : decode cX23_body 14 = .ok (.if_icmp .ge 27, 3) := dk_162 0 27 (dk_at dksX23_body_0 14 rfl rfl)
theorem dX23_body_17 : decode cX23_body 17 = .ok (.aload_n 2, 1) := dk_44 (dk_at dksX23_body_0 17 rfl rfl)
theorem dX23_body_18 : decode cX23_body 18 = .ok (.iload 4, 2) := dk_21 4 (dk_at dksX23_body_0 18 rfl rfl)
theorem dX23_body_20 : decode cX23_body 20 = .ok (.aaload, 1) := dk_50 (dk_at dksX23_body_0 20 rfl rfl)
theorem dX23_body_21 : decode cX23_body 21 = .ok (.astore 5, 2) := dk_58 5 (dk_at dksX23_body_0 21 rfl rfl)
theorem dX23_body_23 : decode cX23_body 23 = .ok (.aload 5, 2) := dk_25 5 (dk_at dksX23_body_1 0 rfl rfl)
theorem dX23_body_25 : decode cX23_body 25 = .ok (.getfield 77, 3) := dk_180 0 77 (dk_at dksX23_body_1 2 rfl rfl)
theorem dX23_body_28 : decode cX23_body 28 = .ok (.iload_n 1, 1) := dk_27 (dk_at dksX23_body_1 5 rfl rfl)
theorem dX23_body_29 : decode cX23_body 29 = .ok (.if_icmp .ne 6, 3) := dk_160 0 6 (dk_at dksX23_body_1 6 rfl rfl)
theorem dX23_body_32 : decode cX23_body 32 = .ok (.aload 5, 2) := dk_25 5 (dk_at dksX23_body_1 9 rfl rfl)
theorem dX23_body_34 : decode cX23_body 34 = .ok (.areturn, 1) := dk_176 (dk_at dksX23_body_1 11 rfl rfl)
theorem dX23_body_35 : decode cX23_body 35 = .ok (.iinc 4 1, 3) := dk_132 4 1 (dk_at dksX23_body_1 12 rfl rfl)
theorem dX23_body_38 : decode cX23_body 38 = .ok (.goto (-27), 3) := dk_167 255 229 (dk_at dksX23_body_1 15 rfl rfl)
theorem dX23_body_41 : decode cX23_body 41 = .ok (.aload_n 0, 1) := dk_42 (dk_at dksX23_body_1 18 rfl rfl)
theorem dX23_body_42 : decode cX23_body 42 = .ok (.getfield 18, 3) := dk_180 0 18 (dk_at dksX23_body_1 19 rfl rfl)
theorem dX23_body_45 : decode cX23_body 45 = .ok (.ifnonnull 7, 3) := dk_199 0 7 (dk_at dksX23_body_2 0 rfl rfl)
theorem dX23_body_48 : decode cX23_body 48 = .ok (.aconst_null, 1) := dk_1 (dk_at dksX23_body_2 3 rfl rfl)
theorem dX23_body_49 : decode cX23_body 49 = .ok (.goto 11, 3) := dk_167 0 11 (dk_at dksX23_body_2 4 rfl rfl)
theorem dX23_body_52 : decode cX23_body 52 = .ok (.aload_n 0, 1) := dk_42 (dk_at dksX23_body_2 7 rfl rfl)
theorem dX23_body_53 : decode cX23_body 53 = .ok (.getfield 18, 3) := dk_180 0 18 (dk_at dksX23_body_2 8 rfl rfl)
theorem dX23_body_56 : decode cX23_body 56 = .ok (.iload_n 1, 1) := dk_27 (dk_at dksX23_body_2 11 rfl rfl)
theorem dX23_body_57 : decode cX23_body 57 = .ok (.invokevirtual 78, 3) := dk_182 0 78 (dk_at dksX23_body_2 12 rfl rfl)
theorem dX23_body_60 : decode cX23_body 60 = .ok (.areturn, 1) := dk_176 (dk_at dksX23_body_2 15 rfl rfl)
abbrev cX23_init : ByteArray := prog_20_method_1_code
def yX23_init : MethodName := ⟨RX23, "<init>", "(LPondHouse$Draft;LPondHouse$Kind;I)V"⟩
def dkwX23_init_6 : List UInt8 := [43, 180, 0, 70, 21, 4, 50, 183, 0, 74, 83, 132, 4, 1, 167, 255, 215, 177]
abbrev dktX23_init_6 : List UInt8 := dkwX23_init_6 ++ []
def dkwX23_init_5 : List UInt8 := [180, 0, 58, 162, 0, 38, 42, 180, 0, 63, 21, 4, 187, 0, 61, 89, 42, 43, 180, 0, 67, 21, 4, 46]
abbrev dktX23_init_5 : List UInt8 := dkwX23_init_5 ++ dktX23_init_6
def dkwX23_init_4 : List UInt8 := [184, 0, 32, 181, 0, 57, 42, 43, 180, 0, 58, 189, 0, 61, 181, 0, 63, 3, 54, 4, 21, 4, 43]
abbrev dktX23_init_4 : List UInt8 := dkwX23_init_4 ++ dktX23_init_5
def dkwX23_init_3 : List UInt8 := [180, 0, 47, 43, 180, 0, 50, 184, 0, 32, 181, 0, 53, 42, 43, 180, 0, 54, 43, 180, 0, 50]
abbrev dktX23_init_3 : List UInt8 := dkwX23_init_3 ++ dktX23_init_4
def dkwX23_init_2 : List UInt8 := [184, 0, 32, 181, 0, 42, 42, 43, 180, 0, 43, 43, 180, 0, 29, 184, 0, 32, 181, 0, 46, 42, 43]
abbrev dktX23_init_2 : List UInt8 := dkwX23_init_2 ++ dktX23_init_3
def dkwX23_init_1 : List UInt8 := [180, 0, 25, 43, 180, 0, 29, 184, 0, 32, 181, 0, 38, 42, 43, 180, 0, 39, 43, 180, 0, 29]
abbrev dktX23_init_1 : List UInt8 := dkwX23_init_1 ++ dktX23_init_2
def dkwX23_init_0 : List UInt8 := [42, 183, 0, 3, 42, 43, 180, 0, 9, 181, 0, 15, 42, 44, 181, 0, 18, 42, 29, 181, 0, 22, 42, 43]
abbrev dktX23_init_0 : List UInt8 := dkwX23_init_0 ++ dktX23_init_1
theorem dksX23_init_0 : cX23_init.data.toList.drop 0 = dktX23_init_0 := by decide +kernel
theorem dksX23_init_1 : cX23_init.data.toList.drop 24 = dktX23_init_1 := dk_seg dksX23_init_0 24 rfl rfl
theorem dksX23_init_2 : cX23_init.data.toList.drop 46 = dktX23_init_2 := dk_seg dksX23_init_1 22 rfl rfl
theorem dksX23_init_3 : cX23_init.data.toList.drop 69 = dktX23_init_3 := dk_seg dksX23_init_2 23 rfl rfl
theorem dksX23_init_4 : cX23_init.data.toList.drop 91 = dktX23_init_4 := dk_seg dksX23_init_3 22 rfl rfl
theorem dksX23_init_5 : cX23_init.data.toList.drop 114 = dktX23_init_5 := dk_seg dksX23_init_4 23 rfl rfl
theorem dksX23_init_6 : cX23_init.data.toList.drop 138 = dktX23_init_6 := dk_seg dksX23_init_5 24 rfl rfl
theorem dX23_init_0 : decode cX23_init 0 = .ok (.aload_n 0, 1) := dk_42 (dk_at dksX23_init_0 0 rfl rfl)
theorem dX23_init_1 : decode cX23_init 1 = .ok (.invokespecial 3, 3) := dk_183 0 3 (dk_at dksX23_init_0 1 rfl rfl)
theorem dX23_init_4 : decode cX23_init 4 = .ok (.aload_n 0, 1) := dk_42 (dk_at dksX23_init_0 4 rfl rfl)
theorem dX23_init_5 : decode cX23_init 5 = .ok (.aload_n 1, 1) := dk_43 (dk_at dksX23_init_0 5 rfl rfl)
theorem dX23_init_6 : decode cX23_init 6 = .ok (.getfield 9, 3) := dk_180 0 9 (dk_at dksX23_init_0 6 rfl rfl)
theorem dX23_init_9 : decode cX23_init 9 = .ok (.putfield 15, 3) := dk_181 0 15 (dk_at dksX23_init_0 9 rfl rfl)
theorem dX23_init_12 : decode cX23_init 12 = .ok (.aload_n 0, 1) := dk_42 (dk_at dksX23_init_0 12 rfl rfl)
theorem dX23_init_13 : decode cX23_init 13 = .ok (.aload_n 2, 1) := dk_44 (dk_at dksX23_init_0 13 rfl rfl)
theorem dX23_init_14 : decode cX23_init 14 = .ok (.putfield 18, 3) := dk_181 0 18 (dk_at dksX23_init_0 14 rfl rfl)
theorem dX23_init_17 : decode cX23_init 17 = .ok (.aload_n 0, 1) := dk_42 (dk_at dksX23_init_0 17 rfl rfl)
theorem dX23_init_18 : decode cX23_init 18 = .ok (.iload_n 3, 1) := dk_29 (dk_at dksX23_init_0 18 rfl rfl)
theorem dX23_init_19 : decode cX23_init 19 = .ok (.putfield 22, 3) := dk_181 0 22 (dk_at dksX23_init_0 19 rfl rfl)
theorem dX23_init_22 : decode cX23_init 22 = .ok (.aload_n 0, 1) := dk_42 (dk_at dksX23_init_0 22 rfl rfl)
theorem dX23_init_23 : decode cX23_init 23 = .ok (.aload_n 1, 1) := dk_43 (dk_at dksX23_init_0 23 rfl rfl)
theorem dX23_init_24 : decode cX23_init 24 = .ok (.getfield 25, 3) := dk_180 0 25 (dk_at dksX23_init_1 0 rfl rfl)
theorem dX23_init_27 : decode cX23_init 27 = .ok (.aload_n 1, 1) := dk_43 (dk_at dksX23_init_1 3 rfl rfl)
theorem dX23_init_28 : decode cX23_init 28 = .ok (.getfield 29, 3) := dk_180 0 29 (dk_at dksX23_init_1 4 rfl rfl)
theorem dX23_init_31 : decode cX23_init 31 = .ok (.invokestatic 32, 3) := dk_184 0 32 (dk_at dksX23_init_1 7 rfl rfl)
theorem dX23_init_34 : decode cX23_init 34 = .ok (.putfield 38, 3) := dk_181 0 38 (dk_at dksX23_init_1 10 rfl rfl)
theorem dX23_init_37 : decode cX23_init 37 = .ok (.aload_n 0, 1) := dk_42 (dk_at dksX23_init_1 13 rfl rfl)
theorem dX23_init_38 : decode cX23_init 38 = .ok (.aload_n 1, 1) := dk_43 (dk_at dksX23_init_1 14 rfl rfl)
theorem dX23_init_39 : decode cX23_init 39 = .ok (.getfield 39, 3) := dk_180 0 39 (dk_at dksX23_init_1 15 rfl rfl)
theorem dX23_init_42 : decode cX23_init 42 = .ok (.aload_n 1, 1) := dk_43 (dk_at dksX23_init_1 18 rfl rfl)
theorem dX23_init_43 : decode cX23_init 43 = .ok (.getfield 29, 3) := dk_180 0 29 (dk_at dksX23_init_1 19 rfl rfl)
theorem dX23_init_46 : decode cX23_init 46 = .ok (.invokestatic 32, 3) := dk_184 0 32 (dk_at dksX23_init_2 0 rfl rfl)
theorem dX23_init_49 : decode cX23_init 49 = .ok (.putfield 42, 3) := dk_181 0 42 (dk_at dksX23_init_2 3 rfl rfl)
theorem dX23_init_52 : decode cX23_init 52 = .ok (.aload_n 0, 1) := dk_42 (dk_at dksX23_init_2 6 rfl rfl)
theorem dX23_init_53 : decode cX23_init 53 = .ok (.aload_n 1, 1) := dk_43 (dk_at dksX23_init_2 7 rfl rfl)
theorem dX23_init_54 : decode cX23_init 54 = .ok (.getfield 43, 3) := dk_180 0 43 (dk_at dksX23_init_2 8 rfl rfl)
theorem dX23_init_57 : decode cX23_init 57 = .ok (.aload_n 1, 1) := dk_43 (dk_at dksX23_init_2 11 rfl rfl)
theorem dX23_init_58 : decode cX23_init 58 = .ok (.getfield 29, 3) := dk_180 0 29 (dk_at dksX23_init_2 12 rfl rfl)
theorem dX23_init_61 : decode cX23_init 61 = .ok (.invokestatic 32, 3) := dk_184 0 32 (dk_at dksX23_init_2 15 rfl rfl)
theorem dX23_init_64 : decode cX23_init 64 = .ok (.putfield 46, 3) := dk_181 0 46 (dk_at dksX23_init_2 18 rfl rfl)
theorem dX23_init_67 : decode cX23_init 67 = .ok (.aload_n 0, 1) := dk_42 (dk_at dksX23_init_2 21 rfl rfl)
theorem dX23_init_68 : decode cX23_init 68 = .ok (.aload_n 1, 1) := dk_43 (dk_at dksX23_init_2 22 rfl rfl)
theorem dX23_init_69 : decode cX23_init 69 = .ok (.getfield 47, 3) := dk_180 0 47 (dk_at dksX23_init_3 0 rfl rfl)
theorem dX23_init_72 : decode cX23_init 72 = .ok (.aload_n 1, 1) := dk_43 (dk_at dksX23_init_3 3 rfl rfl)
theorem dX23_init_73 : decode cX23_init 73 = .ok (.getfield 50, 3) := dk_180 0 50 (dk_at dksX23_init_3 4 rfl rfl)
theorem dX23_init_76 : decode cX23_init 76 = .ok (.invokestatic 32, 3) := dk_184 0 32 (dk_at dksX23_init_3 7 rfl rfl)
theorem dX23_init_79 : decode cX23_init 79 = .ok (.putfield 53, 3) := dk_181 0 53 (dk_at dksX23_init_3 10 rfl rfl)
theorem dX23_init_82 : decode cX23_init 82 = .ok (.aload_n 0, 1) := dk_42 (dk_at dksX23_init_3 13 rfl rfl)
theorem dX23_init_83 : decode cX23_init 83 = .ok (.aload_n 1, 1) := dk_43 (dk_at dksX23_init_3 14 rfl rfl)
theorem dX23_init_84 : decode cX23_init 84 = .ok (.getfield 54, 3) := dk_180 0 54 (dk_at dksX23_init_3 15 rfl rfl)
theorem dX23_init_87 : decode cX23_init 87 = .ok (.aload_n 1, 1) := dk_43 (dk_at dksX23_init_3 18 rfl rfl)
theorem dX23_init_88 : decode cX23_init 88 = .ok (.getfield 50, 3) := dk_180 0 50 (dk_at dksX23_init_3 19 rfl rfl)
theorem dX23_init_91 : decode cX23_init 91 = .ok (.invokestatic 32, 3) := dk_184 0 32 (dk_at dksX23_init_4 0 rfl rfl)
theorem dX23_init_94 : decode cX23_init 94 = .ok (.putfield 57, 3) := dk_181 0 57 (dk_at dksX23_init_4 3 rfl rfl)
theorem dX23_init_97 : decode cX23_init 97 = .ok (.aload_n 0, 1) := dk_42 (dk_at dksX23_init_4 6 rfl rfl)
theorem dX23_init_98 : decode cX23_init 98 = .ok (.aload_n 1, 1) := dk_43 (dk_at dksX23_init_4 7 rfl rfl)
theorem dX23_init_99 : decode cX23_init 99 = .ok (.getfield 58, 3) := dk_180 0 58 (dk_at dksX23_init_4 8 rfl rfl)
theorem dX23_init_102 : decode cX23_init 102 = .ok (.anewarray 61, 3) := dk_189 0 61 (dk_at dksX23_init_4 11 rfl rfl)
theorem dX23_init_105 : decode cX23_init 105 = .ok (.putfield 63, 3) := dk_181 0 63 (dk_at dksX23_init_4 14 rfl rfl)
theorem dX23_init_108 : decode cX23_init 108 = .ok (.iconst 0, 1) := dk_3 (dk_at dksX23_init_4 17 rfl rfl)
theorem dX23_init_109 : decode cX23_init 109 = .ok (.istore 4, 2) := dk_54 4 (dk_at dksX23_init_4 18 rfl rfl)
theorem dX23_init_111 : decode cX23_init 111 = .ok (.iload 4, 2) := dk_21 4 (dk_at dksX23_init_4 20 rfl rfl)
theorem dX23_init_113 : decode cX23_init 113 = .ok (.aload_n 1, 1) := dk_43 (dk_at dksX23_init_4 22 rfl rfl)
theorem dX23_init_114 : decode cX23_init 114 = .ok (.getfield 58, 3) := dk_180 0 58 (dk_at dksX23_init_5 0 rfl rfl)
theorem dX23_init_117 : decode cX23_init 117 = .ok (.if_icmp .ge 38, 3) := dk_162 0 38 (dk_at dksX23_init_5 3 rfl rfl)
theorem dX23_init_120 : decode cX23_init 120 = .ok (.aload_n 0, 1) := dk_42 (dk_at dksX23_init_5 6 rfl rfl)
theorem dX23_init_121 : decode cX23_init 121 = .ok (.getfield 63, 3) := dk_180 0 63 (dk_at dksX23_init_5 7 rfl rfl)
theorem dX23_init_124 : decode cX23_init 124 = .ok (.iload 4, 2) := dk_21 4 (dk_at dksX23_init_5 10 rfl rfl)
theorem dX23_init_126 : decode cX23_init 126 = .ok (.new 61, 3) := dk_187 0 61 (dk_at dksX23_init_5 12 rfl rfl)
theorem dX23_init_129 : decode cX23_init 129 = .ok (.dup, 1) := dk_89 (dk_at dksX23_init_5 15 rfl rfl)
theorem dX23_init_130 : decode cX23_init 130 = .ok (.aload_n 0, 1) := dk_42 (dk_at dksX23_init_5 16 rfl rfl)
theorem dX23_init_131 : decode cX23_init 131 = .ok (.aload_n 1, 1) := dk_43 (dk_at dksX23_init_5 17 rfl rfl)
theorem dX23_init_132 : decode cX23_init 132 = .ok (.getfield 67, 3) := dk_180 0 67 (dk_at dksX23_init_5 18 rfl rfl)
theorem dX23_init_135 : decode cX23_init 135 = .ok (.iload 4, 2) := dk_21 4 (dk_at dksX23_init_5 21 rfl rfl)
theorem dX23_init_137 : decode cX23_init 137 = .ok (.iaload, 1) := dk_46 (dk_at dksX23_init_5 23 rfl rfl)
theorem dX23_init_138 : decode cX23_init 138 = .ok (.aload_n 1, 1) := dk_43 (dk_at dksX23_init_6 0 rfl rfl)
theorem dX23_init_139 : decode cX23_init 139 = .ok (.getfield 70, 3) := dk_180 0 70 (dk_at dksX23_init_6 1 rfl rfl)
theorem dX23_init_142 : decode cX23_init 142 = .ok (.iload 4, 2) := dk_21 4 (dk_at dksX23_init_6 4 rfl rfl)
theorem dX23_init_144 : decode cX23_init 144 = .ok (.aaload, 1) := dk_50 (dk_at dksX23_init_6 6 rfl rfl)
theorem dX23_init_145 : decode cX23_init 145 = .ok (.invokespecial 74, 3) := dk_183 0 74 (dk_at dksX23_init_6 7 rfl rfl)
theorem dX23_init_148 : decode cX23_init 148 = .ok (.aastore, 1) := dk_83 (dk_at dksX23_init_6 10 rfl rfl)
theorem dX23_init_149 : decode cX23_init 149 = .ok (.iinc 4 1, 3) := dk_132 4 1 (dk_at dksX23_init_6 11 rfl rfl)
theorem dX23_init_152 : decode cX23_init 152 = .ok (.goto (-41), 3) := dk_167 255 215 (dk_at dksX23_init_6 14 rfl rfl)
theorem dX23_init_155 : decode cX23_init 155 = .ok (.return_, 1) := dk_177 (dk_at dksX23_init_6 17 rfl rfl)
abbrev cX23_hasOwn : ByteArray := prog_20_method_10_code
def yX23_hasOwn : MethodName := ⟨RX23, "hasOwn", "(I)Z"⟩
def dkwX23_hasOwn_1 : List UInt8 := [21, 5, 27, 160, 0, 5, 4, 172, 132, 4, 1, 167, 255, 233, 3, 172]
abbrev dktX23_hasOwn_1 : List UInt8 := dkwX23_hasOwn_1 ++ []
def dkwX23_hasOwn_0 : List UInt8 := [42, 180, 0, 38, 77, 44, 190, 62, 3, 54, 4, 21, 4, 29, 162, 0, 23, 44, 21, 4, 46, 54, 5]
abbrev dktX23_hasOwn_0 : List UInt8 := dkwX23_hasOwn_0 ++ dktX23_hasOwn_1
theorem dksX23_hasOwn_0 : cX23_hasOwn.data.toList.drop 0 = dktX23_hasOwn_0 := by decide +kernel
theorem dksX23_hasOwn_1 : cX23_hasOwn.data.toList.drop 23 = dktX23_hasOwn_1 := dk_seg dksX23_hasOwn_0 23 rfl rfl
theorem dX23_hasOwn_0 : decode cX23_hasOwn 0 = .ok (.aload_n 0, 1) := dk_42 (dk_at dksX23_hasOwn_0 0 rfl rfl)
theorem dX23_hasOwn_1 : decode cX23_hasOwn 1 = .ok (.getfield 38, 3) := dk_180 0 38 (dk_at dksX23_hasOwn_0 1 rfl rfl)
theorem dX23_hasOwn_4 : decode cX23_hasOwn 4 = .ok (.astore_n 2, 1) := dk_77 (dk_at dksX23_hasOwn_0 4 rfl rfl)
theorem dX23_hasOwn_5 : decode cX23_hasOwn 5 = .ok (.aload_n 2, 1) := dk_44 (dk_at dksX23_hasOwn_0 5 rfl rfl)
theorem dX23_hasOwn_6 : decode cX23_hasOwn 6 = .ok (.arraylength, 1) := dk_190 (dk_at dksX23_hasOwn_0 6 rfl rfl)
theorem dX23_hasOwn_7 : decode cX23_hasOwn 7 = .ok (.istore_n 3, 1) := dk_62 (dk_at dksX23_hasOwn_0 7 rfl rfl)
theorem dX23_hasOwn_8 : decode cX23_hasOwn 8 = .ok (.iconst 0, 1) := dk_3 (dk_at dksX23_hasOwn_0 8 rfl rfl)
theorem dX23_hasOwn_9 : decode cX23_hasOwn 9 = .ok (.istore 4, 2) := dk_54 4 (dk_at dksX23_hasOwn_0 9 rfl rfl)
theorem dX23_hasOwn_11 : decode cX23_hasOwn 11 = .ok (.iload 4, 2) := dk_21 4 (dk_at dksX23_hasOwn_0 11 rfl rfl)
theorem dX23_hasOwn_13 : decode cX23_hasOwn 13 = .ok (.iload_n 3, 1) := dk_29 (dk_at dksX23_hasOwn_0 13 rfl rfl)
theorem dX23_hasOwn_14 : decode cX23_hasOwn 14 = .ok (.if_icmp .ge 23, 3) := dk_162 0 23 (dk_at dksX23_hasOwn_0 14 rfl rfl)
theorem dX23_hasOwn_17 : decode cX23_hasOwn 17 = .ok (.aload_n 2, 1) := dk_44 (dk_at dksX23_hasOwn_0 17 rfl rfl)
theorem dX23_hasOwn_18 : decode cX23_hasOwn 18 = .ok (.iload 4, 2) := dk_21 4 (dk_at dksX23_hasOwn_0 18 rfl rfl)
theorem dX23_hasOwn_20 : decode cX23_hasOwn 20 = .ok (.iaload, 1) := dk_46 (dk_at dksX23_hasOwn_0 20 rfl rfl)
theorem dX23_hasOwn_21 : decode cX23_hasOwn 21 = .ok (.istore 5, 2) := dk_54 5 (dk_at dksX23_hasOwn_0 21 rfl rfl)
theorem dX23_hasOwn_23 : decode cX23_hasOwn 23 = .ok (.iload 5, 2) := dk_21 5 (dk_at dksX23_hasOwn_1 0 rfl rfl)
theorem dX23_hasOwn_25 : decode cX23_hasOwn 25 = .ok (.iload_n 1, 1) := dk_27 (dk_at dksX23_hasOwn_1 2 rfl rfl)
theorem dX23_hasOwn_26 : decode cX23_hasOwn 26 = .ok (.if_icmp .ne 5, 3) := dk_160 0 5 (dk_at dksX23_hasOwn_1 3 rfl rfl)
theorem dX23_hasOwn_29 : decode cX23_hasOwn 29 = .ok (.iconst 1, 1) := dk_4 (dk_at dksX23_hasOwn_1 6 rfl rfl)
theorem dX23_hasOwn_30 : decode cX23_hasOwn 30 = .ok (.ireturn, 1) := dk_172 (dk_at dksX23_hasOwn_1 7 rfl rfl)
theorem dX23_hasOwn_31 : decode cX23_hasOwn 31 = .ok (.iinc 4 1, 3) := dk_132 4 1 (dk_at dksX23_hasOwn_1 8 rfl rfl)
theorem dX23_hasOwn_34 : decode cX23_hasOwn 34 = .ok (.goto (-23), 3) := dk_167 255 233 (dk_at dksX23_hasOwn_1 11 rfl rfl)
theorem dX23_hasOwn_37 : decode cX23_hasOwn 37 = .ok (.iconst 0, 1) := dk_3 (dk_at dksX23_hasOwn_1 14 rfl rfl)
theorem dX23_hasOwn_38 : decode cX23_hasOwn 38 = .ok (.ireturn, 1) := dk_172 (dk_at dksX23_hasOwn_1 15 rfl rfl)
abbrev cX23_isUnder : ByteArray := prog_20_method_12_code
def yX23_isUnder : MethodName := ⟨RX23, "isUnder", "(I)Z"⟩
def dkwX23_isUnder_1 : List UInt8 := [153, 0, 7, 4, 167, 0, 4, 3, 172]
abbrev dktX23_isUnder_1 : List UInt8 := dkwX23_isUnder_1 ++ []
def dkwX23_isUnder_0 : List UInt8 := [42, 180, 0, 15, 27, 159, 0, 21, 42, 180, 0, 18, 198, 0, 18, 42, 180, 0, 18, 27, 182, 0, 97]
abbrev dktX23_isUnder_0 : List UInt8 := dkwX23_isUnder_0 ++ dktX23_isUnder_1
theorem dksX23_isUnder_0 : cX23_isUnder.data.toList.drop 0 = dktX23_isUnder_0 := by decide +kernel
theorem dksX23_isUnder_1 : cX23_isUnder.data.toList.drop 23 = dktX23_isUnder_1 := dk_seg dksX23_isUnder_0 23 rfl rfl
theorem dX23_isUnder_0 : decode cX23_isUnder 0 = .ok (.aload_n 0, 1) := dk_42 (dk_at dksX23_isUnder_0 0 rfl rfl)
theorem dX23_isUnder_1 : decode cX23_isUnder 1 = .ok (.getfield 15, 3) := dk_180 0 15 (dk_at dksX23_isUnder_0 1 rfl rfl)
theorem dX23_isUnder_4 : decode cX23_isUnder 4 = .ok (.iload_n 1, 1) := dk_27 (dk_at dksX23_isUnder_0 4 rfl rfl)
theorem dX23_isUnder_5 : decode cX23_isUnder 5 = .ok (.if_icmp .eq 21, 3) := dk_159 0 21 (dk_at dksX23_isUnder_0 5 rfl rfl)
theorem dX23_isUnder_8 : decode cX23_isUnder 8 = .ok (.aload_n 0, 1) := dk_42 (dk_at dksX23_isUnder_0 8 rfl rfl)
theorem dX23_isUnder_9 : decode cX23_isUnder 9 = .ok (.getfield 18, 3) := dk_180 0 18 (dk_at dksX23_isUnder_0 9 rfl rfl)
theorem dX23_isUnder_12 : decode cX23_isUnder 12 = .ok (.ifnull 18, 3) := dk_198 0 18 (dk_at dksX23_isUnder_0 12 rfl rfl)
theorem dX23_isUnder_15 : decode cX23_isUnder 15 = .ok (.aload_n 0, 1) := dk_42 (dk_at dksX23_isUnder_0 15 rfl rfl)
theorem dX23_isUnder_16 : decode cX23_isUnder 16 = .ok (.getfield 18, 3) := dk_180 0 18 (dk_at dksX23_isUnder_0 16 rfl rfl)
theorem dX23_isUnder_19 : decode cX23_isUnder 19 = .ok (.iload_n 1, 1) := dk_27 (dk_at dksX23_isUnder_0 19 rfl rfl)
theorem dX23_isUnder_20 : decode cX23_isUnder 20 = .ok (.invokevirtual 97, 3) := dk_182 0 97 (dk_at dksX23_isUnder_0 20 rfl rfl)
theorem dX23_isUnder_23 : decode cX23_isUnder 23 = .ok (.ifCond .eq 7, 3) := dk_153 0 7 (dk_at dksX23_isUnder_1 0 rfl rfl)
theorem dX23_isUnder_26 : decode cX23_isUnder 26 = .ok (.iconst 1, 1) := dk_4 (dk_at dksX23_isUnder_1 3 rfl rfl)
theorem dX23_isUnder_27 : decode cX23_isUnder 27 = .ok (.goto 4, 3) := dk_167 0 4 (dk_at dksX23_isUnder_1 4 rfl rfl)
theorem dX23_isUnder_30 : decode cX23_isUnder 30 = .ok (.iconst 0, 1) := dk_3 (dk_at dksX23_isUnder_1 7 rfl rfl)
theorem dX23_isUnder_31 : decode cX23_isUnder 31 = .ok (.ireturn, 1) := dk_172 (dk_at dksX23_isUnder_1 8 rfl rfl)
theorem q201 : (Jvm.Cond.initialized "PondHouse$Kind") ∈ lw_all := lw_g (lw_at lw_m1 41 rfl) rfl
theorem q235 : (Jvm.Cond.instanceMethod ({ cls := "PondHouse$Kind", name := "all", desc := "()I" } : Jvm.MethodName)) ∈ lw_all := lw_g (lw_at lw_m1 75 rfl) rfl
theorem q236 : (Jvm.Cond.selects "PondHouse$Kind" ({ cls := "PondHouse$Kind", name := "all", desc := "()I" } : Jvm.MethodName) ({ cls := "PondHouse$Kind", name := "all", desc := "()I" } : Jvm.MethodName)) ∈ lw_all := lw_g (lw_at lw_m1 76 rfl) rfl
theorem q237 : (Jvm.Cond.code ({ cls := "PondHouse$Kind", name := "all", desc := "()I" } : Jvm.MethodName) prog_20_method_3_code (1 : Nat) (Option.some Jvm.ClassFile.FieldType.int)) ∈ lw_all := lw_g (lw_at lw_m1 77 rfl) rfl
theorem q238 : (Jvm.Cond.methodLink "PondHouse$Kind" (82 : Nat) ({ cls := "PondHouse$Kind", name := "all", desc := "()I" } : Jvm.MethodName)) ∈ lw_all := lw_g (lw_at lw_m1 78 rfl) rfl
theorem q243 : (Jvm.Cond.instanceMethod ({ cls := "PondHouse$Kind", name := "owner", desc := "(I)LPondHouse$Kind;" } : Jvm.MethodName)) ∈ lw_all := lw_g (lw_at lw_m1 83 rfl) rfl
theorem q244 : (Jvm.Cond.selects "PondHouse$Kind" ({ cls := "PondHouse$Kind", name := "owner", desc := "(I)LPondHouse$Kind;" } : Jvm.MethodName) ({ cls := "PondHouse$Kind", name := "owner", desc := "(I)LPondHouse$Kind;" } : Jvm.MethodName)) ∈ lw_all := lw_g (lw_at lw_m1 84 rfl) rfl
theorem q245 : (Jvm.Cond.code ({ cls := "PondHouse$Kind", name := "owner", desc := "(I)LPondHouse$Kind;" } : Jvm.MethodName) prog_20_method_5_code (2 : Nat) (Option.some (Jvm.ClassFile.FieldType.object "PondHouse$Kind"))) ∈ lw_all := lw_g (lw_at lw_m1 85 rfl) rfl
theorem q246 : (Jvm.Cond.methodLink "PondHouse$Kind" (90 : Nat) ({ cls := "PondHouse$Kind", name := "owner", desc := "(I)LPondHouse$Kind;" } : Jvm.MethodName)) ∈ lw_all := lw_g (lw_at lw_m1 86 rfl) rfl
theorem q248 : (Jvm.Cond.instanceMethod ({ cls := "PondHouse$Kind", name := "field", desc := "(I)I" } : Jvm.MethodName)) ∈ lw_all := lw_g (lw_at lw_m1 88 rfl) rfl
theorem q249 : (Jvm.Cond.selects "PondHouse$Kind" ({ cls := "PondHouse$Kind", name := "field", desc := "(I)I" } : Jvm.MethodName) ({ cls := "PondHouse$Kind", name := "field", desc := "(I)I" } : Jvm.MethodName)) ∈ lw_all := lw_g (lw_at lw_m1 89 rfl) rfl
theorem q250 : (Jvm.Cond.code ({ cls := "PondHouse$Kind", name := "field", desc := "(I)I" } : Jvm.MethodName) prog_20_method_7_code (3 : Nat) (Option.some Jvm.ClassFile.FieldType.int)) ∈ lw_all := lw_g (lw_at lw_m1 90 rfl) rfl
theorem q251 : (Jvm.Cond.methodLink "PondHouse$Kind" (94 : Nat) ({ cls := "PondHouse$Kind", name := "own", desc := "(I)I" } : Jvm.MethodName)) ∈ lw_all := lw_g (lw_at lw_m1 91 rfl) rfl
theorem q252 : (Jvm.Cond.privateMethod ({ cls := "PondHouse$Kind", name := "own", desc := "(I)I" } : Jvm.MethodName)) ∈ lw_tbl := lw_at lw_m1 92 rfl
theorem q253 : (Jvm.Cond.instanceMethod ({ cls := "PondHouse$Kind", name := "own", desc := "(I)I" } : Jvm.MethodName)) ∈ lw_all := lw_g (lw_at lw_m1 93 rfl) rfl
theorem q254 : (Jvm.Cond.instantiable "PondHouse$Kind" (9 : Nat)) ∈ lw_all := lw_g (lw_at lw_m1 94 rfl) rfl
theorem q255 : (Jvm.Cond.code ({ cls := "PondHouse$Kind", name := "own", desc := "(I)I" } : Jvm.MethodName) prog_20_method_6_code (2 : Nat) (Option.some Jvm.ClassFile.FieldType.int)) ∈ lw_all := lw_g (lw_at lw_m1 95 rfl) rfl
theorem q257 : (Jvm.Cond.instanceMethod ({ cls := "PondHouse$Kind", name := "place", desc := "(I)I" } : Jvm.MethodName)) ∈ lw_all := lw_g (lw_at lw_m1 97 rfl) rfl
theorem q258 : (Jvm.Cond.selects "PondHouse$Kind" ({ cls := "PondHouse$Kind", name := "place", desc := "(I)I" } : Jvm.MethodName) ({ cls := "PondHouse$Kind", name := "place", desc := "(I)I" } : Jvm.MethodName)) ∈ lw_all := lw_g (lw_at lw_m1 98 rfl) rfl
theorem q259 : (Jvm.Cond.code ({ cls := "PondHouse$Kind", name := "place", desc := "(I)I" } : Jvm.MethodName) prog_20_method_4_code (4 : Nat) (Option.some Jvm.ClassFile.FieldType.int)) ∈ lw_all := lw_g (lw_at lw_m1 99 rfl) rfl
theorem q260 : (Jvm.Cond.methodLink "PondHouse$Kind" (86 : Nat) ({ cls := "PondHouse$Kind", name := "place", desc := "(I)I" } : Jvm.MethodName)) ∈ lw_all := lw_g (lw_at lw_m1 100 rfl) rfl
theorem q265 : (Jvm.Cond.instanceMethod ({ cls := "PondHouse$Kind", name := "former", desc := "(I)I" } : Jvm.MethodName)) ∈ lw_all := lw_g (lw_at lw_m1 105 rfl) rfl
theorem q266 : (Jvm.Cond.selects "PondHouse$Kind" ({ cls := "PondHouse$Kind", name := "former", desc := "(I)I" } : Jvm.MethodName) ({ cls := "PondHouse$Kind", name := "former", desc := "(I)I" } : Jvm.MethodName)) ∈ lw_all := lw_g (lw_at lw_m1 106 rfl) rfl
theorem q267 : (Jvm.Cond.code ({ cls := "PondHouse$Kind", name := "former", desc := "(I)I" } : Jvm.MethodName) prog_20_method_9_code (3 : Nat) (Option.some Jvm.ClassFile.FieldType.int)) ∈ lw_all := lw_g (lw_at lw_m1 107 rfl) rfl
theorem q269 : (Jvm.Cond.instanceMethod ({ cls := "PondHouse$Kind", name := "holds", desc := "(I)Z" } : Jvm.MethodName)) ∈ lw_all := lw_g (lw_at lw_m1 109 rfl) rfl
theorem q270 : (Jvm.Cond.selects "PondHouse$Kind" ({ cls := "PondHouse$Kind", name := "holds", desc := "(I)Z" } : Jvm.MethodName) ({ cls := "PondHouse$Kind", name := "holds", desc := "(I)Z" } : Jvm.MethodName)) ∈ lw_all := lw_g (lw_at lw_m1 110 rfl) rfl
theorem q271 : (Jvm.Cond.code ({ cls := "PondHouse$Kind", name := "holds", desc := "(I)Z" } : Jvm.MethodName) prog_20_method_11_code (3 : Nat) (Option.some Jvm.ClassFile.FieldType.boolean)) ∈ lw_all := lw_g (lw_at lw_m1 111 rfl) rfl
theorem q273 : (Jvm.Cond.instanceMethod ({ cls := "PondHouse$Kind", name := "first", desc := "(I)I" } : Jvm.MethodName)) ∈ lw_all := lw_g (lw_at lw_m1 113 rfl) rfl
theorem q274 : (Jvm.Cond.selects "PondHouse$Kind" ({ cls := "PondHouse$Kind", name := "first", desc := "(I)I" } : Jvm.MethodName) ({ cls := "PondHouse$Kind", name := "first", desc := "(I)I" } : Jvm.MethodName)) ∈ lw_all := lw_g (lw_at lw_m1 114 rfl) rfl
theorem q275 : (Jvm.Cond.code ({ cls := "PondHouse$Kind", name := "first", desc := "(I)I" } : Jvm.MethodName) prog_20_method_8_code (3 : Nat) (Option.some Jvm.ClassFile.FieldType.int)) ∈ lw_all := lw_g (lw_at lw_m1 115 rfl) rfl
theorem q292 : (Jvm.Cond.instanceMethod ({ cls := "PondHouse$Kind", name := "body", desc := "(I)LPondHouse$Body;" } : Jvm.MethodName)) ∈ lw_all := lw_g (lw_at lw_m1 132 rfl) rfl
theorem q293 : (Jvm.Cond.selects "PondHouse$Kind" ({ cls := "PondHouse$Kind", name := "body", desc := "(I)LPondHouse$Body;" } : Jvm.MethodName) ({ cls := "PondHouse$Kind", name := "body", desc := "(I)LPondHouse$Body;" } : Jvm.MethodName)) ∈ lw_all := lw_g (lw_at lw_m1 133 rfl) rfl
theorem q294 : (Jvm.Cond.code ({ cls := "PondHouse$Kind", name := "body", desc := "(I)LPondHouse$Body;" } : Jvm.MethodName) prog_20_method_2_code (6 : Nat) (Option.some (Jvm.ClassFile.FieldType.object "PondHouse$Body"))) ∈ lw_all := lw_g (lw_at lw_m1 134 rfl) rfl
theorem q295 : (Jvm.Cond.methodLink "PondHouse$Kind" (78 : Nat) ({ cls := "PondHouse$Kind", name := "body", desc := "(I)LPondHouse$Body;" } : Jvm.MethodName)) ∈ lw_all := lw_g (lw_at lw_m1 135 rfl) rfl
theorem q561 : (Jvm.Cond.fieldLink "PondHouse$Kind" (9 : Nat) "PondHouse$Draft" "name" "I") ∈ lw_all := lw_g (lw_at lw_m2 161 rfl) rfl
theorem q574 : (Jvm.Cond.fieldLink "PondHouse$Kind" (25 : Nat) "PondHouse$Draft" "fields" "[I") ∈ lw_all := lw_g (lw_at lw_m2 174 rfl) rfl
theorem q577 : (Jvm.Cond.fieldLink "PondHouse$Kind" (39 : Nat) "PondHouse$Draft" "firsts" "[I") ∈ lw_all := lw_g (lw_at lw_m2 177 rfl) rfl
theorem q579 : (Jvm.Cond.fieldLink "PondHouse$Kind" (43 : Nat) "PondHouse$Draft" "from" "[I") ∈ lw_all := lw_g (lw_at lw_m2 179 rfl) rfl
theorem q581 : (Jvm.Cond.fieldLink "PondHouse$Kind" (47 : Nat) "PondHouse$Draft" "statics" "[I") ∈ lw_all := lw_g (lw_at lw_m2 181 rfl) rfl
theorem q583 : (Jvm.Cond.fieldLink "PondHouse$Kind" (54 : Nat) "PondHouse$Draft" "fixed" "[I") ∈ lw_all := lw_g (lw_at lw_m2 183 rfl) rfl
theorem q585 : (Jvm.Cond.fieldLink "PondHouse$Kind" (67 : Nat) "PondHouse$Draft" "acts" "[I") ∈ lw_all := lw_g (lw_at lw_m2 185 rfl) rfl
theorem q587 : (Jvm.Cond.fieldLink "PondHouse$Kind" (70 : Nat) "PondHouse$Draft" "blocks" "[LPondHouse$Block;") ∈ lw_all := lw_g (lw_at lw_m2 187 rfl) rfl
theorem q588 : (Jvm.Cond.fieldLink "PondHouse$Kind" (29 : Nat) "PondHouse$Draft" "fieldMany" "I") ∈ lw_all := lw_g (lw_at lw_m2 188 rfl) rfl
theorem q590 : (Jvm.Cond.fieldLink "PondHouse$Kind" (50 : Nat) "PondHouse$Draft" "staticMany" "I") ∈ lw_all := lw_g (lw_at lw_m2 190 rfl) rfl
theorem q592 : (Jvm.Cond.fieldLink "PondHouse$Kind" (58 : Nat) "PondHouse$Draft" "actMany" "I") ∈ lw_all := lw_g (lw_at lw_m2 192 rfl) rfl
theorem q678 : (Jvm.Cond.selects "PondHouse$Kind" ({ cls := "java/lang/Object", name := "getClass", desc := "()Ljava/lang/Class;" } : Jvm.MethodName) ({ cls := "java/lang/Object", name := "getClass", desc := "()Ljava/lang/Class;" } : Jvm.MethodName)) ∈ lw_all := lw_g (lw_at lw_m3 38 rfl) rfl
theorem q867 : (Jvm.Cond.instanceMethod ({ cls := "PondHouse$Kind", name := "<init>", desc := "(LPondHouse$Draft;LPondHouse$Kind;I)V" } : Jvm.MethodName)) ∈ lw_all := lw_g (lw_at lw_m3 227 rfl) rfl
theorem q868 : (Jvm.Cond.code ({ cls := "PondHouse$Kind", name := "<init>", desc := "(LPondHouse$Draft;LPondHouse$Kind;I)V" } : Jvm.MethodName) prog_20_method_1_code (5 : Nat) (Option.none : Option Jvm.ClassFile.FieldType)) ∈ lw_all := lw_g (lw_at lw_m3 228 rfl) rfl
theorem q869 : (Jvm.Cond.methodLink "PondHouse$Kind" (3 : Nat) ({ cls := "java/lang/Object", name := "<init>", desc := "()V" } : Jvm.MethodName)) ∈ lw_all := lw_g (lw_at lw_m3 229 rfl) rfl
theorem q870 : (Jvm.Cond.methodLink "PondHouse$Kind" (32 : Nat) ({ cls := "java/util/Arrays", name := "copyOf", desc := "([II)[I" } : Jvm.MethodName)) ∈ lw_all := lw_g (lw_at lw_m3 230 rfl) rfl
theorem q880 : (Jvm.Cond.classLink "PondHouse$Kind" (61 : Nat) "PondHouse$Body") ∈ lw_all := lw_g (lw_at lw_m4 0 rfl) rfl
theorem q883 : (Jvm.Cond.methodLink "PondHouse$Kind" (74 : Nat) ({ cls := "PondHouse$Body", name := "<init>", desc := "(LPondHouse$Kind;ILPondHouse$Block;)V" } : Jvm.MethodName)) ∈ lw_all := lw_g (lw_at lw_m4 3 rfl) rfl
theorem q891 : (Jvm.Cond.fieldLink "PondHouse$Kind" (77 : Nat) "PondHouse$Body" "name" "I") ∈ lw_all := lw_g (lw_at lw_m4 11 rfl) rfl
theorem q905 : (Jvm.Cond.fieldLink "PondHouse$Kind" (15 : Nat) "PondHouse$Kind" "name" "I") ∈ lw_all := lw_g (lw_at lw_m4 25 rfl) rfl
theorem q908 : (Jvm.Cond.fieldLink "PondHouse$Kind" (22 : Nat) "PondHouse$Kind" "generation" "I") ∈ lw_all := lw_g (lw_at lw_m4 28 rfl) rfl
theorem q910 : (Jvm.Cond.fieldLink "PondHouse$Kind" (18 : Nat) "PondHouse$Kind" "above" "LPondHouse$Kind;") ∈ lw_all := lw_g (lw_at lw_m4 30 rfl) rfl
theorem q914 : (Jvm.Cond.fieldLink "PondHouse$Kind" (38 : Nat) "PondHouse$Kind" "fields" "[I") ∈ lw_all := lw_g (lw_at lw_m4 34 rfl) rfl
theorem q917 : (Jvm.Cond.fieldLink "PondHouse$Kind" (42 : Nat) "PondHouse$Kind" "firsts" "[I") ∈ lw_all := lw_g (lw_at lw_m4 37 rfl) rfl
theorem q919 : (Jvm.Cond.fieldLink "PondHouse$Kind" (53 : Nat) "PondHouse$Kind" "statics" "[I") ∈ lw_all := lw_g (lw_at lw_m4 39 rfl) rfl
theorem q922 : (Jvm.Cond.fieldLink "PondHouse$Kind" (57 : Nat) "PondHouse$Kind" "fixed" "[I") ∈ lw_all := lw_g (lw_at lw_m4 42 rfl) rfl
theorem q925 : (Jvm.Cond.fieldLink "PondHouse$Kind" (46 : Nat) "PondHouse$Kind" "from" "[I") ∈ lw_all := lw_g (lw_at lw_m4 45 rfl) rfl
theorem q926 : (Jvm.Cond.fieldLink "PondHouse$Kind" (63 : Nat) "PondHouse$Kind" "bodies" "[LPondHouse$Body;") ∈ lw_all := lw_g (lw_at lw_m4 46 rfl) rfl
theorem q929 : (Jvm.Cond.laysFinal "PondHouse$Kind" "PondHouse$Kind" "name" "I") ∈ lw_all := lw_g (lw_at lw_m4 49 rfl) rfl
theorem q930 : (Jvm.Cond.soleField "PondHouse$Kind" "name") ∈ lw_all := lw_g (lw_at lw_m4 50 rfl) rfl
theorem q931 : (Jvm.Cond.laysFinal "PondHouse$Kind" "PondHouse$Kind" "generation" "I") ∈ lw_all := lw_g (lw_at lw_m4 51 rfl) rfl
theorem q932 : (Jvm.Cond.soleField "PondHouse$Kind" "generation") ∈ lw_all := lw_g (lw_at lw_m4 52 rfl) rfl
theorem q933 : (Jvm.Cond.laysFinal "PondHouse$Kind" "PondHouse$Kind" "above" "LPondHouse$Kind;") ∈ lw_all := lw_g (lw_at lw_m4 53 rfl) rfl
theorem q934 : (Jvm.Cond.soleField "PondHouse$Kind" "above") ∈ lw_all := lw_g (lw_at lw_m4 54 rfl) rfl
theorem q935 : (Jvm.Cond.laysFinal "PondHouse$Kind" "PondHouse$Kind" "fields" "[I") ∈ lw_all := lw_g (lw_at lw_m4 55 rfl) rfl
theorem q936 : (Jvm.Cond.soleField "PondHouse$Kind" "fields") ∈ lw_all := lw_g (lw_at lw_m4 56 rfl) rfl
theorem q937 : (Jvm.Cond.laysFinal "PondHouse$Kind" "PondHouse$Kind" "firsts" "[I") ∈ lw_all := lw_g (lw_at lw_m4 57 rfl) rfl
theorem q938 : (Jvm.Cond.soleField "PondHouse$Kind" "firsts") ∈ lw_all := lw_g (lw_at lw_m4 58 rfl) rfl
theorem q939 : (Jvm.Cond.laysFinal "PondHouse$Kind" "PondHouse$Kind" "statics" "[I") ∈ lw_all := lw_g (lw_at lw_m4 59 rfl) rfl
theorem q940 : (Jvm.Cond.soleField "PondHouse$Kind" "statics") ∈ lw_all := lw_g (lw_at lw_m4 60 rfl) rfl
theorem q941 : (Jvm.Cond.laysFinal "PondHouse$Kind" "PondHouse$Kind" "fixed" "[I") ∈ lw_all := lw_g (lw_at lw_m4 61 rfl) rfl
theorem q942 : (Jvm.Cond.soleField "PondHouse$Kind" "fixed") ∈ lw_all := lw_g (lw_at lw_m4 62 rfl) rfl
theorem q943 : (Jvm.Cond.laysFinal "PondHouse$Kind" "PondHouse$Kind" "from" "[I") ∈ lw_all := lw_g (lw_at lw_m4 63 rfl) rfl
theorem q944 : (Jvm.Cond.soleField "PondHouse$Kind" "from") ∈ lw_all := lw_g (lw_at lw_m4 64 rfl) rfl
theorem q945 : (Jvm.Cond.laysFinal "PondHouse$Kind" "PondHouse$Kind" "bodies" "[LPondHouse$Body;") ∈ lw_all := lw_g (lw_at lw_m4 65 rfl) rfl
theorem q946 : (Jvm.Cond.soleField "PondHouse$Kind" "bodies") ∈ lw_all := lw_g (lw_at lw_m4 66 rfl) rfl
theorem q947 : (Jvm.Cond.superclass "PondHouse$Kind" "java/lang/Object") ∈ lw_all := lw_g (lw_at lw_m4 67 rfl) rfl
theorem q952 : (Jvm.Cond.instanceMethod ({ cls := "PondHouse$Kind", name := "hasOwn", desc := "(I)Z" } : Jvm.MethodName)) ∈ lw_all := lw_g (lw_at lw_m4 72 rfl) rfl
theorem q953 : (Jvm.Cond.selects "PondHouse$Kind" ({ cls := "PondHouse$Kind", name := "hasOwn", desc := "(I)Z" } : Jvm.MethodName) ({ cls := "PondHouse$Kind", name := "hasOwn", desc := "(I)Z" } : Jvm.MethodName)) ∈ lw_all := lw_g (lw_at lw_m4 73 rfl) rfl
theorem q954 : (Jvm.Cond.code ({ cls := "PondHouse$Kind", name := "hasOwn", desc := "(I)Z" } : Jvm.MethodName) prog_20_method_10_code (6 : Nat) (Option.some Jvm.ClassFile.FieldType.boolean)) ∈ lw_all := lw_g (lw_at lw_m4 74 rfl) rfl
theorem q969 : (Jvm.Cond.instanceMethod ({ cls := "PondHouse$Kind", name := "isUnder", desc := "(I)Z" } : Jvm.MethodName)) ∈ lw_all := lw_g (lw_at lw_m4 89 rfl) rfl
theorem q970 : (Jvm.Cond.selects "PondHouse$Kind" ({ cls := "PondHouse$Kind", name := "isUnder", desc := "(I)Z" } : Jvm.MethodName) ({ cls := "PondHouse$Kind", name := "isUnder", desc := "(I)Z" } : Jvm.MethodName)) ∈ lw_all := lw_g (lw_at lw_m4 90 rfl) rfl
theorem q971 : (Jvm.Cond.code ({ cls := "PondHouse$Kind", name := "isUnder", desc := "(I)Z" } : Jvm.MethodName) prog_20_method_12_code (2 : Nat) (Option.some Jvm.ClassFile.FieldType.boolean)) ∈ lw_all := lw_g (lw_at lw_m4 91 rfl) rfl
theorem q972 : (Jvm.Cond.methodLink "PondHouse$Kind" (97 : Nat) ({ cls := "PondHouse$Kind", name := "isUnder", desc := "(I)Z" } : Jvm.MethodName)) ∈ lw_all := lw_g (lw_at lw_m4 92 rfl) rfl
theorem q3089 : (Jvm.Cond.castable "PondHouse$Kind" "java/lang/Object") ∈ lw_tbl := lw_at lw_m13 49 rfl
theorem in_X23 : ∀ w ∈ wsX230, w ∈ lw_all := lw_in wsX230 [929, 931, 933, 935, 937, 939, 941, 943, 945] (by decide +kernel) (by decide +kernel)

/-! PondHouse$Body -/
set_option maxRecDepth 100000
def RX24 : String := "PondHouse$Body"
def TX24 : u_T := fun k => match k with
  | 0 => ("PondHouse$Body", "kind", "LPondHouse$Kind;", true)
  | 1 => ("PondHouse$Body", "name", "I", true)
  | _ => ("PondHouse$Body", "block", "LPondHouse$Block;", true)
def tyX24 : Nat → FieldType := fun k => match k with
  | 0 => .object "PondHouse$Kind"
  | 1 => .int
  | _ => .object "PondHouse$Block"
abbrev wsX240 : List Cond := u_ws RX24 TX24 3
theorem nmX24 : ∀ a, a < 3 → ∀ b, b < 3 → a ≠ b → (TX24 a).2.1 ≠ (TX24 b).2.1 := by decide +kernel
theorem tyX24_ok : ∀ k, k < 3 → parseFieldDescriptor (TX24 k).2.2.1 = some (tyX24 k) := by decide +kernel
abbrev cX24_init : ByteArray := prog_3_method_1_code
def yX24_init : MethodName := ⟨RX24, "<init>", "(LPondHouse$Kind;ILPondHouse$Block;)V"⟩
def dkwX24_init_0 : List UInt8 := [42, 183, 0, 1, 42, 43, 181, 0, 7, 42, 28, 181, 0, 13, 42, 45, 181, 0, 17, 177]
abbrev dktX24_init_0 : List UInt8 := dkwX24_init_0 ++ []
theorem dksX24_init_0 : cX24_init.data.toList.drop 0 = dktX24_init_0 := by decide +kernel
theorem dX24_init_0 : decode cX24_init 0 = .ok (.aload_n 0, 1) := dk_42 (dk_at dksX24_init_0 0 rfl rfl)
theorem dX24_init_1 : decode cX24_init 1 = .ok (.invokespecial 1, 3) := dk_183 0 1 (dk_at dksX24_init_0 1 rfl rfl)
theorem dX24_init_4 : decode cX24_init 4 = .ok (.aload_n 0, 1) := dk_42 (dk_at dksX24_init_0 4 rfl rfl)
theorem dX24_init_5 : decode cX24_init 5 = .ok (.aload_n 1, 1) := dk_43 (dk_at dksX24_init_0 5 rfl rfl)
theorem dX24_init_6 : decode cX24_init 6 = .ok (.putfield 7, 3) := dk_181 0 7 (dk_at dksX24_init_0 6 rfl rfl)
theorem dX24_init_9 : decode cX24_init 9 = .ok (.aload_n 0, 1) := dk_42 (dk_at dksX24_init_0 9 rfl rfl)
theorem dX24_init_10 : decode cX24_init 10 = .ok (.iload_n 2, 1) := dk_28 (dk_at dksX24_init_0 10 rfl rfl)
theorem dX24_init_11 : decode cX24_init 11 = .ok (.putfield 13, 3) := dk_181 0 13 (dk_at dksX24_init_0 11 rfl rfl)
theorem dX24_init_14 : decode cX24_init 14 = .ok (.aload_n 0, 1) := dk_42 (dk_at dksX24_init_0 14 rfl rfl)
theorem dX24_init_15 : decode cX24_init 15 = .ok (.aload_n 3, 1) := dk_45 (dk_at dksX24_init_0 15 rfl rfl)
theorem dX24_init_16 : decode cX24_init 16 = .ok (.putfield 17, 3) := dk_181 0 17 (dk_at dksX24_init_0 16 rfl rfl)
theorem dX24_init_19 : decode cX24_init 19 = .ok (.return_, 1) := dk_177 (dk_at dksX24_init_0 19 rfl rfl)
theorem q202 : (Jvm.Cond.initialized "PondHouse$Body") ∈ lw_all := lw_g (lw_at lw_m1 42 rfl) rfl
theorem q662 : (Jvm.Cond.selects "PondHouse$Body" ({ cls := "java/lang/Object", name := "getClass", desc := "()Ljava/lang/Class;" } : Jvm.MethodName) ({ cls := "java/lang/Object", name := "getClass", desc := "()Ljava/lang/Class;" } : Jvm.MethodName)) ∈ lw_all := lw_g (lw_at lw_m3 22 rfl) rfl
theorem q882 : (Jvm.Cond.instantiable "PondHouse$Body" (3 : Nat)) ∈ lw_all := lw_g (lw_at lw_m4 2 rfl) rfl
theorem q884 : (Jvm.Cond.instanceMethod ({ cls := "PondHouse$Body", name := "<init>", desc := "(LPondHouse$Kind;ILPondHouse$Block;)V" } : Jvm.MethodName)) ∈ lw_all := lw_g (lw_at lw_m4 4 rfl) rfl
theorem q885 : (Jvm.Cond.code ({ cls := "PondHouse$Body", name := "<init>", desc := "(LPondHouse$Kind;ILPondHouse$Block;)V" } : Jvm.MethodName) prog_3_method_1_code (4 : Nat) (Option.none : Option Jvm.ClassFile.FieldType)) ∈ lw_all := lw_g (lw_at lw_m4 5 rfl) rfl
theorem q886 : (Jvm.Cond.methodLink "PondHouse$Body" (1 : Nat) ({ cls := "java/lang/Object", name := "<init>", desc := "()V" } : Jvm.MethodName)) ∈ lw_all := lw_g (lw_at lw_m4 6 rfl) rfl
theorem q887 : (Jvm.Cond.fieldLink "PondHouse$Body" (7 : Nat) "PondHouse$Body" "kind" "LPondHouse$Kind;") ∈ lw_all := lw_g (lw_at lw_m4 7 rfl) rfl
theorem q890 : (Jvm.Cond.fieldLink "PondHouse$Body" (13 : Nat) "PondHouse$Body" "name" "I") ∈ lw_all := lw_g (lw_at lw_m4 10 rfl) rfl
theorem q895 : (Jvm.Cond.fieldLink "PondHouse$Body" (17 : Nat) "PondHouse$Body" "block" "LPondHouse$Block;") ∈ lw_all := lw_g (lw_at lw_m4 15 rfl) rfl
theorem q898 : (Jvm.Cond.laysFinal "PondHouse$Body" "PondHouse$Body" "kind" "LPondHouse$Kind;") ∈ lw_all := lw_g (lw_at lw_m4 18 rfl) rfl
theorem q899 : (Jvm.Cond.soleField "PondHouse$Body" "kind") ∈ lw_all := lw_g (lw_at lw_m4 19 rfl) rfl
theorem q900 : (Jvm.Cond.laysFinal "PondHouse$Body" "PondHouse$Body" "name" "I") ∈ lw_all := lw_g (lw_at lw_m4 20 rfl) rfl
theorem q901 : (Jvm.Cond.soleField "PondHouse$Body" "name") ∈ lw_all := lw_g (lw_at lw_m4 21 rfl) rfl
theorem q902 : (Jvm.Cond.laysFinal "PondHouse$Body" "PondHouse$Body" "block" "LPondHouse$Block;") ∈ lw_all := lw_g (lw_at lw_m4 22 rfl) rfl
theorem q903 : (Jvm.Cond.soleField "PondHouse$Body" "block") ∈ lw_all := lw_g (lw_at lw_m4 23 rfl) rfl
theorem q904 : (Jvm.Cond.superclass "PondHouse$Body" "java/lang/Object") ∈ lw_all := lw_g (lw_at lw_m4 24 rfl) rfl
theorem q3090 : (Jvm.Cond.castable "PondHouse$Body" "java/lang/Object") ∈ lw_tbl := lw_at lw_m13 50 rfl
theorem in_X24 : ∀ w ∈ wsX240, w ∈ lw_all := lw_in wsX240 [898, 900, 902] (by decide +kernel) (by decide +kernel)

/-! PondHouse$Fixed -/
set_option maxRecDepth 100000
def RX25 : String := "PondHouse$Fixed"
def TX25 : u_T := fun k => match k with
  | 0 => ("PondHouse$Fixed", "kind", "I", true)
  | 1 => ("PondHouse$Fixed", "name", "I", true)
  | _ => ("PondHouse$Fixed", "value", "I", false)
def tyX25 : Nat → FieldType := fun k => match k with
  | 0 => .int
  | 1 => .int
  | _ => .int
abbrev wsX250 : List Cond := u_ws RX25 TX25 3
theorem nmX25 : ∀ a, a < 3 → ∀ b, b < 3 → a ≠ b → (TX25 a).2.1 ≠ (TX25 b).2.1 := by decide +kernel
theorem tyX25_ok : ∀ k, k < 3 → parseFieldDescriptor (TX25 k).2.2.1 = some (tyX25 k) := by decide +kernel
abbrev cX25_init : ByteArray := prog_16_method_1_code
def yX25_init : MethodName := ⟨RX25, "<init>", "(III)V"⟩
def dkwX25_init_0 : List UInt8 := [42, 183, 0, 1, 42, 27, 181, 0, 7, 42, 28, 181, 0, 13, 42, 29, 181, 0, 16, 177]
abbrev dktX25_init_0 : List UInt8 := dkwX25_init_0 ++ []
theorem dksX25_init_0 : cX25_init.data.toList.drop 0 = dktX25_init_0 := by decide +kernel
theorem dX25_init_0 : decode cX25_init 0 = .ok (.aload_n 0, 1) := dk_42 (dk_at dksX25_init_0 0 rfl rfl)
theorem dX25_init_1 : decode cX25_init 1 = .ok (.invokespecial 1, 3) := dk_183 0 1 (dk_at dksX25_init_0 1 rfl rfl)
theorem dX25_init_4 : decode cX25_init 4 = .ok (.aload_n 0, 1) := dk_42 (dk_at dksX25_init_0 4 rfl rfl)
theorem dX25_init_5 : decode cX25_init 5 = .ok (.iload_n 1, 1) := dk_27 (dk_at dksX25_init_0 5 rfl rfl)
theorem dX25_init_6 : decode cX25_init 6 = .ok (.putfield 7, 3) := dk_181 0 7 (dk_at dksX25_init_0 6 rfl rfl)
theorem dX25_init_9 : decode cX25_init 9 = .ok (.aload_n 0, 1) := dk_42 (dk_at dksX25_init_0 9 rfl rfl)
theorem dX25_init_10 : decode cX25_init 10 = .ok (.iload_n 2, 1) := dk_28 (dk_at dksX25_init_0 10 rfl rfl)
theorem dX25_init_11 : decode cX25_init 11 = .ok (.putfield 13, 3) := dk_181 0 13 (dk_at dksX25_init_0 11 rfl rfl)
theorem dX25_init_14 : decode cX25_init 14 = .ok (.aload_n 0, 1) := dk_42 (dk_at dksX25_init_0 14 rfl rfl)
theorem dX25_init_15 : decode cX25_init 15 = .ok (.iload_n 3, 1) := dk_29 (dk_at dksX25_init_0 15 rfl rfl)
theorem dX25_init_16 : decode cX25_init 16 = .ok (.putfield 16, 3) := dk_181 0 16 (dk_at dksX25_init_0 16 rfl rfl)
theorem dX25_init_19 : decode cX25_init 19 = .ok (.return_, 1) := dk_177 (dk_at dksX25_init_0 19 rfl rfl)
theorem q203 : (Jvm.Cond.initialized "PondHouse$Fixed") ∈ lw_all := lw_g (lw_at lw_m1 43 rfl) rfl
theorem q674 : (Jvm.Cond.selects "PondHouse$Fixed" ({ cls := "java/lang/Object", name := "getClass", desc := "()Ljava/lang/Class;" } : Jvm.MethodName) ({ cls := "java/lang/Object", name := "getClass", desc := "()Ljava/lang/Class;" } : Jvm.MethodName)) ∈ lw_all := lw_g (lw_at lw_m3 34 rfl) rfl
theorem q998 : (Jvm.Cond.instantiable "PondHouse$Fixed" (3 : Nat)) ∈ lw_all := lw_g (lw_at lw_m4 118 rfl) rfl
theorem q1000 : (Jvm.Cond.instanceMethod ({ cls := "PondHouse$Fixed", name := "<init>", desc := "(III)V" } : Jvm.MethodName)) ∈ lw_all := lw_g (lw_at lw_m4 120 rfl) rfl
theorem q1001 : (Jvm.Cond.code ({ cls := "PondHouse$Fixed", name := "<init>", desc := "(III)V" } : Jvm.MethodName) prog_16_method_1_code (4 : Nat) (Option.none : Option Jvm.ClassFile.FieldType)) ∈ lw_all := lw_g (lw_at lw_m4 121 rfl) rfl
theorem q1002 : (Jvm.Cond.methodLink "PondHouse$Fixed" (1 : Nat) ({ cls := "java/lang/Object", name := "<init>", desc := "()V" } : Jvm.MethodName)) ∈ lw_all := lw_g (lw_at lw_m4 122 rfl) rfl
theorem q1003 : (Jvm.Cond.fieldLink "PondHouse$Fixed" (7 : Nat) "PondHouse$Fixed" "kind" "I") ∈ lw_all := lw_g (lw_at lw_m4 123 rfl) rfl
theorem q1005 : (Jvm.Cond.fieldLink "PondHouse$Fixed" (13 : Nat) "PondHouse$Fixed" "name" "I") ∈ lw_all := lw_g (lw_at lw_m4 125 rfl) rfl
theorem q1007 : (Jvm.Cond.fieldLink "PondHouse$Fixed" (16 : Nat) "PondHouse$Fixed" "value" "I") ∈ lw_all := lw_g (lw_at lw_m4 127 rfl) rfl
theorem q1010 : (Jvm.Cond.laysFinal "PondHouse$Fixed" "PondHouse$Fixed" "kind" "I") ∈ lw_all := lw_g (lw_at lw_m4 130 rfl) rfl
theorem q1011 : (Jvm.Cond.soleField "PondHouse$Fixed" "kind") ∈ lw_all := lw_g (lw_at lw_m4 131 rfl) rfl
theorem q1012 : (Jvm.Cond.laysFinal "PondHouse$Fixed" "PondHouse$Fixed" "name" "I") ∈ lw_all := lw_g (lw_at lw_m4 132 rfl) rfl
theorem q1013 : (Jvm.Cond.soleField "PondHouse$Fixed" "name") ∈ lw_all := lw_g (lw_at lw_m4 133 rfl) rfl
theorem q1014 : (Jvm.Cond.lays "PondHouse$Fixed" "PondHouse$Fixed" "value" "I") ∈ lw_all := lw_g (lw_at lw_m4 134 rfl) rfl
theorem q1015 : (Jvm.Cond.soleField "PondHouse$Fixed" "value") ∈ lw_all := lw_g (lw_at lw_m4 135 rfl) rfl
theorem q1016 : (Jvm.Cond.superclass "PondHouse$Fixed" "java/lang/Object") ∈ lw_all := lw_g (lw_at lw_m4 136 rfl) rfl
theorem q3087 : (Jvm.Cond.castable "PondHouse$Fixed" "java/lang/Object") ∈ lw_tbl := lw_at lw_m13 47 rfl
theorem in_X25 : ∀ w ∈ wsX250, w ∈ lw_all := lw_in wsX250 [1010, 1012, 1014] (by decide +kernel) (by decide +kernel)

/-! PondHouse$Patch -/
set_option maxRecDepth 100000
def RX26 : String := "PondHouse$Patch"
def TX26 : u_T := fun k => match k with
  | 0 => ("PondHouse$Patch", "changes", "LPondHouse$Row;", true)
  | 1 => ("PondHouse$Patch", "state", "I", false)
  | _ => ("PondHouse$Patch", "waited", "I", false)
def tyX26 : Nat → FieldType := fun k => match k with
  | 0 => .object "PondHouse$Row"
  | 1 => .int
  | _ => .int
abbrev wsX260 : List Cond := u_ws RX26 TX26 3
theorem nmX26 : ∀ a, a < 3 → ∀ b, b < 3 → a ≠ b → (TX26 a).2.1 ≠ (TX26 b).2.1 := by decide +kernel
theorem tyX26_ok : ∀ k, k < 3 → parseFieldDescriptor (TX26 k).2.2.1 = some (tyX26 k) := by decide +kernel
abbrev cX26_init : ByteArray := prog_27_method_1_code
def yX26_init : MethodName := ⟨RX26, "<init>", "(LPondHouse$Row;)V"⟩
def dkwX26_init_0 : List UInt8 := [42, 183, 0, 1, 42, 43, 181, 0, 7, 177]
abbrev dktX26_init_0 : List UInt8 := dkwX26_init_0 ++ []
theorem dksX26_init_0 : cX26_init.data.toList.drop 0 = dktX26_init_0 := by decide +kernel
theorem dX26_init_0 : decode cX26_init 0 = .ok (.aload_n 0, 1) := dk_42 (dk_at dksX26_init_0 0 rfl rfl)
theorem dX26_init_1 : decode cX26_init 1 = .ok (.invokespecial 1, 3) := dk_183 0 1 (dk_at dksX26_init_0 1 rfl rfl)
theorem dX26_init_4 : decode cX26_init 4 = .ok (.aload_n 0, 1) := dk_42 (dk_at dksX26_init_0 4 rfl rfl)
theorem dX26_init_5 : decode cX26_init 5 = .ok (.aload_n 1, 1) := dk_43 (dk_at dksX26_init_0 5 rfl rfl)
theorem dX26_init_6 : decode cX26_init 6 = .ok (.putfield 7, 3) := dk_181 0 7 (dk_at dksX26_init_0 6 rfl rfl)
theorem dX26_init_9 : decode cX26_init 9 = .ok (.return_, 1) := dk_177 (dk_at dksX26_init_0 9 rfl rfl)
theorem q204 : (Jvm.Cond.initialized "PondHouse$Patch") ∈ lw_all := lw_g (lw_at lw_m1 44 rfl) rfl
theorem q685 : (Jvm.Cond.selects "PondHouse$Patch" ({ cls := "java/lang/Object", name := "getClass", desc := "()Ljava/lang/Class;" } : Jvm.MethodName) ({ cls := "java/lang/Object", name := "getClass", desc := "()Ljava/lang/Class;" } : Jvm.MethodName)) ∈ lw_all := lw_g (lw_at lw_m3 45 rfl) rfl
theorem q2063 : (Jvm.Cond.instantiable "PondHouse$Patch" (3 : Nat)) ∈ lw_all := lw_g (lw_at lw_m8 223 rfl) rfl
theorem q2212 : (Jvm.Cond.instanceMethod ({ cls := "PondHouse$Patch", name := "<init>", desc := "(LPondHouse$Row;)V" } : Jvm.MethodName)) ∈ lw_all := lw_g (lw_at lw_m9 132 rfl) rfl
theorem q2213 : (Jvm.Cond.code ({ cls := "PondHouse$Patch", name := "<init>", desc := "(LPondHouse$Row;)V" } : Jvm.MethodName) prog_27_method_1_code (2 : Nat) (Option.none : Option Jvm.ClassFile.FieldType)) ∈ lw_all := lw_g (lw_at lw_m9 133 rfl) rfl
theorem q2214 : (Jvm.Cond.methodLink "PondHouse$Patch" (1 : Nat) ({ cls := "java/lang/Object", name := "<init>", desc := "()V" } : Jvm.MethodName)) ∈ lw_all := lw_g (lw_at lw_m9 134 rfl) rfl
theorem q2215 : (Jvm.Cond.fieldLink "PondHouse$Patch" (7 : Nat) "PondHouse$Patch" "changes" "LPondHouse$Row;") ∈ lw_all := lw_g (lw_at lw_m9 135 rfl) rfl
theorem q2219 : (Jvm.Cond.laysFinal "PondHouse$Patch" "PondHouse$Patch" "changes" "LPondHouse$Row;") ∈ lw_all := lw_g (lw_at lw_m9 139 rfl) rfl
theorem q2220 : (Jvm.Cond.soleField "PondHouse$Patch" "changes") ∈ lw_all := lw_g (lw_at lw_m9 140 rfl) rfl
theorem q2221 : (Jvm.Cond.lays "PondHouse$Patch" "PondHouse$Patch" "state" "I") ∈ lw_all := lw_g (lw_at lw_m9 141 rfl) rfl
theorem q2222 : (Jvm.Cond.soleField "PondHouse$Patch" "state") ∈ lw_all := lw_g (lw_at lw_m9 142 rfl) rfl
theorem q2223 : (Jvm.Cond.lays "PondHouse$Patch" "PondHouse$Patch" "waited" "I") ∈ lw_all := lw_g (lw_at lw_m9 143 rfl) rfl
theorem q2224 : (Jvm.Cond.soleField "PondHouse$Patch" "waited") ∈ lw_all := lw_g (lw_at lw_m9 144 rfl) rfl
theorem q2225 : (Jvm.Cond.superclass "PondHouse$Patch" "java/lang/Object") ∈ lw_all := lw_g (lw_at lw_m9 145 rfl) rfl
theorem q3094 : (Jvm.Cond.castable "PondHouse$Patch" "java/lang/Object") ∈ lw_tbl := lw_at lw_m13 54 rfl
theorem in_X26 : ∀ w ∈ wsX260, w ∈ lw_all := lw_in wsX260 [2219, 2221, 2223] (by decide +kernel) (by decide +kernel)

/-! PondHouse$Change -/
set_option maxRecDepth 100000
def RX27 : String := "PondHouse$Change"
abbrev cX27_needed : ByteArray := prog_6_method_3_code
def yX27_needed : MethodName := ⟨RX27, "needed", "(LPondHouse$Row;II)LPondHouse$Draft;"⟩
def dkwX27_needed_1 : List UInt8 := [25, 4, 176]
abbrev dktX27_needed_1 : List UInt8 := dkwX27_needed_1 ++ []
def dkwX27_needed_0 : List UInt8 := [43, 28, 184, 0, 19, 58, 4, 25, 4, 199, 0, 14, 42, 180, 0, 3, 4, 29, 2, 182, 0, 23, 191]
abbrev dktX27_needed_0 : List UInt8 := dkwX27_needed_0 ++ dktX27_needed_1
theorem dksX27_needed_0 : cX27_needed.data.toList.drop 0 = dktX27_needed_0 := by decide +kernel
theorem dksX27_needed_1 : cX27_needed.data.toList.drop 23 = dktX27_needed_1 := dk_seg dksX27_needed_0 23 rfl rfl
theorem dX27_needed_0 : decode cX27_needed 0 = .ok (.aload_n 1, 1) := dk_43 (dk_at dksX27_needed_0 0 rfl rfl)
theorem dX27_needed_1 : decode cX27_needed 1 = .ok (.iload_n 2, 1) := dk_28 (dk_at dksX27_needed_0 1 rfl rfl)
theorem dX27_needed_2 : decode cX27_needed 2 = .ok (.invokestatic 19, 3) := dk_184 0 19 (dk_at dksX27_needed_0 2 rfl rfl)
theorem dX27_needed_5 : decode cX27_needed 5 = .ok (.astore 4, 2) := dk_58 4 (dk_at dksX27_needed_0 5 rfl rfl)
theorem dX27_needed_7 : decode cX27_needed 7 = .ok (.aload 4, 2) := dk_25 4 (dk_at dksX27_needed_0 7 rfl rfl)
theorem dX27_needed_9 : decode cX27_needed 9 = .ok (.ifnonnull 14, 3) := dk_199 0 14 (dk_at dksX27_needed_0 9 rfl rfl)
theorem dX27_needed_12 : decode cX27_needed 12 = .ok (.aload_n 0, 1) := dk_42 (dk_at dksX27_needed_0 12 rfl rfl)
theorem dX27_needed_13 : decode cX27_needed 13 = .ok (.getfield 3, 3) := dk_180 0 3 (dk_at dksX27_needed_0 13 rfl rfl)
theorem dX27_needed_16 : decode cX27_needed 16 = .ok (.iconst 1, 1) := dk_4 (dk_at dksX27_needed_0 16 rfl rfl)
theorem dX27_needed_17 : decode cX27_needed 17 = .ok (.iload_n 3, 1) := dk_29 (dk_at dksX27_needed_0 17 rfl rfl)
theorem dX27_needed_18 : decode cX27_needed 18 = .ok (.iconst (-1), 1) := dk_2 (dk_at dksX27_needed_0 18 rfl rfl)
theorem dX27_needed_19 : decode cX27_needed 19 = .ok (.invokevirtual 23, 3) := dk_182 0 23 (dk_at dksX27_needed_0 19 rfl rfl)
theorem dX27_needed_22 : decode cX27_needed 22 = .ok (.athrow, 1) := dk_191 (dk_at dksX27_needed_0 22 rfl rfl)
theorem dX27_needed_23 : decode cX27_needed 23 = .ok (.aload 4, 2) := dk_25 4 (dk_at dksX27_needed_1 0 rfl rfl)
theorem dX27_needed_25 : decode cX27_needed 25 = .ok (.areturn, 1) := dk_176 (dk_at dksX27_needed_1 2 rfl rfl)
abbrev cX27_adds : ByteArray := prog_6_method_4_code
def yX27_adds : MethodName := ⟨RX27, "adds", "(LPondHouse$Draft;LPondHouse$Member;I)V"⟩
def dkwX27_adds_3 : List UInt8 := [153, 0, 15, 42, 180, 0, 3, 16, 7, 29, 2, 182, 0, 23, 191, 43, 44, 182, 0, 48, 177]
abbrev dktX27_adds_3 : List UInt8 := dkwX27_adds_3 ++ []
def dkwX27_adds_2 : List UInt8 := [180, 0, 3, 6, 29, 2, 182, 0, 23, 191, 21, 4, 154, 0, 26, 43, 44, 180, 0, 27, 182, 0, 45]
abbrev dktX27_adds_2 : List UInt8 := dkwX27_adds_2 ++ dktX27_adds_3
def dkwX27_adds_1 : List UInt8 := [3, 54, 4, 44, 180, 0, 27, 5, 159, 0, 25, 43, 44, 180, 0, 32, 182, 0, 41, 153, 0, 14, 42]
abbrev dktX27_adds_1 : List UInt8 := dkwX27_adds_1 ++ dktX27_adds_2
def dkwX27_adds_0 : List UInt8 := [44, 180, 0, 27, 5, 160, 0, 19, 43, 44, 180, 0, 32, 182, 0, 35, 2, 159, 0, 7, 4, 167, 0, 4]
abbrev dktX27_adds_0 : List UInt8 := dkwX27_adds_0 ++ dktX27_adds_1
theorem dksX27_adds_0 : cX27_adds.data.toList.drop 0 = dktX27_adds_0 := by decide +kernel
theorem dksX27_adds_1 : cX27_adds.data.toList.drop 24 = dktX27_adds_1 := dk_seg dksX27_adds_0 24 rfl rfl
theorem dksX27_adds_2 : cX27_adds.data.toList.drop 47 = dktX27_adds_2 := dk_seg dksX27_adds_1 23 rfl rfl
theorem dksX27_adds_3 : cX27_adds.data.toList.drop 70 = dktX27_adds_3 := dk_seg dksX27_adds_2 23 rfl rfl
theorem dX27_adds_0 : decode cX27_adds 0 = .ok (.aload_n 2, 1) := dk_44 (dk_at dksX27_adds_0 0 rfl rfl)
theorem dX27_adds_1 : decode cX27_adds 1 = .ok (.getfield 27, 3) := dk_180 0 27 (dk_at dksX27_adds_0 1 rfl rfl)
theorem dX27_adds_4 : decode cX27_adds 4 = .ok (.iconst 2, 1) := dk_5 (dk_at dksX27_adds_0 4 rfl rfl)
theorem dX27_adds_5 : decode cX27_adds 5 = .ok (.if_icmp .ne 19, 3) := dk_160 0 19 (dk_at dksX27_adds_0 5 rfl rfl)
theorem dX27_adds_8 : decode cX27_adds 8 = .ok (.aload_n 1, 1) := dk_43 (dk_at dksX27_adds_0 8 rfl rfl)
theorem dX27_adds_9 : decode cX27_adds 9 = .ok (.aload_n 2, 1) := dk_44 (dk_at dksX27_adds_0 9 rfl rfl)
theorem dX27_adds_10 : decode cX27_adds 10 = .ok (.getfield 32, 3) := dk_180 0 32 (dk_at dksX27_adds_0 10 rfl rfl)
theorem dX27_adds_13 : decode cX27_adds 13 = .ok (.invokevirtual 35, 3) := dk_182 0 35 (dk_at dksX27_adds_0 13 rfl rfl)
theorem dX27_adds_16 : decode cX27_adds 16 = .ok (.iconst (-1), 1) := dk_2 (dk_at dksX27_adds_0 16 rfl rfl)
theorem dX27_adds_17 : decode cX27_adds 17 = .ok (.if_icmp .eq 7, 3) := dk_159 0 7 (dk_at dksX27_adds_0 17 rfl rfl)
theorem dX27_adds_20 : decode cX27_adds 20 = .ok (.iconst 1, 1) := dk_4 (dk_at dksX27_adds_0 20 rfl rfl)
theorem dX27_adds_21 : decode cX27_adds 21 = .ok (.goto 4, 3) := dk_167 0 4 (dk_at dksX27_adds_0 21 rfl rfl)
theorem dX27_adds_24 : decode cX27_adds 24 = .ok (.iconst 0, 1) := dk_3 (dk_at dksX27_adds_1 0 rfl rfl)
theorem dX27_adds_25 : decode cX27_adds 25 = .ok (.istore 4, 2) := dk_54 4 (dk_at dksX27_adds_1 1 rfl rfl)
theorem dX27_adds_27 : decode cX27_adds 27 = .ok (.aload_n 2, 1) := dk_44 (dk_at dksX27_adds_1 3 rfl rfl)
theorem dX27_adds_28 : decode cX27_adds 28 = .ok (.getfield 27, 3) := dk_180 0 27 (dk_at dksX27_adds_1 4 rfl rfl)
theorem dX27_adds_31 : decode cX27_adds 31 = .ok (.iconst 2, 1) := dk_5 (dk_at dksX27_adds_1 7 rfl rfl)
theorem dX27_adds_32 : decode cX27_adds 32 = .ok (.if_icmp .eq 25, 3) := dk_159 0 25 (dk_at dksX27_adds_1 8 rfl rfl)
theorem dX27_adds_35 : decode cX27_adds 35 = .ok (.aload_n 1, 1) := dk_43 (dk_at dksX27_adds_1 11 rfl rfl)
theorem dX27_adds_36 : decode cX27_adds 36 = .ok (.aload_n 2, 1) := dk_44 (dk_at dksX27_adds_1 12 rfl rfl)
theorem dX27_adds_37 : decode cX27_adds 37 = .ok (.getfield 32, 3) := dk_180 0 32 (dk_at dksX27_adds_1 13 rfl rfl)
theorem dX27_adds_40 : decode cX27_adds 40 = .ok (.invokevirtual 41, 3) := dk_182 0 41 (dk_at dksX27_adds_1 16 rfl rfl)
theorem dX27_adds_43 : decode cX27_adds 43 = .ok (.ifCond .eq 14, 3) := dk_153 0 14 (dk_at dksX27_adds_1 19 rfl rfl)
theorem dX27_adds_46 : decode cX27_adds 46 = .ok (.aload_n 0, 1) := dk_42 (dk_at dksX27_adds_1 22 rfl rfl)
theorem dX27_adds_47 : decode cX27_adds 47 = .ok (.getfield 3, 3) := dk_180 0 3 (dk_at dksX27_adds_2 0 rfl rfl)
theorem dX27_adds_50 : decode cX27_adds 50 = .ok (.iconst 3, 1) := dk_6 (dk_at dksX27_adds_2 3 rfl rfl)
theorem dX27_adds_51 : decode cX27_adds 51 = .ok (.iload_n 3, 1) := dk_29 (dk_at dksX27_adds_2 4 rfl rfl)
theorem dX27_adds_52 : decode cX27_adds 52 = .ok (.iconst (-1), 1) := dk_2 (dk_at dksX27_adds_2 5 rfl rfl)
theorem dX27_adds_53 : decode cX27_adds 53 = .ok (.invokevirtual 23, 3) := dk_182 0 23 (dk_at dksX27_adds_2 6 rfl rfl)
theorem dX27_adds_56 : decode cX27_adds 56 = .ok (.athrow, 1) := dk_191 (dk_at dksX27_adds_2 9 rfl rfl)
theorem dX27_adds_57 : decode cX27_adds 57 = .ok (.iload 4, 2) := dk_21 4 (dk_at dksX27_adds_2 10 rfl rfl)
theorem dX27_adds_59 : decode cX27_adds 59 = .ok (.ifCond .ne 26, 3) := dk_154 0 26 (dk_at dksX27_adds_2 12 rfl rfl)
theorem dX27_adds_62 : decode cX27_adds 62 = .ok (.aload_n 1, 1) := dk_43 (dk_at dksX27_adds_2 15 rfl rfl)
theorem dX27_adds_63 : decode cX27_adds 63 = .ok (.aload_n 2, 1) := dk_44 (dk_at dksX27_adds_2 16 rfl rfl)
theorem dX27_adds_64 : decode cX27_adds 64 = .ok (.getfield 27, 3) := dk_180 0 27 (dk_at dksX27_adds_2 17 rfl rfl)
theorem dX27_adds_67 : decode cX27_adds 67 = .ok (.invokevirtual 45, 3) := dk_182 0 45 (dk_at dksX27_adds_2 20 rfl rfl)
theorem dX27_adds_70 : decode cX27_adds 70 = .ok (.ifCond .eq 15, 3) := dk_153 0 15 (dk_at dksX27_adds_3 0 rfl rfl)
theorem dX27_adds_73 : decode cX27_adds 73 = .ok (.aload_n 0, 1) := dk_42 (dk_at dksX27_adds_3 3 rfl rfl)
theorem dX27_adds_74 : decode cX27_adds 74 = .ok (.getfield 3, 3) := dk_180 0 3 (dk_at dksX27_adds_3 4 rfl rfl)
theorem dX27_adds_77 : decode cX27_adds 77 = .ok (.bipush 7, 2) := dk_16 7 (dk_at dksX27_adds_3 7 rfl rfl)
theorem dX27_adds_79 : decode cX27_adds 79 = .ok (.iload_n 3, 1) := dk_29 (dk_at dksX27_adds_3 9 rfl rfl)
theorem dX27_adds_80 : decode cX27_adds 80 = .ok (.iconst (-1), 1) := dk_2 (dk_at dksX27_adds_3 10 rfl rfl)
theorem dX27_adds_81 : decode cX27_adds 81 = .ok (.invokevirtual 23, 3) := dk_182 0 23 (dk_at dksX27_adds_3 11 rfl rfl)
theorem dX27_adds_84 : decode cX27_adds 84 = .ok (.athrow, 1) := dk_191 (dk_at dksX27_adds_3 14 rfl rfl)
theorem dX27_adds_85 : decode cX27_adds 85 = .ok (.aload_n 1, 1) := dk_43 (dk_at dksX27_adds_3 15 rfl rfl)
theorem dX27_adds_86 : decode cX27_adds 86 = .ok (.aload_n 2, 1) := dk_44 (dk_at dksX27_adds_3 16 rfl rfl)
theorem dX27_adds_87 : decode cX27_adds 87 = .ok (.invokevirtual 48, 3) := dk_182 0 48 (dk_at dksX27_adds_3 17 rfl rfl)
theorem dX27_adds_90 : decode cX27_adds 90 = .ok (.return_, 1) := dk_177 (dk_at dksX27_adds_3 20 rfl rfl)
abbrev cX27_init : ByteArray := prog_6_method_1_code
def yX27_init : MethodName := ⟨RX27, "<init>", "(LPondHouse;I)V"⟩
def dkwX27_init_0 : List UInt8 := [42, 43, 181, 0, 3, 42, 183, 0, 9, 42, 28, 181, 0, 15, 177]
abbrev dktX27_init_0 : List UInt8 := dkwX27_init_0 ++ []
theorem dksX27_init_0 : cX27_init.data.toList.drop 0 = dktX27_init_0 := by decide +kernel
theorem dX27_init_0 : decode cX27_init 0 = .ok (.aload_n 0, 1) := dk_42 (dk_at dksX27_init_0 0 rfl rfl)
theorem dX27_init_1 : decode cX27_init 1 = .ok (.aload_n 1, 1) := dk_43 (dk_at dksX27_init_0 1 rfl rfl)
theorem dX27_init_2 : decode cX27_init 2 = .ok (.putfield 3, 3) := dk_181 0 3 (dk_at dksX27_init_0 2 rfl rfl)
theorem dX27_init_5 : decode cX27_init 5 = .ok (.aload_n 0, 1) := dk_42 (dk_at dksX27_init_0 5 rfl rfl)
theorem dX27_init_6 : decode cX27_init 6 = .ok (.invokespecial 9, 3) := dk_183 0 9 (dk_at dksX27_init_0 6 rfl rfl)
theorem dX27_init_9 : decode cX27_init 9 = .ok (.aload_n 0, 1) := dk_42 (dk_at dksX27_init_0 9 rfl rfl)
theorem dX27_init_10 : decode cX27_init 10 = .ok (.iload_n 2, 1) := dk_28 (dk_at dksX27_init_0 10 rfl rfl)
theorem dX27_init_11 : decode cX27_init 11 = .ok (.putfield 15, 3) := dk_181 0 15 (dk_at dksX27_init_0 11 rfl rfl)
theorem dX27_init_14 : decode cX27_init 14 = .ok (.return_, 1) := dk_177 (dk_at dksX27_init_0 14 rfl rfl)
theorem q205 : (Jvm.Cond.initialized "PondHouse$Change") ∈ lw_all := lw_g (lw_at lw_m1 45 rfl) rfl
theorem q737 : (Jvm.Cond.declares ({ cls := "PondHouse$Change", name := "makes", desc := "(LPondHouse$Row;I)V" } : Jvm.MethodName)) ∈ lw_tbl := lw_at lw_m3 97 rfl
theorem q738 : (Jvm.Cond.sameMethod "PondHouse$Change" "PondHouse$Change" "makes" "(LPondHouse$Row;I)V") ∈ lw_all := lw_g (lw_at lw_m3 98 rfl) rfl
theorem q744 : (Jvm.Cond.declares ({ cls := "PondHouse$Change", name := "needed", desc := "(LPondHouse$Row;II)LPondHouse$Draft;" } : Jvm.MethodName)) ∈ lw_tbl := lw_at lw_m3 104 rfl
theorem q746 : (Jvm.Cond.instanceMethod ({ cls := "PondHouse$Change", name := "needed", desc := "(LPondHouse$Row;II)LPondHouse$Draft;" } : Jvm.MethodName)) ∈ lw_all := lw_g (lw_at lw_m3 106 rfl) rfl
theorem q747 : (Jvm.Cond.code ({ cls := "PondHouse$Change", name := "needed", desc := "(LPondHouse$Row;II)LPondHouse$Draft;" } : Jvm.MethodName) prog_6_method_3_code (5 : Nat) (Option.some (Jvm.ClassFile.FieldType.object "PondHouse$Draft"))) ∈ lw_all := lw_g (lw_at lw_m3 107 rfl) rfl
theorem q748 : (Jvm.Cond.methodLinkNest "PondHouse$Change" (19 : Nat) ({ cls := "PondHouse", name := "draft", desc := "(LPondHouse$Row;I)LPondHouse$Draft;" } : Jvm.MethodName) "PondHouse") ∈ lw_tbl := lw_at lw_m3 108 rfl
theorem q751 : (Jvm.Cond.methodLinkNest "PondHouse$Change" (23 : Nat) ({ cls := "PondHouse", name := "refuses", desc := "(III)LPondHouse$Refusal;" } : Jvm.MethodName) "PondHouse") ∈ lw_tbl := lw_at lw_m3 111 rfl
theorem q771 : (Jvm.Cond.declares ({ cls := "PondHouse$Change", name := "adds", desc := "(LPondHouse$Draft;LPondHouse$Member;I)V" } : Jvm.MethodName)) ∈ lw_tbl := lw_at lw_m3 131 rfl
theorem q773 : (Jvm.Cond.instanceMethod ({ cls := "PondHouse$Change", name := "adds", desc := "(LPondHouse$Draft;LPondHouse$Member;I)V" } : Jvm.MethodName)) ∈ lw_all := lw_g (lw_at lw_m3 133 rfl) rfl
theorem q774 : (Jvm.Cond.code ({ cls := "PondHouse$Change", name := "adds", desc := "(LPondHouse$Draft;LPondHouse$Member;I)V" } : Jvm.MethodName) prog_6_method_4_code (5 : Nat) (Option.none : Option Jvm.ClassFile.FieldType)) ∈ lw_all := lw_g (lw_at lw_m3 134 rfl) rfl
theorem q775 : (Jvm.Cond.methodLink "PondHouse$Change" (35 : Nat) ({ cls := "PondHouse$Draft", name := "act", desc := "(I)I" } : Jvm.MethodName)) ∈ lw_all := lw_g (lw_at lw_m3 135 rfl) rfl
theorem q782 : (Jvm.Cond.methodLink "PondHouse$Change" (41 : Nat) ({ cls := "PondHouse$Draft", name := "holds", desc := "(I)Z" } : Jvm.MethodName)) ∈ lw_all := lw_g (lw_at lw_m3 142 rfl) rfl
theorem q790 : (Jvm.Cond.methodLink "PondHouse$Change" (45 : Nat) ({ cls := "PondHouse$Draft", name := "isFull", desc := "(I)Z" } : Jvm.MethodName)) ∈ lw_all := lw_g (lw_at lw_m3 150 rfl) rfl
theorem q794 : (Jvm.Cond.methodLink "PondHouse$Change" (48 : Nat) ({ cls := "PondHouse$Draft", name := "add", desc := "(LPondHouse$Member;)V" } : Jvm.MethodName)) ∈ lw_all := lw_g (lw_at lw_m3 154 rfl) rfl
theorem q2025 : (Jvm.Cond.fieldLink "PondHouse$Change" (27 : Nat) "PondHouse$Member" "sort" "I") ∈ lw_all := lw_g (lw_at lw_m8 185 rfl) rfl
theorem q2028 : (Jvm.Cond.fieldLink "PondHouse$Change" (32 : Nat) "PondHouse$Member" "name" "I") ∈ lw_all := lw_g (lw_at lw_m8 188 rfl) rfl
theorem q2082 : (Jvm.Cond.instanceMethod ({ cls := "PondHouse$Change", name := "<init>", desc := "(LPondHouse;I)V" } : Jvm.MethodName)) ∈ lw_all := lw_g (lw_at lw_m9 2 rfl) rfl
theorem q2083 : (Jvm.Cond.code ({ cls := "PondHouse$Change", name := "<init>", desc := "(LPondHouse;I)V" } : Jvm.MethodName) prog_6_method_1_code (3 : Nat) (Option.none : Option Jvm.ClassFile.FieldType)) ∈ lw_all := lw_g (lw_at lw_m9 3 rfl) rfl
theorem q2084 : (Jvm.Cond.methodLink "PondHouse$Change" (9 : Nat) ({ cls := "java/lang/Object", name := "<init>", desc := "()V" } : Jvm.MethodName)) ∈ lw_all := lw_g (lw_at lw_m9 4 rfl) rfl
theorem q2091 : (Jvm.Cond.fieldLink "PondHouse$Change" (15 : Nat) "PondHouse$Change" "kind" "I") ∈ lw_all := lw_g (lw_at lw_m9 11 rfl) rfl
theorem q2103 : (Jvm.Cond.fieldLink "PondHouse$Change" (3 : Nat) "PondHouse$Change" "this$0" "LPondHouse;") ∈ lw_all := lw_g (lw_at lw_m9 23 rfl) rfl
theorem q2111 : (Jvm.Cond.soleField "PondHouse$Change" "kind") ∈ lw_all := lw_g (lw_at lw_m9 31 rfl) rfl
theorem q2113 : (Jvm.Cond.soleField "PondHouse$Change" "this$0") ∈ lw_all := lw_g (lw_at lw_m9 33 rfl) rfl

/-! PondHouse$Comes -/
set_option maxRecDepth 100000
def RX28 : String := "PondHouse$Comes"
def TX28 : u_T := fun k => match k with
  | 0 => ("PondHouse$Change", "kind", "I", true)
  | 1 => ("PondHouse$Change", "this$0", "LPondHouse;", true)
  | 2 => ("PondHouse$Comes", "above", "I", true)
  | 3 => ("PondHouse$Comes", "members", "LPondHouse$Row;", true)
  | _ => ("PondHouse$Comes", "this$0", "LPondHouse;", true)
def tyX28 : Nat → FieldType := fun k => match k with
  | 0 => .int
  | 1 => .object "PondHouse"
  | 2 => .int
  | 3 => .object "PondHouse$Row"
  | _ => .object "PondHouse"
abbrev wsX280 : List Cond := u_ws RX28 TX28 5
-- two fields of one name: no nmX28
theorem tyX28_ok : ∀ k, k < 5 → parseFieldDescriptor (TX28 k).2.2.1 = some (tyX28 k) := by decide +kernel
abbrev cX28_makes : ByteArray := prog_9_method_2_code
def yX28_makes : MethodName := ⟨RX28, "makes", "(LPondHouse$Row;I)V"⟩
def dkwX28_makes_5 : List UInt8 := [182, 0, 66, 132, 4, 1, 167, 255, 223, 177]
abbrev dktX28_makes_5 : List UInt8 := dkwX28_makes_5 ++ []
def dkwX28_makes_4 : List UInt8 := [180, 0, 20, 182, 0, 39, 162, 0, 27, 42, 45, 42, 180, 0, 20, 21, 4, 182, 0, 60, 192, 0, 64, 28]
abbrev dktX28_makes_4 : List UInt8 := dkwX28_makes_4 ++ dktX28_makes_5
def dkwX28_makes_3 : List UInt8 := [180, 0, 24, 183, 0, 49, 78, 45, 4, 181, 0, 52, 43, 45, 182, 0, 56, 3, 54, 4, 21, 4, 42]
abbrev dktX28_makes_3 : List UInt8 := dkwX28_makes_3 ++ dktX28_makes_4
def dkwX28_makes_2 : List UInt8 := [2, 159, 0, 14, 42, 43, 42, 180, 0, 24, 28, 182, 0, 43, 87, 187, 0, 47, 89, 42, 180, 0, 28, 42]
abbrev dktX28_makes_2 : List UInt8 := dkwX28_makes_2 ++ dktX28_makes_3
def dkwX28_makes_1 : List UInt8 := [182, 0, 39, 16, 12, 160, 0, 15, 42, 180, 0, 3, 16, 7, 28, 2, 182, 0, 35, 191, 42, 180, 0, 24]
abbrev dktX28_makes_1 : List UInt8 := dkwX28_makes_1 ++ dktX28_makes_2
def dkwX28_makes_0 : List UInt8 := [43, 42, 180, 0, 28, 184, 0, 31, 198, 0, 14, 42, 180, 0, 3, 5, 28, 2, 182, 0, 35, 191, 43]
abbrev dktX28_makes_0 : List UInt8 := dkwX28_makes_0 ++ dktX28_makes_1
theorem dksX28_makes_0 : cX28_makes.data.toList.drop 0 = dktX28_makes_0 := by decide +kernel
theorem dksX28_makes_1 : cX28_makes.data.toList.drop 23 = dktX28_makes_1 := dk_seg dksX28_makes_0 23 rfl rfl
theorem dksX28_makes_2 : cX28_makes.data.toList.drop 47 = dktX28_makes_2 := dk_seg dksX28_makes_1 24 rfl rfl
theorem dksX28_makes_3 : cX28_makes.data.toList.drop 71 = dktX28_makes_3 := dk_seg dksX28_makes_2 24 rfl rfl
theorem dksX28_makes_4 : cX28_makes.data.toList.drop 94 = dktX28_makes_4 := dk_seg dksX28_makes_3 23 rfl rfl
theorem dksX28_makes_5 : cX28_makes.data.toList.drop 118 = dktX28_makes_5 := dk_seg dksX28_makes_4 24 rfl rfl
theorem dX28_makes_0 : decode cX28_makes 0 = .ok (.aload_n 1, 1) := dk_43 (dk_at dksX28_makes_0 0 rfl rfl)
theorem dX28_makes_1 : decode cX28_makes 1 = .ok (.aload_n 0, 1) := dk_42 (dk_at dksX28_makes_0 1 rfl rfl)
theorem dX28_makes_2 : decode cX28_makes 2 = .ok (.getfield 28, 3) := dk_180 0 28 (dk_at dksX28_makes_0 2 rfl rfl)
theorem dX28_makes_5 : decode cX28_makes 5 = .ok (.invokestatic 31, 3) := dk_184 0 31 (dk_at dksX28_makes_0 5 rfl rfl)
theorem dX28_makes_8 : decode cX28_makes 8 = .ok (.ifnull 14, 3) := dk_198 0 14 (dk_at dksX28_makes_0 8 rfl rfl)
theorem dX28_makes_11 : decode cX28_makes 11 = .ok (.aload_n 0, 1) := dk_42 (dk_at dksX28_makes_0 11 rfl rfl)
theorem dX28_makes_12 : decode cX28_makes 12 = .ok (.getfield 3, 3) := dk_180 0 3 (dk_at dksX28_makes_0 12 rfl rfl)
theorem dX28_makes_15 : decode cX28_makes 15 = .ok (.iconst 2, 1) := dk_5 (dk_at dksX28_makes_0 15 rfl rfl)
theorem dX28_makes_16 : decode cX28_makes 16 = .ok (.iload_n 2, 1) := dk_28 (dk_at dksX28_makes_0 16 rfl rfl)
theorem dX28_makes_17 : decode cX28_makes 17 = .ok (.iconst (-1), 1) := dk_2 (dk_at dksX28_makes_0 17 rfl rfl)
theorem dX28_makes_18 : decode cX28_makes 18 = .ok (.invokevirtual 35, 3) := dk_182 0 35 (dk_at dksX28_makes_0 18 rfl rfl)
theorem dX28_makes_21 : decode cX28_makes 21 = .ok (.athrow, 1) := dk_191 (dk_at dksX28_makes_0 21 rfl rfl)
theorem dX28_makes_22 : decode cX28_makes 22 = .ok (.aload_n 1, 1) := dk_43 (dk_at dksX28_makes_0 22 rfl rfl)
theorem dX28_makes_23 : decode cX28_makes 23 = .ok (.invokevirtual 39, 3) := dk_182 0 39 (dk_at dksX28_makes_1 0 rfl rfl)
theorem dX28_makes_26 : decode cX28_makes 26 = .ok (.bipush 12, 2) := dk_16 12 (dk_at dksX28_makes_1 3 rfl rfl)
theorem dX28_makes_28 : decode cX28_makes 28 = .ok (.if_icmp .ne 15, 3) := dk_160 0 15 (dk_at dksX28_makes_1 5 rfl rfl)
theorem dX28_makes_31 : decode cX28_makes 31 = .ok (.aload_n 0, 1) := dk_42 (dk_at dksX28_makes_1 8 rfl rfl)
theorem dX28_makes_32 : decode cX28_makes 32 = .ok (.getfield 3, 3) := dk_180 0 3 (dk_at dksX28_makes_1 9 rfl rfl)
theorem dX28_makes_35 : decode cX28_makes 35 = .ok (.bipush 7, 2) := dk_16 7 (dk_at dksX28_makes_1 12 rfl rfl)
theorem dX28_makes_37 : decode cX28_makes 37 = .ok (.iload_n 2, 1) := dk_28 (dk_at dksX28_makes_1 14 rfl rfl)
theorem dX28_makes_38 : decode cX28_makes 38 = .ok (.iconst (-1), 1) := dk_2 (dk_at dksX28_makes_1 15 rfl rfl)
theorem dX28_makes_39 : decode cX28_makes 39 = .ok (.invokevirtual 35, 3) := dk_182 0 35 (dk_at dksX28_makes_1 16 rfl rfl)
theorem dX28_makes_42 : decode cX28_makes 42 = .ok (.athrow, 1) := dk_191 (dk_at dksX28_makes_1 19 rfl rfl)
theorem dX28_makes_43 : decode cX28_makes 43 = .ok (.aload_n 0, 1) := dk_42 (dk_at dksX28_makes_1 20 rfl rfl)
theorem dX28_makes_44 : decode cX28_makes 44 = .ok (.getfield 24, 3) := dk_180 0 24 (dk_at dksX28_makes_1 21 rfl rfl)
theorem dX28_makes_47 : decode cX28_makes 47 = .ok (.iconst (-1), 1) := dk_2 (dk_at dksX28_makes_2 0 rfl rfl)
theorem dX28_makes_48 : decode cX28_makes 48 = .ok (.if_icmp .eq 14, 3) := dk_159 0 14 (dk_at dksX28_makes_2 1 rfl rfl)
theorem dX28_makes_51 : decode cX28_makes 51 = .ok (.aload_n 0, 1) := dk_42 (dk_at dksX28_makes_2 4 rfl rfl)
theorem dX28_makes_52 : decode cX28_makes 52 = .ok (.aload_n 1, 1) := dk_43 (dk_at dksX28_makes_2 5 rfl rfl)
theorem dX28_makes_53 : decode cX28_makes 53 = .ok (.aload_n 0, 1) := dk_42 (dk_at dksX28_makes_2 6 rfl rfl)
theorem dX28_makes_54 : decode cX28_makes 54 = .ok (.getfield 24, 3) := dk_180 0 24 (dk_at dksX28_makes_2 7 rfl rfl)
theorem dX28_makes_57 : decode cX28_makes 57 = .ok (.iload_n 2, 1) := dk_28 (dk_at dksX28_makes_2 10 rfl rfl)
theorem dX28_makes_58 : decode cX28_makes 58 = .ok (.invokevirtual 43, 3) := dk_182 0 43 (dk_at dksX28_makes_2 11 rfl rfl)
theorem dX28_makes_61 : decode cX28_makes 61 = .ok (.pop, 1) := dk_87 (dk_at dksX28_makes_2 14 rfl rfl)
theorem dX28_makes_62 : decode cX28_makes 62 = .ok (.new 47, 3) := dk_187 0 47 (dk_at dksX28_makes_2 15 rfl rfl)
theorem dX28_makes_65 : decode cX28_makes 65 = .ok (.dup, 1) := dk_89 (dk_at dksX28_makes_2 18 rfl rfl)
theorem dX28_makes_66 : decode cX28_makes 66 = .ok (.aload_n 0, 1) := dk_42 (dk_at dksX28_makes_2 19 rfl rfl)
theorem dX28_makes_67 : decode cX28_makes 67 = .ok (.getfield 28, 3) := dk_180 0 28 (dk_at dksX28_makes_2 20 rfl rfl)
theorem dX28_makes_70 : decode cX28_makes 70 = .ok (.aload_n 0, 1) := dk_42 (dk_at dksX28_makes_2 23 rfl rfl)
theorem dX28_makes_71 : decode cX28_makes 71 = .ok (.getfield 24, 3) := dk_180 0 24 (dk_at dksX28_makes_3 0 rfl rfl)
theorem dX28_makes_74 : decode cX28_makes 74 = .ok (.invokespecial 49, 3) := dk_183 0 49 (dk_at dksX28_makes_3 3 rfl rfl)
theorem dX28_makes_77 : decode cX28_makes 77 = .ok (.astore_n 3, 1) := dk_78 (dk_at dksX28_makes_3 6 rfl rfl)
theorem dX28_makes_78 : decode cX28_makes 78 = .ok (.aload_n 3, 1) := dk_45 (dk_at dksX28_makes_3 7 rfl rfl)
theorem dX28_makes_79 : decode cX28_makes 79 = .ok (.iconst 1, 1) := dk_4 (dk_at dksX28_makes_3 8 rfl rfl)
theorem dX28_makes_80 : decode cX28_makes 80 = .ok (.putfield 52, 3) := dk_181 0 52 (dk_at dksX28_makes_3 9 rfl rfl)
theorem dX28_makes_83 : decode cX28_makes 83 = .ok (.aload_n 1, 1) := dk_43 (dk_at dksX28_makes_3 12 rfl rfl)
theorem dX28_makes_84 : decode cX28_makes 84 = .ok (.aload_n 3, 1) := dk_45 (dk_at dksX28_makes_3 13 rfl rfl)
theorem dX28_makes_85 : decode cX28_makes 85 = .ok (.invokevirtual 56, 3) := dk_182 0 56 (dk_at dksX28_makes_3 14 rfl rfl)
theorem dX28_makes_88 : decode cX28_makes 88 = .ok (.iconst 0, 1) := dk_3 (dk_at dksX28_makes_3 17 rfl rfl)
theorem dX28_makes_89 : decode cX28_makes 89 = .ok (.istore 4, 2) := dk_54 4 (dk_at dksX28_makes_3 18 rfl rfl)
theorem dX28_makes_91 : decode cX28_makes 91 = .ok (.iload 4, 2) := dk_21 4 (dk_at dksX28_makes_3 20 rfl rfl)
theorem dX28_makes_93 : decode cX28_makes 93 = .ok (.aload_n 0, 1) := dk_42 (dk_at dksX28_makes_3 22 rfl rfl)
theorem dX28_makes_94 : decode cX28_makes 94 = .ok (.getfield 20, 3) := dk_180 0 20 (dk_at dksX28_makes_4 0 rfl rfl)
theorem dX28_makes_97 : decode cX28_makes 97 = .ok (.invokevirtual 39, 3) := dk_182 0 39 (dk_at dksX28_makes_4 3 rfl rfl)
theorem dX28_makes_100 : decode cX28_makes 100 = .ok (.if_icmp .ge 27, 3) := dk_162 0 27 (dk_at dksX28_makes_4 6 rfl rfl)
theorem dX28_makes_103 : decode cX28_makes 103 = .ok (.aload_n 0, 1) := dk_42 (dk_at dksX28_makes_4 9 rfl rfl)
theorem dX28_makes_104 : decode cX28_makes 104 = .ok (.aload_n 3, 1) := dk_45 (dk_at dksX28_makes_4 10 rfl rfl)
theorem dX28_makes_105 : decode cX28_makes 105 = .ok (.aload_n 0, 1) := dk_42 (dk_at dksX28_makes_4 11 rfl rfl)
theorem dX28_makes_106 : decode cX28_makes 106 = .ok (.getfield 20, 3) := dk_180 0 20 (dk_at dksX28_makes_4 12 rfl rfl)
theorem dX28_makes_109 : decode cX28_makes 109 = .ok (.iload 4, 2) := dk_21 4 (dk_at dksX28_makes_4 15 rfl rfl)
theorem dX28_makes_111 : decode cX28_makes 111 = .ok (.invokevirtual 60, 3) := dk_182 0 60 (dk_at dksX28_makes_4 17 rfl rfl)
theorem dX28_makes_114 : decode cX28_makes 114 = .ok (.checkcast 64, 3) := dk_192 0 64 (dk_at dksX28_makes_4 20 rfl rfl)
theorem dX28_makes_117 : decode cX28_makes 117 = .ok (.iload_n 2, 1) := dk_28 (dk_at dksX28_makes_4 23 rfl rfl)
theorem dX28_makes_118 : decode cX28_makes 118 = .ok (.invokevirtual 66, 3) := dk_182 0 66 (dk_at dksX28_makes_5 0 rfl rfl)
theorem dX28_makes_121 : decode cX28_makes 121 = .ok (.iinc 4 1, 3) := dk_132 4 1 (dk_at dksX28_makes_5 3 rfl rfl)
theorem dX28_makes_124 : decode cX28_makes 124 = .ok (.goto (-33), 3) := dk_167 255 223 (dk_at dksX28_makes_5 6 rfl rfl)
theorem dX28_makes_127 : decode cX28_makes 127 = .ok (.return_, 1) := dk_177 (dk_at dksX28_makes_5 9 rfl rfl)
abbrev cX28_init : ByteArray := prog_9_method_1_code
def yX28_init : MethodName := ⟨RX28, "<init>", "(LPondHouse;II)V"⟩
def dkwX28_init_1 : List UInt8 := [181, 0, 24, 177]
abbrev dktX28_init_1 : List UInt8 := dkwX28_init_1 ++ []
def dkwX28_init_0 : List UInt8 := [42, 43, 181, 0, 3, 42, 43, 28, 183, 0, 9, 42, 187, 0, 15, 89, 183, 0, 17, 181, 0, 20, 42, 29]
abbrev dktX28_init_0 : List UInt8 := dkwX28_init_0 ++ dktX28_init_1
theorem dksX28_init_0 : cX28_init.data.toList.drop 0 = dktX28_init_0 := by decide +kernel
theorem dksX28_init_1 : cX28_init.data.toList.drop 24 = dktX28_init_1 := dk_seg dksX28_init_0 24 rfl rfl
theorem dX28_init_0 : decode cX28_init 0 = .ok (.aload_n 0, 1) := dk_42 (dk_at dksX28_init_0 0 rfl rfl)
theorem dX28_init_1 : decode cX28_init 1 = .ok (.aload_n 1, 1) := dk_43 (dk_at dksX28_init_0 1 rfl rfl)
theorem dX28_init_2 : decode cX28_init 2 = .ok (.putfield 3, 3) := dk_181 0 3 (dk_at dksX28_init_0 2 rfl rfl)
theorem dX28_init_5 : decode cX28_init 5 = .ok (.aload_n 0, 1) := dk_42 (dk_at dksX28_init_0 5 rfl rfl)
theorem dX28_init_6 : decode cX28_init 6 = .ok (.aload_n 1, 1) := dk_43 (dk_at dksX28_init_0 6 rfl rfl)
theorem dX28_init_7 : decode cX28_init 7 = .ok (.iload_n 2, 1) := dk_28 (dk_at dksX28_init_0 7 rfl rfl)
theorem dX28_init_8 : decode cX28_init 8 = .ok (.invokespecial 9, 3) := dk_183 0 9 (dk_at dksX28_init_0 8 rfl rfl)
theorem dX28_init_11 : decode cX28_init 11 = .ok (.aload_n 0, 1) := dk_42 (dk_at dksX28_init_0 11 rfl rfl)
theorem dX28_init_12 : decode cX28_init 12 = .ok (.new 15, 3) := dk_187 0 15 (dk_at dksX28_init_0 12 rfl rfl)
theorem dX28_init_15 : decode cX28_init 15 = .ok (.dup, 1) := dk_89 (dk_at dksX28_init_0 15 rfl rfl)
theorem dX28_init_16 : decode cX28_init 16 = .ok (.invokespecial 17, 3) := dk_183 0 17 (dk_at dksX28_init_0 16 rfl rfl)
theorem dX28_init_19 : decode cX28_init 19 = .ok (.putfield 20, 3) := dk_181 0 20 (dk_at dksX28_init_0 19 rfl rfl)
theorem dX28_init_22 : decode cX28_init 22 = .ok (.aload_n 0, 1) := dk_42 (dk_at dksX28_init_0 22 rfl rfl)
theorem dX28_init_23 : decode cX28_init 23 = .ok (.iload_n 3, 1) := dk_29 (dk_at dksX28_init_0 23 rfl rfl)
theorem dX28_init_24 : decode cX28_init 24 = .ok (.putfield 24, 3) := dk_181 0 24 (dk_at dksX28_init_1 0 rfl rfl)
theorem dX28_init_27 : decode cX28_init 27 = .ok (.return_, 1) := dk_177 (dk_at dksX28_init_1 3 rfl rfl)
theorem q206 : (Jvm.Cond.initialized "PondHouse$Comes") ∈ lw_all := lw_g (lw_at lw_m1 46 rfl) rfl
theorem q570 : (Jvm.Cond.fieldLink "PondHouse$Comes" (52 : Nat) "PondHouse$Draft" "isChanged" "Z") ∈ lw_all := lw_g (lw_at lw_m2 170 rfl) rfl
theorem q667 : (Jvm.Cond.selects "PondHouse$Comes" ({ cls := "java/lang/Object", name := "getClass", desc := "()Ljava/lang/Class;" } : Jvm.MethodName) ({ cls := "java/lang/Object", name := "getClass", desc := "()Ljava/lang/Class;" } : Jvm.MethodName)) ∈ lw_all := lw_g (lw_at lw_m3 27 rfl) rfl
theorem q755 : (Jvm.Cond.selects "PondHouse$Comes" ({ cls := "PondHouse$Change", name := "makes", desc := "(LPondHouse$Row;I)V" } : Jvm.MethodName) ({ cls := "PondHouse$Comes", name := "makes", desc := "(LPondHouse$Row;I)V" } : Jvm.MethodName)) ∈ lw_all := lw_g (lw_at lw_m3 115 rfl) rfl
theorem q756 : (Jvm.Cond.instanceMethod ({ cls := "PondHouse$Comes", name := "makes", desc := "(LPondHouse$Row;I)V" } : Jvm.MethodName)) ∈ lw_all := lw_g (lw_at lw_m3 116 rfl) rfl
theorem q757 : (Jvm.Cond.code ({ cls := "PondHouse$Comes", name := "makes", desc := "(LPondHouse$Row;I)V" } : Jvm.MethodName) prog_9_method_2_code (5 : Nat) (Option.none : Option Jvm.ClassFile.FieldType)) ∈ lw_all := lw_g (lw_at lw_m3 117 rfl) rfl
theorem q758 : (Jvm.Cond.methodLinkNest "PondHouse$Comes" (31 : Nat) ({ cls := "PondHouse", name := "draft", desc := "(LPondHouse$Row;I)LPondHouse$Draft;" } : Jvm.MethodName) "PondHouse") ∈ lw_tbl := lw_at lw_m3 118 rfl
theorem q759 : (Jvm.Cond.methodLinkNest "PondHouse$Comes" (35 : Nat) ({ cls := "PondHouse", name := "refuses", desc := "(III)LPondHouse$Refusal;" } : Jvm.MethodName) "PondHouse") ∈ lw_tbl := lw_at lw_m3 119 rfl
theorem q760 : (Jvm.Cond.methodLink "PondHouse$Comes" (39 : Nat) ({ cls := "PondHouse$Row", name := "size", desc := "()I" } : Jvm.MethodName)) ∈ lw_all := lw_g (lw_at lw_m3 120 rfl) rfl
theorem q761 : (Jvm.Cond.methodLink "PondHouse$Comes" (43 : Nat) ({ cls := "PondHouse$Comes", name := "needed", desc := "(LPondHouse$Row;II)LPondHouse$Draft;" } : Jvm.MethodName)) ∈ lw_all := lw_g (lw_at lw_m3 121 rfl) rfl
theorem q762 : (Jvm.Cond.sameMethod "PondHouse$Comes" "PondHouse$Change" "needed" "(LPondHouse$Row;II)LPondHouse$Draft;") ∈ lw_all := lw_g (lw_at lw_m3 122 rfl) rfl
theorem q763 : (Jvm.Cond.selects "PondHouse$Comes" ({ cls := "PondHouse$Comes", name := "needed", desc := "(LPondHouse$Row;II)LPondHouse$Draft;" } : Jvm.MethodName) ({ cls := "PondHouse$Change", name := "needed", desc := "(LPondHouse$Row;II)LPondHouse$Draft;" } : Jvm.MethodName)) ∈ lw_all := lw_g (lw_at lw_m3 123 rfl) rfl
theorem q764 : (Jvm.Cond.classLink "PondHouse$Comes" (47 : Nat) "PondHouse$Draft") ∈ lw_all := lw_g (lw_at lw_m3 124 rfl) rfl
theorem q765 : (Jvm.Cond.methodLink "PondHouse$Comes" (49 : Nat) ({ cls := "PondHouse$Draft", name := "<init>", desc := "(II)V" } : Jvm.MethodName)) ∈ lw_all := lw_g (lw_at lw_m3 125 rfl) rfl
theorem q766 : (Jvm.Cond.methodLink "PondHouse$Comes" (56 : Nat) ({ cls := "PondHouse$Row", name := "add", desc := "(Ljava/lang/Object;)V" } : Jvm.MethodName)) ∈ lw_all := lw_g (lw_at lw_m3 126 rfl) rfl
theorem q767 : (Jvm.Cond.methodLink "PondHouse$Comes" (60 : Nat) ({ cls := "PondHouse$Row", name := "get", desc := "(I)Ljava/lang/Object;" } : Jvm.MethodName)) ∈ lw_all := lw_g (lw_at lw_m3 127 rfl) rfl
theorem q768 : (Jvm.Cond.classLink "PondHouse$Comes" (64 : Nat) "PondHouse$Member") ∈ lw_all := lw_g (lw_at lw_m3 128 rfl) rfl
theorem q769 : (Jvm.Cond.methodLink "PondHouse$Comes" (66 : Nat) ({ cls := "PondHouse$Comes", name := "adds", desc := "(LPondHouse$Draft;LPondHouse$Member;I)V" } : Jvm.MethodName)) ∈ lw_all := lw_g (lw_at lw_m3 129 rfl) rfl
theorem q770 : (Jvm.Cond.sameMethod "PondHouse$Comes" "PondHouse$Change" "adds" "(LPondHouse$Draft;LPondHouse$Member;I)V") ∈ lw_all := lw_g (lw_at lw_m3 130 rfl) rfl
theorem q772 : (Jvm.Cond.selects "PondHouse$Comes" ({ cls := "PondHouse$Comes", name := "adds", desc := "(LPondHouse$Draft;LPondHouse$Member;I)V" } : Jvm.MethodName) ({ cls := "PondHouse$Change", name := "adds", desc := "(LPondHouse$Draft;LPondHouse$Member;I)V" } : Jvm.MethodName)) ∈ lw_all := lw_g (lw_at lw_m3 132 rfl) rfl
theorem q2077 : (Jvm.Cond.instantiable "PondHouse$Comes" (5 : Nat)) ∈ lw_all := lw_g (lw_at lw_m8 237 rfl) rfl
theorem q2079 : (Jvm.Cond.instanceMethod ({ cls := "PondHouse$Comes", name := "<init>", desc := "(LPondHouse;II)V" } : Jvm.MethodName)) ∈ lw_all := lw_g (lw_at lw_m8 239 rfl) rfl
theorem q2080 : (Jvm.Cond.code ({ cls := "PondHouse$Comes", name := "<init>", desc := "(LPondHouse;II)V" } : Jvm.MethodName) prog_9_method_1_code (4 : Nat) (Option.none : Option Jvm.ClassFile.FieldType)) ∈ lw_all := lw_g (lw_at lw_m9 0 rfl) rfl
theorem q2081 : (Jvm.Cond.methodLink "PondHouse$Comes" (9 : Nat) ({ cls := "PondHouse$Change", name := "<init>", desc := "(LPondHouse;I)V" } : Jvm.MethodName)) ∈ lw_all := lw_g (lw_at lw_m9 1 rfl) rfl
theorem q2085 : (Jvm.Cond.classLink "PondHouse$Comes" (15 : Nat) "PondHouse$Row") ∈ lw_all := lw_g (lw_at lw_m9 5 rfl) rfl
theorem q2086 : (Jvm.Cond.methodLinkNest "PondHouse$Comes" (17 : Nat) ({ cls := "PondHouse$Row", name := "<init>", desc := "()V" } : Jvm.MethodName) "PondHouse") ∈ lw_tbl := lw_at lw_m9 6 rfl
theorem q2087 : (Jvm.Cond.fieldLink "PondHouse$Comes" (24 : Nat) "PondHouse$Comes" "above" "I") ∈ lw_all := lw_g (lw_at lw_m9 7 rfl) rfl
theorem q2088 : (Jvm.Cond.fieldLink "PondHouse$Comes" (20 : Nat) "PondHouse$Comes" "members" "LPondHouse$Row;") ∈ lw_all := lw_g (lw_at lw_m9 8 rfl) rfl
theorem q2090 : (Jvm.Cond.fieldLink "PondHouse$Comes" (3 : Nat) "PondHouse$Comes" "this$0" "LPondHouse;") ∈ lw_all := lw_g (lw_at lw_m9 10 rfl) rfl
theorem q2092 : (Jvm.Cond.fieldLink "PondHouse$Comes" (28 : Nat) "PondHouse$Comes" "kind" "I") ∈ lw_all := lw_g (lw_at lw_m9 12 rfl) rfl
theorem q2093 : (Jvm.Cond.sameField "PondHouse$Comes" "PondHouse$Change" "kind" "I") ∈ lw_all := lw_g (lw_at lw_m9 13 rfl) rfl
theorem q2104 : (Jvm.Cond.laysFinal "PondHouse$Comes" "PondHouse$Comes" "above" "I") ∈ lw_all := lw_g (lw_at lw_m9 24 rfl) rfl
theorem q2105 : (Jvm.Cond.soleField "PondHouse$Comes" "above") ∈ lw_all := lw_g (lw_at lw_m9 25 rfl) rfl
theorem q2106 : (Jvm.Cond.laysFinal "PondHouse$Comes" "PondHouse$Comes" "members" "LPondHouse$Row;") ∈ lw_all := lw_g (lw_at lw_m9 26 rfl) rfl
theorem q2107 : (Jvm.Cond.soleField "PondHouse$Comes" "members") ∈ lw_all := lw_g (lw_at lw_m9 27 rfl) rfl
theorem q2108 : (Jvm.Cond.laysFinal "PondHouse$Comes" "PondHouse$Comes" "this$0" "LPondHouse;") ∈ lw_all := lw_g (lw_at lw_m9 28 rfl) rfl
theorem q2109 : (Jvm.Cond.soleField "PondHouse$Comes" "this$0") ∈ lw_all := lw_g (lw_at lw_m9 29 rfl) rfl
theorem q2110 : (Jvm.Cond.laysFinal "PondHouse$Comes" "PondHouse$Change" "kind" "I") ∈ lw_all := lw_g (lw_at lw_m9 30 rfl) rfl
theorem q2112 : (Jvm.Cond.laysFinal "PondHouse$Comes" "PondHouse$Change" "this$0" "LPondHouse;") ∈ lw_all := lw_g (lw_at lw_m9 32 rfl) rfl
theorem q2114 : (Jvm.Cond.superclass "PondHouse$Comes" "PondHouse$Change") ∈ lw_all := lw_g (lw_at lw_m9 34 rfl) rfl
theorem q3083 : (Jvm.Cond.castable "PondHouse$Comes" "PondHouse$Change") ∈ lw_tbl := lw_at lw_m13 43 rfl
theorem q3119 : (Jvm.Cond.castable "PondHouse$Comes" "java/lang/Object") ∈ lw_tbl := lw_at lw_m13 79 rfl
theorem in_X28 : ∀ w ∈ wsX280, w ∈ lw_all := lw_in wsX280 [2110, 2112, 2104, 2106, 2108] (by decide +kernel) (by decide +kernel)

/-! PondHouse$Edits -/
set_option maxRecDepth 100000
def RX29 : String := "PondHouse$Edits"
def TX29 : u_T := fun k => match k with
  | 0 => ("PondHouse$Change", "kind", "I", true)
  | 1 => ("PondHouse$Change", "this$0", "LPondHouse;", true)
  | 2 => ("PondHouse$Edits", "edits", "LPondHouse$Row;", true)
  | _ => ("PondHouse$Edits", "this$0", "LPondHouse;", true)
def tyX29 : Nat → FieldType := fun k => match k with
  | 0 => .int
  | 1 => .object "PondHouse"
  | 2 => .object "PondHouse$Row"
  | _ => .object "PondHouse"
abbrev wsX290 : List Cond := u_ws RX29 TX29 4
-- two fields of one name: no nmX29
theorem tyX29_ok : ∀ k, k < 4 → parseFieldDescriptor (TX29 k).2.2.1 = some (tyX29 k) := by decide +kernel
abbrev cX29_makes : ByteArray := prog_13_method_2_code
def yX29_makes : MethodName := ⟨RX29, "makes", "(LPondHouse$Row;I)V"⟩
def dkwX29_makes_5 : List UInt8 := [182, 0, 74, 191, 132, 4, 1, 167, 255, 154, 177]
abbrev dktX29_makes_5 : List UInt8 := dkwX29_makes_5 ++ []
def dkwX29_makes_4 : List UInt8 := [199, 0, 26, 45, 25, 5, 180, 0, 67, 182, 0, 70, 154, 0, 14, 42, 180, 0, 3, 7, 28, 2]
abbrev dktX29_makes_4 : List UInt8 := dkwX29_makes_4 ++ dktX29_makes_5
def dkwX29_makes_3 : List UInt8 := [180, 0, 56, 2, 159, 0, 14, 42, 45, 25, 5, 28, 182, 0, 59, 167, 0, 34, 25, 5, 180, 0, 63]
abbrev dktX29_makes_3 : List UInt8 := dkwX29_makes_3 ++ dktX29_makes_4
def dkwX29_makes_2 : List UInt8 := [25, 5, 180, 0, 48, 198, 0, 17, 42, 45, 25, 5, 180, 0, 48, 28, 182, 0, 52, 167, 0, 54, 25, 5]
abbrev dktX29_makes_2 : List UInt8 := dkwX29_makes_2 ++ dktX29_makes_3
def dkwX29_makes_1 : List UInt8 := [180, 0, 20, 182, 0, 38, 162, 0, 96, 42, 180, 0, 20, 21, 4, 182, 0, 42, 192, 0, 46, 58, 5]
abbrev dktX29_makes_1 : List UInt8 := dkwX29_makes_1 ++ dktX29_makes_2
def dkwX29_makes_0 : List UInt8 := [42, 43, 42, 180, 0, 24, 28, 182, 0, 28, 78, 45, 4, 181, 0, 32, 3, 54, 4, 21, 4, 42]
abbrev dktX29_makes_0 : List UInt8 := dkwX29_makes_0 ++ dktX29_makes_1
theorem dksX29_makes_0 : cX29_makes.data.toList.drop 0 = dktX29_makes_0 := by decide +kernel
theorem dksX29_makes_1 : cX29_makes.data.toList.drop 22 = dktX29_makes_1 := dk_seg dksX29_makes_0 22 rfl rfl
theorem dksX29_makes_2 : cX29_makes.data.toList.drop 45 = dktX29_makes_2 := dk_seg dksX29_makes_1 23 rfl rfl
theorem dksX29_makes_3 : cX29_makes.data.toList.drop 69 = dktX29_makes_3 := dk_seg dksX29_makes_2 24 rfl rfl
theorem dksX29_makes_4 : cX29_makes.data.toList.drop 92 = dktX29_makes_4 := dk_seg dksX29_makes_3 23 rfl rfl
theorem dksX29_makes_5 : cX29_makes.data.toList.drop 114 = dktX29_makes_5 := dk_seg dksX29_makes_4 22 rfl rfl
theorem dX29_makes_0 : decode cX29_makes 0 = .ok (.aload_n 0, 1) := dk_42 (dk_at dksX29_makes_0 0 rfl rfl)
theorem dX29_makes_1 : decode cX29_makes 1 = .ok (.aload_n 1, 1) := dk_43 (dk_at dksX29_makes_0 1 rfl rfl)
theorem dX29_makes_2 : decode cX29_makes 2 = .ok (.aload_n 0, 1) := dk_42 (dk_at dksX29_makes_0 2 rfl rfl)
theorem dX29_makes_3 : decode cX29_makes 3 = .ok (.getfield 24, 3) := dk_180 0 24 (dk_at dksX29_makes_0 3 rfl rfl)
theorem dX29_makes_6 : decode cX29_makes 6 = .ok (.iload_n 2, 1) := dk_28 (dk_at dksX29_makes_0 6 rfl rfl)
theorem dX29_makes_7 : decode cX29_makes 7 = .ok (.invokevirtual 28, 3) := dk_182 0 28 (dk_at dksX29_makes_0 7 rfl rfl)
theorem dX29_makes_10 : decode cX29_makes 10 = .ok (.astore_n 3, 1) := dk_78 (dk_at dksX29_makes_0 10 rfl rfl)
theorem dX29_makes_11 : decode cX29_makes 11 = .ok (.aload_n 3, 1) := dk_45 (dk_at dksX29_makes_0 11 rfl rfl)
theorem dX29_makes_12 : decode cX29_makes 12 = .ok (.iconst 1, 1) := dk_4 (dk_at dksX29_makes_0 12 rfl rfl)
theorem dX29_makes_13 : decode cX29_makes 13 = .ok (.putfield 32, 3) := dk_181 0 32 (dk_at dksX29_makes_0 13 rfl rfl)
theorem dX29_makes_16 : decode cX29_makes 16 = .ok (.iconst 0, 1) := dk_3 (dk_at dksX29_makes_0 16 rfl rfl)
theorem dX29_makes_17 : decode cX29_makes 17 = .ok (.istore 4, 2) := dk_54 4 (dk_at dksX29_makes_0 17 rfl rfl)
theorem dX29_makes_19 : decode cX29_makes 19 = .ok (.iload 4, 2) := dk_21 4 (dk_at dksX29_makes_0 19 rfl rfl)
theorem dX29_makes_21 : decode cX29_makes 21 = .ok (.aload_n 0, 1) := dk_42 (dk_at dksX29_makes_0 21 rfl rfl)
theorem dX29_makes_22 : decode cX29_makes 22 = .ok (.getfield 20, 3) := dk_180 0 20 (dk_at dksX29_makes_1 0 rfl rfl)
theorem dX29_makes_25 : decode cX29_makes 25 = .ok (.invokevirtual 38, 3) := dk_182 0 38 (dk_at dksX29_makes_1 3 rfl rfl)
theorem dX29_makes_28 : decode cX29_makes 28 = .ok (.if_icmp .ge 96, 3) := dk_162 0 96 (dk_at dksX29_makes_1 6 rfl rfl)
theorem dX29_makes_31 : decode cX29_makes 31 = .ok (.aload_n 0, 1) := dk_42 (dk_at dksX29_makes_1 9 rfl rfl)
theorem dX29_makes_32 : decode cX29_makes 32 = .ok (.getfield 20, 3) := dk_180 0 20 (dk_at dksX29_makes_1 10 rfl rfl)
theorem dX29_makes_35 : decode cX29_makes 35 = .ok (.iload 4, 2) := dk_21 4 (dk_at dksX29_makes_1 13 rfl rfl)
theorem dX29_makes_37 : decode cX29_makes 37 = .ok (.invokevirtual 42, 3) := dk_182 0 42 (dk_at dksX29_makes_1 15 rfl rfl)
theorem dX29_makes_40 : decode cX29_makes 40 = .ok (.checkcast 46, 3) := dk_192 0 46 (dk_at dksX29_makes_1 18 rfl rfl)
theorem dX29_makes_43 : decode cX29_makes 43 = .ok (.astore 5, 2) := dk_58 5 (dk_at dksX29_makes_1 21 rfl rfl)
theorem dX29_makes_45 : decode cX29_makes 45 = .ok (.aload 5, 2) := dk_25 5 (dk_at dksX29_makes_2 0 rfl rfl)
theorem dX29_makes_47 : decode cX29_makes 47 = .ok (.getfield 48, 3) := dk_180 0 48 (dk_at dksX29_makes_2 2 rfl rfl)
theorem dX29_makes_50 : decode cX29_makes 50 = .ok (.ifnull 17, 3) := dk_198 0 17 (dk_at dksX29_makes_2 5 rfl rfl)
theorem dX29_makes_53 : decode cX29_makes 53 = .ok (.aload_n 0, 1) := dk_42 (dk_at dksX29_makes_2 8 rfl rfl)
theorem dX29_makes_54 : decode cX29_makes 54 = .ok (.aload_n 3, 1) := dk_45 (dk_at dksX29_makes_2 9 rfl rfl)
theorem dX29_makes_55 : decode cX29_makes 55 = .ok (.aload 5, 2) := dk_25 5 (dk_at dksX29_makes_2 10 rfl rfl)
theorem dX29_makes_57 : decode cX29_makes 57 = .ok (.getfield 48, 3) := dk_180 0 48 (dk_at dksX29_makes_2 12 rfl rfl)
theorem dX29_makes_60 : decode cX29_makes 60 = .ok (.iload_n 2, 1) := dk_28 (dk_at dksX29_makes_2 15 rfl rfl)
theorem dX29_makes_61 : decode cX29_makes 61 = .ok (.invokevirtual 52, 3) := dk_182 0 52 (dk_at dksX29_makes_2 16 rfl rfl)
theorem dX29_makes_64 : decode cX29_makes 64 = .ok (.goto 54, 3) := dk_167 0 54 (dk_at dksX29_makes_2 19 rfl rfl)
theorem dX29_makes_67 : decode cX29_makes 67 = .ok (.aload 5, 2) := dk_25 5 (dk_at dksX29_makes_2 22 rfl rfl)
theorem dX29_makes_69 : decode cX29_makes 69 = .ok (.getfield 56, 3) := dk_180 0 56 (dk_at dksX29_makes_3 0 rfl rfl)
theorem dX29_makes_72 : decode cX29_makes 72 = .ok (.iconst (-1), 1) := dk_2 (dk_at dksX29_makes_3 3 rfl rfl)
theorem dX29_makes_73 : decode cX29_makes 73 = .ok (.if_icmp .eq 14, 3) := dk_159 0 14 (dk_at dksX29_makes_3 4 rfl rfl)
theorem dX29_makes_76 : decode cX29_makes 76 = .ok (.aload_n 0, 1) := dk_42 (dk_at dksX29_makes_3 7 rfl rfl)
theorem dX29_makes_77 : decode cX29_makes 77 = .ok (.aload_n 3, 1) := dk_45 (dk_at dksX29_makes_3 8 rfl rfl)
theorem dX29_makes_78 : decode cX29_makes 78 = .ok (.aload 5, 2) := dk_25 5 (dk_at dksX29_makes_3 9 rfl rfl)
theorem dX29_makes_80 : decode cX29_makes 80 = .ok (.iload_n 2, 1) := dk_28 (dk_at dksX29_makes_3 11 rfl rfl)
theorem dX29_makes_81 : decode cX29_makes 81 = .ok (.invokevirtual 59, 3) := dk_182 0 59 (dk_at dksX29_makes_3 12 rfl rfl)
theorem dX29_makes_84 : decode cX29_makes 84 = .ok (.goto 34, 3) := dk_167 0 34 (dk_at dksX29_makes_3 15 rfl rfl)
theorem dX29_makes_87 : decode cX29_makes 87 = .ok (.aload 5, 2) := dk_25 5 (dk_at dksX29_makes_3 18 rfl rfl)
theorem dX29_makes_89 : decode cX29_makes 89 = .ok (.getfield 63, 3) := dk_180 0 63 (dk_at dksX29_makes_3 20 rfl rfl)
theorem dX29_makes_92 : decode cX29_makes 92 = .ok (.ifnonnull 26, 3) := dk_199 0 26 (dk_at dksX29_makes_4 0 rfl rfl)
theorem dX29_makes_95 : decode cX29_makes 95 = .ok (.aload_n 3, 1) := dk_45 (dk_at dksX29_makes_4 3 rfl rfl)
theorem dX29_makes_96 : decode cX29_makes 96 = .ok (.aload 5, 2) := dk_25 5 (dk_at dksX29_makes_4 4 rfl rfl)
theorem dX29_makes_98 : decode cX29_makes 98 = .ok (.getfield 67, 3) := dk_180 0 67 (dk_at dksX29_makes_4 6 rfl rfl)
theorem dX29_makes_101 : decode cX29_makes 101 = .ok (.invokevirtual 70, 3) := dk_182 0 70 (dk_at dksX29_makes_4 9 rfl rfl)
theorem dX29_makes_104 : decode cX29_makes 104 = .ok (.ifCond .ne 14, 3) := dk_154 0 14 (dk_at dksX29_makes_4 12 rfl rfl)
theorem dX29_makes_107 : decode cX29_makes 107 = .ok (.aload_n 0, 1) := dk_42 (dk_at dksX29_makes_4 15 rfl rfl)
theorem dX29_makes_108 : decode cX29_makes 108 = .ok (.getfield 3, 3) := dk_180 0 3 (dk_at dksX29_makes_4 16 rfl rfl)
theorem dX29_makes_111 : decode cX29_makes 111 = .ok (.iconst 4, 1) := dk_7 (dk_at dksX29_makes_4 19 rfl rfl)
theorem dX29_makes_112 : decode cX29_makes 112 = .ok (.iload_n 2, 1) := dk_28 (dk_at dksX29_makes_4 20 rfl rfl)
theorem dX29_makes_113 : decode cX29_makes 113 = .ok (.iconst (-1), 1) := dk_2 (dk_at dksX29_makes_4 21 rfl rfl)
theorem dX29_makes_114 : decode cX29_makes 114 = .ok (.invokevirtual 74, 3) := dk_182 0 74 (dk_at dksX29_makes_5 0 rfl rfl)
theorem dX29_makes_117 : decode cX29_makes 117 = .ok (.athrow, 1) := dk_191 (dk_at dksX29_makes_5 3 rfl rfl)
theorem dX29_makes_118 : decode cX29_makes 118 = .ok (.iinc 4 1, 3) := dk_132 4 1 (dk_at dksX29_makes_5 4 rfl rfl)
theorem dX29_makes_121 : decode cX29_makes 121 = .ok (.goto (-102), 3) := dk_167 255 154 (dk_at dksX29_makes_5 7 rfl rfl)
theorem dX29_makes_124 : decode cX29_makes 124 = .ok (.return_, 1) := dk_177 (dk_at dksX29_makes_5 10 rfl rfl)
abbrev cX29_renames : ByteArray := prog_13_method_3_code
def yX29_renames : MethodName := ⟨RX29, "renames", "(LPondHouse$Draft;LPondHouse$Edit;I)V"⟩
def dkwX29_renames_2 : List UInt8 := [182, 0, 74, 191, 43, 180, 0, 85, 21, 4, 44, 180, 0, 56, 79, 177]
abbrev dktX29_renames_2 : List UInt8 := dkwX29_renames_2 ++ []
def dkwX29_renames_1 : List UInt8 := [182, 0, 74, 191, 43, 44, 180, 0, 56, 182, 0, 82, 153, 0, 14, 42, 180, 0, 3, 6, 29, 2]
abbrev dktX29_renames_1 : List UInt8 := dkwX29_renames_1 ++ dktX29_renames_2
def dkwX29_renames_0 : List UInt8 := [43, 44, 180, 0, 67, 182, 0, 78, 54, 4, 21, 4, 2, 160, 0, 14, 42, 180, 0, 3, 7, 29, 2]
abbrev dktX29_renames_0 : List UInt8 := dkwX29_renames_0 ++ dktX29_renames_1
theorem dksX29_renames_0 : cX29_renames.data.toList.drop 0 = dktX29_renames_0 := by decide +kernel
theorem dksX29_renames_1 : cX29_renames.data.toList.drop 23 = dktX29_renames_1 := dk_seg dksX29_renames_0 23 rfl rfl
theorem dksX29_renames_2 : cX29_renames.data.toList.drop 45 = dktX29_renames_2 := dk_seg dksX29_renames_1 22 rfl rfl
theorem dX29_renames_0 : decode cX29_renames 0 = .ok (.aload_n 1, 1) := dk_43 (dk_at dksX29_renames_0 0 rfl rfl)
theorem dX29_renames_1 : decode cX29_renames 1 = .ok (.aload_n 2, 1) := dk_44 (dk_at dksX29_renames_0 1 rfl rfl)
theorem dX29_renames_2 : decode cX29_renames 2 = .ok (.getfield 67, 3) := dk_180 0 67 (dk_at dksX29_renames_0 2 rfl rfl)
theorem dX29_renames_5 : decode cX29_renames 5 = .ok (.invokevirtual 78, 3) := dk_182 0 78 (dk_at dksX29_renames_0 5 rfl rfl)
theorem dX29_renames_8 : decode cX29_renames 8 = .ok (.istore 4, 2) := dk_54 4 (dk_at dksX29_renames_0 8 rfl rfl)
theorem dX29_renames_10 : decode cX29_renames 10 = .ok (.iload 4, 2) := dk_21 4 (dk_at dksX29_renames_0 10 rfl rfl)
theorem dX29_renames_12 : decode cX29_renames 12 = .ok (.iconst (-1), 1) := dk_2 (dk_at dksX29_renames_0 12 rfl rfl)
theorem dX29_renames_13 : decode cX29_renames 13 = .ok (.if_icmp .ne 14, 3) := dk_160 0 14 (dk_at dksX29_renames_0 13 rfl rfl)
theorem dX29_renames_16 : decode cX29_renames 16 = .ok (.aload_n 0, 1) := dk_42 (dk_at dksX29_renames_0 16 rfl rfl)
theorem dX29_renames_17 : decode cX29_renames 17 = .ok (.getfield 3, 3) := dk_180 0 3 (dk_at dksX29_renames_0 17 rfl rfl)
theorem dX29_renames_20 : decode cX29_renames 20 = .ok (.iconst 4, 1) := dk_7 (dk_at dksX29_renames_0 20 rfl rfl)
theorem dX29_renames_21 : decode cX29_renames 21 = .ok (.iload_n 3, 1) := dk_29 (dk_at dksX29_renames_0 21 rfl rfl)
theorem dX29_renames_22 : decode cX29_renames 22 = .ok (.iconst (-1), 1) := dk_2 (dk_at dksX29_renames_0 22 rfl rfl)
theorem dX29_renames_23 : decode cX29_renames 23 = .ok (.invokevirtual 74, 3) := dk_182 0 74 (dk_at dksX29_renames_1 0 rfl rfl)
theorem dX29_renames_26 : decode cX29_renames 26 = .ok (.athrow, 1) := dk_191 (dk_at dksX29_renames_1 3 rfl rfl)
theorem dX29_renames_27 : decode cX29_renames 27 = .ok (.aload_n 1, 1) := dk_43 (dk_at dksX29_renames_1 4 rfl rfl)
theorem dX29_renames_28 : decode cX29_renames 28 = .ok (.aload_n 2, 1) := dk_44 (dk_at dksX29_renames_1 5 rfl rfl)
theorem dX29_renames_29 : decode cX29_renames 29 = .ok (.getfield 56, 3) := dk_180 0 56 (dk_at dksX29_renames_1 6 rfl rfl)
theorem dX29_renames_32 : decode cX29_renames 32 = .ok (.invokevirtual 82, 3) := dk_182 0 82 (dk_at dksX29_renames_1 9 rfl rfl)
theorem dX29_renames_35 : decode cX29_renames 35 = .ok (.ifCond .eq 14, 3) := dk_153 0 14 (dk_at dksX29_renames_1 12 rfl rfl)
theorem dX29_renames_38 : decode cX29_renames 38 = .ok (.aload_n 0, 1) := dk_42 (dk_at dksX29_renames_1 15 rfl rfl)
theorem dX29_renames_39 : decode cX29_renames 39 = .ok (.getfield 3, 3) := dk_180 0 3 (dk_at dksX29_renames_1 16 rfl rfl)
theorem dX29_renames_42 : decode cX29_renames 42 = .ok (.iconst 3, 1) := dk_6 (dk_at dksX29_renames_1 19 rfl rfl)
theorem dX29_renames_43 : decode cX29_renames 43 = .ok (.iload_n 3, 1) := dk_29 (dk_at dksX29_renames_1 20 rfl rfl)
theorem dX29_renames_44 : decode cX29_renames 44 = .ok (.iconst (-1), 1) := dk_2 (dk_at dksX29_renames_1 21 rfl rfl)
theorem dX29_renames_45 : decode cX29_renames 45 = .ok (.invokevirtual 74, 3) := dk_182 0 74 (dk_at dksX29_renames_2 0 rfl rfl)
theorem dX29_renames_48 : decode cX29_renames 48 = .ok (.athrow, 1) := dk_191 (dk_at dksX29_renames_2 3 rfl rfl)
theorem dX29_renames_49 : decode cX29_renames 49 = .ok (.aload_n 1, 1) := dk_43 (dk_at dksX29_renames_2 4 rfl rfl)
theorem dX29_renames_50 : decode cX29_renames 50 = .ok (.getfield 85, 3) := dk_180 0 85 (dk_at dksX29_renames_2 5 rfl rfl)
theorem dX29_renames_53 : decode cX29_renames 53 = .ok (.iload 4, 2) := dk_21 4 (dk_at dksX29_renames_2 8 rfl rfl)
theorem dX29_renames_55 : decode cX29_renames 55 = .ok (.aload_n 2, 1) := dk_44 (dk_at dksX29_renames_2 10 rfl rfl)
theorem dX29_renames_56 : decode cX29_renames 56 = .ok (.getfield 56, 3) := dk_180 0 56 (dk_at dksX29_renames_2 11 rfl rfl)
theorem dX29_renames_59 : decode cX29_renames 59 = .ok (.iastore, 1) := dk_79 (dk_at dksX29_renames_2 14 rfl rfl)
theorem dX29_renames_60 : decode cX29_renames 60 = .ok (.return_, 1) := dk_177 (dk_at dksX29_renames_2 15 rfl rfl)
abbrev cX29_rule : ByteArray := prog_13_method_4_code
def yX29_rule : MethodName := ⟨RX29, "rule", "(I)LPondHouse$Worth;"⟩
def dkwX29_rule_3 : List UInt8 := [44, 176]
abbrev dktX29_rule_3 : List UInt8 := dkwX29_rule_3 ++ []
def dkwX29_rule_2 : List UInt8 := [160, 0, 18, 42, 180, 0, 20, 29, 182, 0, 42, 192, 0, 46, 180, 0, 63, 77, 132, 3, 1, 167, 255, 192]
abbrev dktX29_rule_2 : List UInt8 := dkwX29_rule_2 ++ dktX29_rule_3
def dkwX29_rule_1 : List UInt8 := [192, 0, 46, 180, 0, 63, 198, 0, 36, 42, 180, 0, 20, 29, 182, 0, 42, 192, 0, 46, 180, 0, 67, 27]
abbrev dktX29_rule_1 : List UInt8 := dkwX29_rule_1 ++ dktX29_rule_2
def dkwX29_rule_0 : List UInt8 := [1, 77, 3, 62, 29, 42, 180, 0, 20, 182, 0, 38, 162, 0, 59, 42, 180, 0, 20, 29, 182, 0, 42]
abbrev dktX29_rule_0 : List UInt8 := dkwX29_rule_0 ++ dktX29_rule_1
theorem dksX29_rule_0 : cX29_rule.data.toList.drop 0 = dktX29_rule_0 := by decide +kernel
theorem dksX29_rule_1 : cX29_rule.data.toList.drop 23 = dktX29_rule_1 := dk_seg dksX29_rule_0 23 rfl rfl
theorem dksX29_rule_2 : cX29_rule.data.toList.drop 47 = dktX29_rule_2 := dk_seg dksX29_rule_1 24 rfl rfl
theorem dksX29_rule_3 : cX29_rule.data.toList.drop 71 = dktX29_rule_3 := dk_seg dksX29_rule_2 24 rfl rfl
theorem dX29_rule_0 : decode cX29_rule 0 = .ok (.aconst_null, 1) := dk_1 (dk_at dksX29_rule_0 0 rfl rfl)
theorem dX29_rule_1 : decode cX29_rule 1 = .ok (.astore_n 2, 1) := dk_77 (dk_at dksX29_rule_0 1 rfl rfl)
theorem dX29_rule_2 : decode cX29_rule 2 = .ok (.iconst 0, 1) := dk_3 (dk_at dksX29_rule_0 2 rfl rfl)
theorem dX29_rule_3 : decode cX29_rule 3 = .ok (.istore_n 3, 1) := dk_62 (dk_at dksX29_rule_0 3 rfl rfl)
theorem dX29_rule_4 : decode cX29_rule 4 = .ok (.iload_n 3, 1) := dk_29 (dk_at dksX29_rule_0 4 rfl rfl)
theorem dX29_rule_5 : decode cX29_rule 5 = .ok (.aload_n 0, 1) := dk_42 (dk_at dksX29_rule_0 5 rfl rfl)
theorem dX29_rule_6 : decode cX29_rule 6 = .ok (.getfield 20, 3) := dk_180 0 20 (dk_at dksX29_rule_0 6 rfl rfl)
theorem dX29_rule_9 : decode cX29_rule 9 = .ok (.invokevirtual 38, 3) := dk_182 0 38 (dk_at dksX29_rule_0 9 rfl rfl)
theorem dX29_rule_12 : decode cX29_rule 12 = .ok (.if_icmp .ge 59, 3) := dk_162 0 59 (dk_at dksX29_rule_0 12 rfl rfl)
theorem dX29_rule_15 : decode cX29_rule 15 = .ok (.aload_n 0, 1) := dk_42 (dk_at dksX29_rule_0 15 rfl rfl)
theorem dX29_rule_16 : decode cX29_rule 16 = .ok (.getfield 20, 3) := dk_180 0 20 (dk_at dksX29_rule_0 16 rfl rfl)
theorem dX29_rule_19 : decode cX29_rule 19 = .ok (.iload_n 3, 1) := dk_29 (dk_at dksX29_rule_0 19 rfl rfl)
theorem dX29_rule_20 : decode cX29_rule 20 = .ok (.invokevirtual 42, 3) := dk_182 0 42 (dk_at dksX29_rule_0 20 rfl rfl)
theorem dX29_rule_23 : decode cX29_rule 23 = .ok (.checkcast 46, 3) := dk_192 0 46 (dk_at dksX29_rule_1 0 rfl rfl)
theorem dX29_rule_26 : decode cX29_rule 26 = .ok (.getfield 63, 3) := dk_180 0 63 (dk_at dksX29_rule_1 3 rfl rfl)
theorem dX29_rule_29 : decode cX29_rule 29 = .ok (.ifnull 36, 3) := dk_198 0 36 (dk_at dksX29_rule_1 6 rfl rfl)
theorem dX29_rule_32 : decode cX29_rule 32 = .ok (.aload_n 0, 1) := dk_42 (dk_at dksX29_rule_1 9 rfl rfl)
theorem dX29_rule_33 : decode cX29_rule 33 = .ok (.getfield 20, 3) := dk_180 0 20 (dk_at dksX29_rule_1 10 rfl rfl)
theorem dX29_rule_36 : decode cX29_rule 36 = .ok (.iload_n 3, 1) := dk_29 (dk_at dksX29_rule_1 13 rfl rfl)
theorem dX29_rule_37 : decode cX29_rule 37 = .ok (.invokevirtual 42, 3) := dk_182 0 42 (dk_at dksX29_rule_1 14 rfl rfl)
theorem dX29_rule_40 : decode cX29_rule 40 = .ok (.checkcast 46, 3) := dk_192 0 46 (dk_at dksX29_rule_1 17 rfl rfl)
theorem dX29_rule_43 : decode cX29_rule 43 = .ok (.getfield 67, 3) := dk_180 0 67 (dk_at dksX29_rule_1 20 rfl rfl)
theorem dX29_rule_46 : decode cX29_rule 46 = .ok (.iload_n 1, 1) := dk_27 (dk_at dksX29_rule_1 23 rfl rfl)
theorem dX29_rule_47 : decode cX29_rule 47 = .ok (.if_icmp .ne 18, 3) := dk_160 0 18 (dk_at dksX29_rule_2 0 rfl rfl)
theorem dX29_rule_50 : decode cX29_rule 50 = .ok (.aload_n 0, 1) := dk_42 (dk_at dksX29_rule_2 3 rfl rfl)
theorem dX29_rule_51 : decode cX29_rule 51 = .ok (.getfield 20, 3) := dk_180 0 20 (dk_at dksX29_rule_2 4 rfl rfl)
theorem dX29_rule_54 : decode cX29_rule 54 = .ok (.iload_n 3, 1) := dk_29 (dk_at dksX29_rule_2 7 rfl rfl)
theorem dX29_rule_55 : decode cX29_rule 55 = .ok (.invokevirtual 42, 3) := dk_182 0 42 (dk_at dksX29_rule_2 8 rfl rfl)
theorem dX29_rule_58 : decode cX29_rule 58 = .ok (.checkcast 46, 3) := dk_192 0 46 (dk_at dksX29_rule_2 11 rfl rfl)
theorem dX29_rule_61 : decode cX29_rule 61 = .ok (.getfield 63, 3) := dk_180 0 63 (dk_at dksX29_rule_2 14 rfl rfl)
theorem dX29_rule_64 : decode cX29_rule 64 = .ok (.astore_n 2, 1) := dk_77 (dk_at dksX29_rule_2 17 rfl rfl)
theorem dX29_rule_65 : decode cX29_rule 65 = .ok (.iinc 3 1, 3) := dk_132 3 1 (dk_at dksX29_rule_2 18 rfl rfl)
theorem dX29_rule_68 : decode cX29_rule 68 = .ok (.goto (-64), 3) := dk_167 255 192 (dk_at dksX29_rule_2 21 rfl rfl)
theorem dX29_rule_71 : decode cX29_rule 71 = .ok (.aload_n 2, 1) := dk_44 (dk_at dksX29_rule_3 0 rfl rfl)
theorem dX29_rule_72 : decode cX29_rule 72 = .ok (.areturn, 1) := dk_176 (dk_at dksX29_rule_3 1 rfl rfl)
abbrev cX29_init : ByteArray := prog_13_method_1_code
def yX29_init : MethodName := ⟨RX29, "<init>", "(LPondHouse;I)V"⟩
def dkwX29_init_0 : List UInt8 := [42, 43, 181, 0, 3, 42, 43, 28, 183, 0, 9, 42, 187, 0, 15, 89, 183, 0, 17, 181, 0, 20, 177]
abbrev dktX29_init_0 : List UInt8 := dkwX29_init_0 ++ []
theorem dksX29_init_0 : cX29_init.data.toList.drop 0 = dktX29_init_0 := by decide +kernel
theorem dX29_init_0 : decode cX29_init 0 = .ok (.aload_n 0, 1) := dk_42 (dk_at dksX29_init_0 0 rfl rfl)
theorem dX29_init_1 : decode cX29_init 1 = .ok (.aload_n 1, 1) := dk_43 (dk_at dksX29_init_0 1 rfl rfl)
theorem dX29_init_2 : decode cX29_init 2 = .ok (.putfield 3, 3) := dk_181 0 3 (dk_at dksX29_init_0 2 rfl rfl)
theorem dX29_init_5 : decode cX29_init 5 = .ok (.aload_n 0, 1) := dk_42 (dk_at dksX29_init_0 5 rfl rfl)
theorem dX29_init_6 : decode cX29_init 6 = .ok (.aload_n 1, 1) := dk_43 (dk_at dksX29_init_0 6 rfl rfl)
theorem dX29_init_7 : decode cX29_init 7 = .ok (.iload_n 2, 1) := dk_28 (dk_at dksX29_init_0 7 rfl rfl)
theorem dX29_init_8 : decode cX29_init 8 = .ok (.invokespecial 9, 3) := dk_183 0 9 (dk_at dksX29_init_0 8 rfl rfl)
theorem dX29_init_11 : decode cX29_init 11 = .ok (.aload_n 0, 1) := dk_42 (dk_at dksX29_init_0 11 rfl rfl)
theorem dX29_init_12 : decode cX29_init 12 = .ok (.new 15, 3) := dk_187 0 15 (dk_at dksX29_init_0 12 rfl rfl)
theorem dX29_init_15 : decode cX29_init 15 = .ok (.dup, 1) := dk_89 (dk_at dksX29_init_0 15 rfl rfl)
theorem dX29_init_16 : decode cX29_init 16 = .ok (.invokespecial 17, 3) := dk_183 0 17 (dk_at dksX29_init_0 16 rfl rfl)
theorem dX29_init_19 : decode cX29_init 19 = .ok (.putfield 20, 3) := dk_181 0 20 (dk_at dksX29_init_0 19 rfl rfl)
theorem dX29_init_22 : decode cX29_init 22 = .ok (.return_, 1) := dk_177 (dk_at dksX29_init_0 22 rfl rfl)
theorem q207 : (Jvm.Cond.initialized "PondHouse$Edits") ∈ lw_all := lw_g (lw_at lw_m1 47 rfl) rfl
theorem q569 : (Jvm.Cond.fieldLink "PondHouse$Edits" (32 : Nat) "PondHouse$Draft" "isChanged" "Z") ∈ lw_all := lw_g (lw_at lw_m2 169 rfl) rfl
theorem q575 : (Jvm.Cond.fieldLink "PondHouse$Edits" (85 : Nat) "PondHouse$Draft" "fields" "[I") ∈ lw_all := lw_g (lw_at lw_m2 175 rfl) rfl
theorem q671 : (Jvm.Cond.selects "PondHouse$Edits" ({ cls := "java/lang/Object", name := "getClass", desc := "()Ljava/lang/Class;" } : Jvm.MethodName) ({ cls := "java/lang/Object", name := "getClass", desc := "()Ljava/lang/Class;" } : Jvm.MethodName)) ∈ lw_all := lw_g (lw_at lw_m3 31 rfl) rfl
theorem q799 : (Jvm.Cond.selects "PondHouse$Edits" ({ cls := "PondHouse$Change", name := "makes", desc := "(LPondHouse$Row;I)V" } : Jvm.MethodName) ({ cls := "PondHouse$Edits", name := "makes", desc := "(LPondHouse$Row;I)V" } : Jvm.MethodName)) ∈ lw_all := lw_g (lw_at lw_m3 159 rfl) rfl
theorem q800 : (Jvm.Cond.instanceMethod ({ cls := "PondHouse$Edits", name := "makes", desc := "(LPondHouse$Row;I)V" } : Jvm.MethodName)) ∈ lw_all := lw_g (lw_at lw_m3 160 rfl) rfl
theorem q801 : (Jvm.Cond.code ({ cls := "PondHouse$Edits", name := "makes", desc := "(LPondHouse$Row;I)V" } : Jvm.MethodName) prog_13_method_2_code (6 : Nat) (Option.none : Option Jvm.ClassFile.FieldType)) ∈ lw_all := lw_g (lw_at lw_m3 161 rfl) rfl
theorem q802 : (Jvm.Cond.methodLink "PondHouse$Edits" (28 : Nat) ({ cls := "PondHouse$Edits", name := "needed", desc := "(LPondHouse$Row;II)LPondHouse$Draft;" } : Jvm.MethodName)) ∈ lw_all := lw_g (lw_at lw_m3 162 rfl) rfl
theorem q803 : (Jvm.Cond.sameMethod "PondHouse$Edits" "PondHouse$Change" "needed" "(LPondHouse$Row;II)LPondHouse$Draft;") ∈ lw_all := lw_g (lw_at lw_m3 163 rfl) rfl
theorem q804 : (Jvm.Cond.selects "PondHouse$Edits" ({ cls := "PondHouse$Edits", name := "needed", desc := "(LPondHouse$Row;II)LPondHouse$Draft;" } : Jvm.MethodName) ({ cls := "PondHouse$Change", name := "needed", desc := "(LPondHouse$Row;II)LPondHouse$Draft;" } : Jvm.MethodName)) ∈ lw_all := lw_g (lw_at lw_m3 164 rfl) rfl
theorem q805 : (Jvm.Cond.methodLink "PondHouse$Edits" (38 : Nat) ({ cls := "PondHouse$Row", name := "size", desc := "()I" } : Jvm.MethodName)) ∈ lw_all := lw_g (lw_at lw_m3 165 rfl) rfl
theorem q806 : (Jvm.Cond.methodLink "PondHouse$Edits" (42 : Nat) ({ cls := "PondHouse$Row", name := "get", desc := "(I)Ljava/lang/Object;" } : Jvm.MethodName)) ∈ lw_all := lw_g (lw_at lw_m3 166 rfl) rfl
theorem q807 : (Jvm.Cond.classLink "PondHouse$Edits" (46 : Nat) "PondHouse$Edit") ∈ lw_all := lw_g (lw_at lw_m3 167 rfl) rfl
theorem q808 : (Jvm.Cond.methodLink "PondHouse$Edits" (52 : Nat) ({ cls := "PondHouse$Edits", name := "adds", desc := "(LPondHouse$Draft;LPondHouse$Member;I)V" } : Jvm.MethodName)) ∈ lw_all := lw_g (lw_at lw_m3 168 rfl) rfl
theorem q809 : (Jvm.Cond.sameMethod "PondHouse$Edits" "PondHouse$Change" "adds" "(LPondHouse$Draft;LPondHouse$Member;I)V") ∈ lw_all := lw_g (lw_at lw_m3 169 rfl) rfl
theorem q810 : (Jvm.Cond.selects "PondHouse$Edits" ({ cls := "PondHouse$Edits", name := "adds", desc := "(LPondHouse$Draft;LPondHouse$Member;I)V" } : Jvm.MethodName) ({ cls := "PondHouse$Change", name := "adds", desc := "(LPondHouse$Draft;LPondHouse$Member;I)V" } : Jvm.MethodName)) ∈ lw_all := lw_g (lw_at lw_m3 170 rfl) rfl
theorem q811 : (Jvm.Cond.methodLink "PondHouse$Edits" (59 : Nat) ({ cls := "PondHouse$Edits", name := "renames", desc := "(LPondHouse$Draft;LPondHouse$Edit;I)V" } : Jvm.MethodName)) ∈ lw_all := lw_g (lw_at lw_m3 171 rfl) rfl
theorem q812 : (Jvm.Cond.privateMethod ({ cls := "PondHouse$Edits", name := "renames", desc := "(LPondHouse$Draft;LPondHouse$Edit;I)V" } : Jvm.MethodName)) ∈ lw_tbl := lw_at lw_m3 172 rfl
theorem q813 : (Jvm.Cond.instanceMethod ({ cls := "PondHouse$Edits", name := "renames", desc := "(LPondHouse$Draft;LPondHouse$Edit;I)V" } : Jvm.MethodName)) ∈ lw_all := lw_g (lw_at lw_m3 173 rfl) rfl
theorem q814 : (Jvm.Cond.instantiable "PondHouse$Edits" (4 : Nat)) ∈ lw_all := lw_g (lw_at lw_m3 174 rfl) rfl
theorem q815 : (Jvm.Cond.code ({ cls := "PondHouse$Edits", name := "renames", desc := "(LPondHouse$Draft;LPondHouse$Edit;I)V" } : Jvm.MethodName) prog_13_method_3_code (5 : Nat) (Option.none : Option Jvm.ClassFile.FieldType)) ∈ lw_all := lw_g (lw_at lw_m3 175 rfl) rfl
theorem q816 : (Jvm.Cond.methodLink "PondHouse$Edits" (78 : Nat) ({ cls := "PondHouse$Draft", name := "field", desc := "(I)I" } : Jvm.MethodName)) ∈ lw_all := lw_g (lw_at lw_m3 176 rfl) rfl
theorem q817 : (Jvm.Cond.methodLinkNest "PondHouse$Edits" (74 : Nat) ({ cls := "PondHouse", name := "refuses", desc := "(III)LPondHouse$Refusal;" } : Jvm.MethodName) "PondHouse") ∈ lw_tbl := lw_at lw_m3 177 rfl
theorem q818 : (Jvm.Cond.methodLink "PondHouse$Edits" (82 : Nat) ({ cls := "PondHouse$Draft", name := "holds", desc := "(I)Z" } : Jvm.MethodName)) ∈ lw_all := lw_g (lw_at lw_m3 178 rfl) rfl
theorem q819 : (Jvm.Cond.methodLink "PondHouse$Edits" (70 : Nat) ({ cls := "PondHouse$Draft", name := "drops", desc := "(I)Z" } : Jvm.MethodName)) ∈ lw_all := lw_g (lw_at lw_m3 179 rfl) rfl
theorem q974 : (Jvm.Cond.instanceMethod ({ cls := "PondHouse$Edits", name := "rule", desc := "(I)LPondHouse$Worth;" } : Jvm.MethodName)) ∈ lw_all := lw_g (lw_at lw_m4 94 rfl) rfl
theorem q975 : (Jvm.Cond.selects "PondHouse$Edits" ({ cls := "PondHouse$Edits", name := "rule", desc := "(I)LPondHouse$Worth;" } : Jvm.MethodName) ({ cls := "PondHouse$Edits", name := "rule", desc := "(I)LPondHouse$Worth;" } : Jvm.MethodName)) ∈ lw_all := lw_g (lw_at lw_m4 95 rfl) rfl
theorem q976 : (Jvm.Cond.code ({ cls := "PondHouse$Edits", name := "rule", desc := "(I)LPondHouse$Worth;" } : Jvm.MethodName) prog_13_method_4_code (4 : Nat) (Option.some (Jvm.ClassFile.FieldType.object "PondHouse$Worth"))) ∈ lw_all := lw_g (lw_at lw_m4 96 rfl) rfl
theorem q2096 : (Jvm.Cond.fieldLink "PondHouse$Edits" (24 : Nat) "PondHouse$Edits" "kind" "I") ∈ lw_all := lw_g (lw_at lw_m9 16 rfl) rfl
theorem q2097 : (Jvm.Cond.sameField "PondHouse$Edits" "PondHouse$Change" "kind" "I") ∈ lw_all := lw_g (lw_at lw_m9 17 rfl) rfl
theorem q2122 : (Jvm.Cond.instanceMethod ({ cls := "PondHouse$Edits", name := "<init>", desc := "(LPondHouse;I)V" } : Jvm.MethodName)) ∈ lw_all := lw_g (lw_at lw_m9 42 rfl) rfl
theorem q2123 : (Jvm.Cond.code ({ cls := "PondHouse$Edits", name := "<init>", desc := "(LPondHouse;I)V" } : Jvm.MethodName) prog_13_method_1_code (3 : Nat) (Option.none : Option Jvm.ClassFile.FieldType)) ∈ lw_all := lw_g (lw_at lw_m9 43 rfl) rfl
theorem q2124 : (Jvm.Cond.methodLink "PondHouse$Edits" (9 : Nat) ({ cls := "PondHouse$Change", name := "<init>", desc := "(LPondHouse;I)V" } : Jvm.MethodName)) ∈ lw_all := lw_g (lw_at lw_m9 44 rfl) rfl
theorem q2125 : (Jvm.Cond.classLink "PondHouse$Edits" (15 : Nat) "PondHouse$Row") ∈ lw_all := lw_g (lw_at lw_m9 45 rfl) rfl
theorem q2126 : (Jvm.Cond.methodLinkNest "PondHouse$Edits" (17 : Nat) ({ cls := "PondHouse$Row", name := "<init>", desc := "()V" } : Jvm.MethodName) "PondHouse") ∈ lw_tbl := lw_at lw_m9 46 rfl
theorem q2127 : (Jvm.Cond.fieldLink "PondHouse$Edits" (20 : Nat) "PondHouse$Edits" "edits" "LPondHouse$Row;") ∈ lw_all := lw_g (lw_at lw_m9 47 rfl) rfl
theorem q2129 : (Jvm.Cond.fieldLink "PondHouse$Edits" (3 : Nat) "PondHouse$Edits" "this$0" "LPondHouse;") ∈ lw_all := lw_g (lw_at lw_m9 49 rfl) rfl
theorem q2130 : (Jvm.Cond.laysFinal "PondHouse$Edits" "PondHouse$Edits" "edits" "LPondHouse$Row;") ∈ lw_all := lw_g (lw_at lw_m9 50 rfl) rfl
theorem q2131 : (Jvm.Cond.soleField "PondHouse$Edits" "edits") ∈ lw_all := lw_g (lw_at lw_m9 51 rfl) rfl
theorem q2132 : (Jvm.Cond.laysFinal "PondHouse$Edits" "PondHouse$Edits" "this$0" "LPondHouse;") ∈ lw_all := lw_g (lw_at lw_m9 52 rfl) rfl
theorem q2133 : (Jvm.Cond.soleField "PondHouse$Edits" "this$0") ∈ lw_all := lw_g (lw_at lw_m9 53 rfl) rfl
theorem q2134 : (Jvm.Cond.laysFinal "PondHouse$Edits" "PondHouse$Change" "kind" "I") ∈ lw_all := lw_g (lw_at lw_m9 54 rfl) rfl
theorem q2135 : (Jvm.Cond.laysFinal "PondHouse$Edits" "PondHouse$Change" "this$0" "LPondHouse;") ∈ lw_all := lw_g (lw_at lw_m9 55 rfl) rfl
theorem q2136 : (Jvm.Cond.superclass "PondHouse$Edits" "PondHouse$Change") ∈ lw_all := lw_g (lw_at lw_m9 56 rfl) rfl
theorem q2144 : (Jvm.Cond.fieldLink "PondHouse$Edits" (48 : Nat) "PondHouse$Edit" "member" "LPondHouse$Member;") ∈ lw_all := lw_g (lw_at lw_m9 64 rfl) rfl
theorem q2146 : (Jvm.Cond.fieldLink "PondHouse$Edits" (67 : Nat) "PondHouse$Edit" "name" "I") ∈ lw_all := lw_g (lw_at lw_m9 66 rfl) rfl
theorem q2148 : (Jvm.Cond.fieldLink "PondHouse$Edits" (56 : Nat) "PondHouse$Edit" "to" "I") ∈ lw_all := lw_g (lw_at lw_m9 68 rfl) rfl
theorem q2150 : (Jvm.Cond.fieldLink "PondHouse$Edits" (63 : Nat) "PondHouse$Edit" "rule" "LPondHouse$Worth;") ∈ lw_all := lw_g (lw_at lw_m9 70 rfl) rfl
theorem q3084 : (Jvm.Cond.castable "PondHouse$Edits" "PondHouse$Change") ∈ lw_tbl := lw_at lw_m13 44 rfl
theorem q3120 : (Jvm.Cond.castable "PondHouse$Edits" "java/lang/Object") ∈ lw_tbl := lw_at lw_m13 80 rfl
theorem in_X29 : ∀ w ∈ wsX290, w ∈ lw_all := lw_in wsX290 [2134, 2135, 2130, 2132] (by decide +kernel) (by decide +kernel)

/-! PondHouse$Fault -/
set_option maxRecDepth 100000
def RX3 : String := "PondHouse$Fault"
def TX3 : u_T := fun k => match k with
  | 0 => ("java/lang/Throwable", "cause", "Ljava/lang/Throwable;", false)
  | 1 => ("java/lang/Throwable", "stackTrace", "[Ljava/lang/StackTraceElement;", false)
  | 2 => ("java/lang/Throwable", "suppressedExceptions", "Ljava/util/List;", false)
  | 3 => ("java/lang/Throwable", "detailMessage", "Ljava/lang/String;", false)
  | 4 => ("java/lang/Throwable", "backtrace", "Ljava/lang/Object;", false)
  | 5 => ("java/lang/Throwable", "depth", "I", false)
  | 6 => ("PondHouse$Fault", "kind", "I", false)
  | _ => ("PondHouse$Fault", "place", "I", false)
def tyX3 : Nat → FieldType := fun k => match k with
  | 0 => .object "java/lang/Throwable"
  | 1 => .array (.object "java/lang/StackTraceElement")
  | 2 => .object "java/util/List"
  | 3 => .object "java/lang/String"
  | 4 => .object "java/lang/Object"
  | 5 => .int
  | 6 => .int
  | _ => .int
abbrev wsX30 : List Cond := u_ws RX3 TX3 8
theorem nmX3 : ∀ a, a < 8 → ∀ b, b < 8 → a ≠ b → (TX3 a).2.1 ≠ (TX3 b).2.1 := by decide +kernel
theorem tyX3_ok : ∀ k, k < 8 → parseFieldDescriptor (TX3 k).2.2.1 = some (tyX3 k) := by decide +kernel
abbrev cX3_init : ByteArray := prog_15_method_1_code
def yX3_init : MethodName := ⟨RX3, "<init>", "()V"⟩
def dkwX3_init_0 : List UInt8 := [42, 1, 1, 3, 3, 183, 0, 1, 177]
abbrev dktX3_init_0 : List UInt8 := dkwX3_init_0 ++ []
theorem dksX3_init_0 : cX3_init.data.toList.drop 0 = dktX3_init_0 := by decide +kernel
theorem dX3_init_0 : decode cX3_init 0 = .ok (.aload_n 0, 1) := dk_42 (dk_at dksX3_init_0 0 rfl rfl)
theorem dX3_init_1 : decode cX3_init 1 = .ok (.aconst_null, 1) := dk_1 (dk_at dksX3_init_0 1 rfl rfl)
theorem dX3_init_2 : decode cX3_init 2 = .ok (.aconst_null, 1) := dk_1 (dk_at dksX3_init_0 2 rfl rfl)
theorem dX3_init_3 : decode cX3_init 3 = .ok (.iconst 0, 1) := dk_3 (dk_at dksX3_init_0 3 rfl rfl)
theorem dX3_init_4 : decode cX3_init 4 = .ok (.iconst 0, 1) := dk_3 (dk_at dksX3_init_0 4 rfl rfl)
theorem dX3_init_5 : decode cX3_init 5 = .ok (.invokespecial 1, 3) := dk_183 0 1 (dk_at dksX3_init_0 5 rfl rfl)
theorem dX3_init_8 : decode cX3_init 8 = .ok (.return_, 1) := dk_177 (dk_at dksX3_init_0 8 rfl rfl)
theorem q166 : (Jvm.Cond.initialized "PondHouse$Fault") ∈ lw_all := lw_g (lw_at lw_m1 6 rfl) rfl
theorem q673 : (Jvm.Cond.selects "PondHouse$Fault" ({ cls := "java/lang/Object", name := "getClass", desc := "()Ljava/lang/Class;" } : Jvm.MethodName) ({ cls := "java/lang/Object", name := "getClass", desc := "()Ljava/lang/Class;" } : Jvm.MethodName)) ∈ lw_all := lw_g (lw_at lw_m3 33 rfl) rfl
theorem q1115 : (Jvm.Cond.selects "PondHouse$Fault" ({ cls := "java/lang/Throwable", name := "fillInStackTrace", desc := "()Ljava/lang/Throwable;" } : Jvm.MethodName) ({ cls := "java/lang/Throwable", name := "fillInStackTrace", desc := "()Ljava/lang/Throwable;" } : Jvm.MethodName)) ∈ lw_all := lw_g (lw_at lw_m4 235 rfl) rfl
theorem q1153 : (Jvm.Cond.instantiable "PondHouse$Fault" (8 : Nat)) ∈ lw_all := lw_g (lw_at lw_m5 33 rfl) rfl
theorem q1154 : (Jvm.Cond.castable "PondHouse$Fault" "PondHouse$Fault") ∈ lw_tbl := lw_at lw_m5 34 rfl
theorem q1155 : (Jvm.Cond.selects "PondHouse$Fault" ({ cls := "java/lang/Throwable", name := "fillInStackTrace", desc := "(I)Ljava/lang/Throwable;" } : Jvm.MethodName) ({ cls := "java/lang/Throwable", name := "fillInStackTrace", desc := "(I)Ljava/lang/Throwable;" } : Jvm.MethodName)) ∈ lw_all := lw_g (lw_at lw_m5 35 rfl) rfl
theorem q1156 : (Jvm.Cond.lays "PondHouse$Fault" "java/lang/Throwable" "cause" "Ljava/lang/Throwable;") ∈ lw_all := lw_g (lw_at lw_m5 36 rfl) rfl
theorem q1157 : (Jvm.Cond.lays "PondHouse$Fault" "java/lang/Throwable" "stackTrace" "[Ljava/lang/StackTraceElement;") ∈ lw_all := lw_g (lw_at lw_m5 37 rfl) rfl
theorem q1158 : (Jvm.Cond.lays "PondHouse$Fault" "java/lang/Throwable" "suppressedExceptions" "Ljava/util/List;") ∈ lw_all := lw_g (lw_at lw_m5 38 rfl) rfl
theorem q1159 : (Jvm.Cond.lays "PondHouse$Fault" "java/lang/Throwable" "detailMessage" "Ljava/lang/String;") ∈ lw_all := lw_g (lw_at lw_m5 39 rfl) rfl
theorem q1160 : (Jvm.Cond.lays "PondHouse$Fault" "java/lang/Throwable" "backtrace" "Ljava/lang/Object;") ∈ lw_all := lw_g (lw_at lw_m5 40 rfl) rfl
theorem q1162 : (Jvm.Cond.instanceMethod ({ cls := "PondHouse$Fault", name := "<init>", desc := "()V" } : Jvm.MethodName)) ∈ lw_all := lw_g (lw_at lw_m5 42 rfl) rfl
theorem q1163 : (Jvm.Cond.code ({ cls := "PondHouse$Fault", name := "<init>", desc := "()V" } : Jvm.MethodName) prog_15_method_1_code (1 : Nat) (Option.none : Option Jvm.ClassFile.FieldType)) ∈ lw_all := lw_g (lw_at lw_m5 43 rfl) rfl
theorem q1164 : (Jvm.Cond.methodLink "PondHouse$Fault" (1 : Nat) ({ cls := "java/lang/Exception", name := "<init>", desc := "(Ljava/lang/String;Ljava/lang/Throwable;ZZ)V" } : Jvm.MethodName)) ∈ lw_all := lw_g (lw_at lw_m5 44 rfl) rfl
theorem q1167 : (Jvm.Cond.lays "PondHouse$Fault" "PondHouse$Fault" "kind" "I") ∈ lw_all := lw_g (lw_at lw_m5 47 rfl) rfl
theorem q1168 : (Jvm.Cond.soleField "PondHouse$Fault" "kind") ∈ lw_all := lw_g (lw_at lw_m5 48 rfl) rfl
theorem q1169 : (Jvm.Cond.lays "PondHouse$Fault" "PondHouse$Fault" "place" "I") ∈ lw_all := lw_g (lw_at lw_m5 49 rfl) rfl
theorem q1170 : (Jvm.Cond.soleField "PondHouse$Fault" "place") ∈ lw_all := lw_g (lw_at lw_m5 50 rfl) rfl
theorem q1171 : (Jvm.Cond.lays "PondHouse$Fault" "java/lang/Throwable" "depth" "I") ∈ lw_all := lw_g (lw_at lw_m5 51 rfl) rfl
theorem q1172 : (Jvm.Cond.superclass "PondHouse$Fault" "java/lang/Exception") ∈ lw_all := lw_g (lw_at lw_m5 52 rfl) rfl
theorem q3100 : (Jvm.Cond.castable "PondHouse$Fault" "java/lang/Object") ∈ lw_tbl := lw_at lw_m13 60 rfl
theorem in_X3 : ∀ w ∈ wsX30, w ∈ lw_all := lw_in wsX30 [1156, 1157, 1158, 1159, 1160, 1171, 1167, 1169] (by decide +kernel) (by decide +kernel)

/-! PondHouse$Edit -/
set_option maxRecDepth 100000
def RX30 : String := "PondHouse$Edit"
def TX30 : u_T := fun k => match k with
  | 0 => ("PondHouse$Edit", "member", "LPondHouse$Member;", true)
  | 1 => ("PondHouse$Edit", "name", "I", true)
  | 2 => ("PondHouse$Edit", "to", "I", true)
  | _ => ("PondHouse$Edit", "rule", "LPondHouse$Worth;", true)
def tyX30 : Nat → FieldType := fun k => match k with
  | 0 => .object "PondHouse$Member"
  | 1 => .int
  | 2 => .int
  | _ => .object "PondHouse$Worth"
abbrev wsX300 : List Cond := u_ws RX30 TX30 4
theorem nmX30 : ∀ a, a < 4 → ∀ b, b < 4 → a ≠ b → (TX30 a).2.1 ≠ (TX30 b).2.1 := by decide +kernel
theorem tyX30_ok : ∀ k, k < 4 → parseFieldDescriptor (TX30 k).2.2.1 = some (tyX30 k) := by decide +kernel
abbrev cX30_init : ByteArray := prog_12_method_1_code
def yX30_init : MethodName := ⟨RX30, "<init>", "(LPondHouse$Member;IILPondHouse$Worth;)V"⟩
def dkwX30_init_1 : List UInt8 := [181, 0, 20, 177]
abbrev dktX30_init_1 : List UInt8 := dkwX30_init_1 ++ []
def dkwX30_init_0 : List UInt8 := [42, 183, 0, 1, 42, 43, 181, 0, 7, 42, 28, 181, 0, 13, 42, 29, 181, 0, 17, 42, 25, 4]
abbrev dktX30_init_0 : List UInt8 := dkwX30_init_0 ++ dktX30_init_1
theorem dksX30_init_0 : cX30_init.data.toList.drop 0 = dktX30_init_0 := by decide +kernel
theorem dksX30_init_1 : cX30_init.data.toList.drop 22 = dktX30_init_1 := dk_seg dksX30_init_0 22 rfl rfl
theorem dX30_init_0 : decode cX30_init 0 = .ok (.aload_n 0, 1) := dk_42 (dk_at dksX30_init_0 0 rfl rfl)
theorem dX30_init_1 : decode cX30_init 1 = .ok (.invokespecial 1, 3) := dk_183 0 1 (dk_at dksX30_init_0 1 rfl rfl)
theorem dX30_init_4 : decode cX30_init 4 = .ok (.aload_n 0, 1) := dk_42 (dk_at dksX30_init_0 4 rfl rfl)
theorem dX30_init_5 : decode cX30_init 5 = .ok (.aload_n 1, 1) := dk_43 (dk_at dksX30_init_0 5 rfl rfl)
theorem dX30_init_6 : decode cX30_init 6 = .ok (.putfield 7, 3) := dk_181 0 7 (dk_at dksX30_init_0 6 rfl rfl)
theorem dX30_init_9 : decode cX30_init 9 = .ok (.aload_n 0, 1) := dk_42 (dk_at dksX30_init_0 9 rfl rfl)
theorem dX30_init_10 : decode cX30_init 10 = .ok (.iload_n 2, 1) := dk_28 (dk_at dksX30_init_0 10 rfl rfl)
theorem dX30_init_11 : decode cX30_init 11 = .ok (.putfield 13, 3) := dk_181 0 13 (dk_at dksX30_init_0 11 rfl rfl)
theorem dX30_init_14 : decode cX30_init 14 = .ok (.aload_n 0, 1) := dk_42 (dk_at dksX30_init_0 14 rfl rfl)
theorem dX30_init_15 : decode cX30_init 15 = .ok (.iload_n 3, 1) := dk_29 (dk_at dksX30_init_0 15 rfl rfl)
theorem dX30_init_16 : decode cX30_init 16 = .ok (.putfield 17, 3) := dk_181 0 17 (dk_at dksX30_init_0 16 rfl rfl)
theorem dX30_init_19 : decode cX30_init 19 = .ok (.aload_n 0, 1) := dk_42 (dk_at dksX30_init_0 19 rfl rfl)
theorem dX30_init_20 : decode cX30_init 20 = .ok (.aload 4, 2) := dk_25 4 (dk_at dksX30_init_0 20 rfl rfl)
theorem dX30_init_22 : decode cX30_init 22 = .ok (.putfield 20, 3) := dk_181 0 20 (dk_at dksX30_init_1 0 rfl rfl)
theorem dX30_init_25 : decode cX30_init 25 = .ok (.return_, 1) := dk_177 (dk_at dksX30_init_1 3 rfl rfl)
theorem q208 : (Jvm.Cond.initialized "PondHouse$Edit") ∈ lw_all := lw_g (lw_at lw_m1 48 rfl) rfl
theorem q670 : (Jvm.Cond.selects "PondHouse$Edit" ({ cls := "java/lang/Object", name := "getClass", desc := "()Ljava/lang/Class;" } : Jvm.MethodName) ({ cls := "java/lang/Object", name := "getClass", desc := "()Ljava/lang/Class;" } : Jvm.MethodName)) ∈ lw_all := lw_g (lw_at lw_m3 30 rfl) rfl
theorem q2138 : (Jvm.Cond.instantiable "PondHouse$Edit" (4 : Nat)) ∈ lw_all := lw_g (lw_at lw_m9 58 rfl) rfl
theorem q2140 : (Jvm.Cond.instanceMethod ({ cls := "PondHouse$Edit", name := "<init>", desc := "(LPondHouse$Member;IILPondHouse$Worth;)V" } : Jvm.MethodName)) ∈ lw_all := lw_g (lw_at lw_m9 60 rfl) rfl
theorem q2141 : (Jvm.Cond.code ({ cls := "PondHouse$Edit", name := "<init>", desc := "(LPondHouse$Member;IILPondHouse$Worth;)V" } : Jvm.MethodName) prog_12_method_1_code (5 : Nat) (Option.none : Option Jvm.ClassFile.FieldType)) ∈ lw_all := lw_g (lw_at lw_m9 61 rfl) rfl
theorem q2142 : (Jvm.Cond.methodLink "PondHouse$Edit" (1 : Nat) ({ cls := "java/lang/Object", name := "<init>", desc := "()V" } : Jvm.MethodName)) ∈ lw_all := lw_g (lw_at lw_m9 62 rfl) rfl
theorem q2143 : (Jvm.Cond.fieldLink "PondHouse$Edit" (7 : Nat) "PondHouse$Edit" "member" "LPondHouse$Member;") ∈ lw_all := lw_g (lw_at lw_m9 63 rfl) rfl
theorem q2145 : (Jvm.Cond.fieldLink "PondHouse$Edit" (13 : Nat) "PondHouse$Edit" "name" "I") ∈ lw_all := lw_g (lw_at lw_m9 65 rfl) rfl
theorem q2147 : (Jvm.Cond.fieldLink "PondHouse$Edit" (17 : Nat) "PondHouse$Edit" "to" "I") ∈ lw_all := lw_g (lw_at lw_m9 67 rfl) rfl
theorem q2149 : (Jvm.Cond.fieldLink "PondHouse$Edit" (20 : Nat) "PondHouse$Edit" "rule" "LPondHouse$Worth;") ∈ lw_all := lw_g (lw_at lw_m9 69 rfl) rfl
theorem q2151 : (Jvm.Cond.laysFinal "PondHouse$Edit" "PondHouse$Edit" "member" "LPondHouse$Member;") ∈ lw_all := lw_g (lw_at lw_m9 71 rfl) rfl
theorem q2152 : (Jvm.Cond.soleField "PondHouse$Edit" "member") ∈ lw_all := lw_g (lw_at lw_m9 72 rfl) rfl
theorem q2153 : (Jvm.Cond.laysFinal "PondHouse$Edit" "PondHouse$Edit" "name" "I") ∈ lw_all := lw_g (lw_at lw_m9 73 rfl) rfl
theorem q2154 : (Jvm.Cond.soleField "PondHouse$Edit" "name") ∈ lw_all := lw_g (lw_at lw_m9 74 rfl) rfl
theorem q2155 : (Jvm.Cond.laysFinal "PondHouse$Edit" "PondHouse$Edit" "to" "I") ∈ lw_all := lw_g (lw_at lw_m9 75 rfl) rfl
theorem q2156 : (Jvm.Cond.soleField "PondHouse$Edit" "to") ∈ lw_all := lw_g (lw_at lw_m9 76 rfl) rfl
theorem q2157 : (Jvm.Cond.laysFinal "PondHouse$Edit" "PondHouse$Edit" "rule" "LPondHouse$Worth;") ∈ lw_all := lw_g (lw_at lw_m9 77 rfl) rfl
theorem q2158 : (Jvm.Cond.soleField "PondHouse$Edit" "rule") ∈ lw_all := lw_g (lw_at lw_m9 78 rfl) rfl
theorem q2159 : (Jvm.Cond.superclass "PondHouse$Edit" "java/lang/Object") ∈ lw_all := lw_g (lw_at lw_m9 79 rfl) rfl
theorem q3121 : (Jvm.Cond.castable "PondHouse$Edit" "java/lang/Object") ∈ lw_tbl := lw_at lw_m13 81 rfl
theorem in_X30 : ∀ w ∈ wsX300, w ∈ lw_all := lw_in wsX300 [2151, 2153, 2155, 2157] (by decide +kernel) (by decide +kernel)

/-! PondHouse$Goes -/
set_option maxRecDepth 100000
def RX31 : String := "PondHouse$Goes"
def TX31 : u_T := fun k => match k with
  | 0 => ("PondHouse$Change", "kind", "I", true)
  | 1 => ("PondHouse$Change", "this$0", "LPondHouse;", true)
  | _ => ("PondHouse$Goes", "this$0", "LPondHouse;", true)
def tyX31 : Nat → FieldType := fun k => match k with
  | 0 => .int
  | 1 => .object "PondHouse"
  | _ => .object "PondHouse"
abbrev wsX310 : List Cond := u_ws RX31 TX31 3
-- two fields of one name: no nmX31
theorem tyX31_ok : ∀ k, k < 3 → parseFieldDescriptor (TX31 k).2.2.1 = some (tyX31 k) := by decide +kernel
abbrev cX31_makes : ByteArray := prog_19_method_2_code
def yX31_makes : MethodName := ⟨RX31, "makes", "(LPondHouse$Row;I)V"⟩
def dkwX31_makes_2 : List UInt8 := [28, 2, 182, 0, 38, 191, 132, 4, 1, 167, 255, 213, 43, 45, 182, 0, 42, 177]
abbrev dktX31_makes_2 : List UInt8 := dkwX31_makes_2 ++ []
def dkwX31_makes_1 : List UInt8 := [21, 4, 182, 0, 29, 192, 0, 33, 180, 0, 35, 42, 180, 0, 15, 160, 0, 15, 42, 180, 0, 3, 16, 6]
abbrev dktX31_makes_1 : List UInt8 := dkwX31_makes_1 ++ dktX31_makes_2
def dkwX31_makes_0 : List UInt8 := [42, 43, 42, 180, 0, 15, 28, 182, 0, 19, 78, 3, 54, 4, 21, 4, 43, 182, 0, 23, 162, 0, 40, 43]
abbrev dktX31_makes_0 : List UInt8 := dkwX31_makes_0 ++ dktX31_makes_1
theorem dksX31_makes_0 : cX31_makes.data.toList.drop 0 = dktX31_makes_0 := by decide +kernel
theorem dksX31_makes_1 : cX31_makes.data.toList.drop 24 = dktX31_makes_1 := dk_seg dksX31_makes_0 24 rfl rfl
theorem dksX31_makes_2 : cX31_makes.data.toList.drop 48 = dktX31_makes_2 := dk_seg dksX31_makes_1 24 rfl rfl
theorem dX31_makes_0 : decode cX31_makes 0 = .ok (.aload_n 0, 1) := dk_42 (dk_at dksX31_makes_0 0 rfl rfl)
theorem dX31_makes_1 : decode cX31_makes 1 = .ok (.aload_n 1, 1) := dk_43 (dk_at dksX31_makes_0 1 rfl rfl)
theorem dX31_makes_2 : decode cX31_makes 2 = .ok (.aload_n 0, 1) := dk_42 (dk_at dksX31_makes_0 2 rfl rfl)
theorem dX31_makes_3 : decode cX31_makes 3 = .ok (.getfield 15, 3) := dk_180 0 15 (dk_at dksX31_makes_0 3 rfl rfl)
theorem dX31_makes_6 : decode cX31_makes 6 = .ok (.iload_n 2, 1) := dk_28 (dk_at dksX31_makes_0 6 rfl rfl)
theorem dX31_makes_7 : decode cX31_makes 7 = .ok (.invokevirtual 19, 3) := dk_182 0 19 (dk_at dksX31_makes_0 7 rfl rfl)
theorem dX31_makes_10 : decode cX31_makes 10 = .ok (.astore_n 3, 1) := dk_78 (dk_at dksX31_makes_0 10 rfl rfl)
theorem dX31_makes_11 : decode cX31_makes 11 = .ok (.iconst 0, 1) := dk_3 (dk_at dksX31_makes_0 11 rfl rfl)
theorem dX31_makes_12 : decode cX31_makes 12 = .ok (.istore 4, 2) := dk_54 4 (dk_at dksX31_makes_0 12 rfl rfl)
theorem dX31_makes_14 : decode cX31_makes 14 = .ok (.iload 4, 2) := dk_21 4 (dk_at dksX31_makes_0 14 rfl rfl)
theorem dX31_makes_16 : decode cX31_makes 16 = .ok (.aload_n 1, 1) := dk_43 (dk_at dksX31_makes_0 16 rfl rfl)
theorem dX31_makes_17 : decode cX31_makes 17 = .ok (.invokevirtual 23, 3) := dk_182 0 23 (dk_at dksX31_makes_0 17 rfl rfl)
theorem dX31_makes_20 : decode cX31_makes 20 = .ok (.if_icmp .ge 40, 3) := dk_162 0 40 (dk_at dksX31_makes_0 20 rfl rfl)
theorem dX31_makes_23 : decode cX31_makes 23 = .ok (.aload_n 1, 1) := dk_43 (dk_at dksX31_makes_0 23 rfl rfl)
theorem dX31_makes_24 : decode cX31_makes 24 = .ok (.iload 4, 2) := dk_21 4 (dk_at dksX31_makes_1 0 rfl rfl)
theorem dX31_makes_26 : decode cX31_makes 26 = .ok (.invokevirtual 29, 3) := dk_182 0 29 (dk_at dksX31_makes_1 2 rfl rfl)
theorem dX31_makes_29 : decode cX31_makes 29 = .ok (.checkcast 33, 3) := dk_192 0 33 (dk_at dksX31_makes_1 5 rfl rfl)
theorem dX31_makes_32 : decode cX31_makes 32 = .ok (.getfield 35, 3) := dk_180 0 35 (dk_at dksX31_makes_1 8 rfl rfl)
theorem dX31_makes_35 : decode cX31_makes 35 = .ok (.aload_n 0, 1) := dk_42 (dk_at dksX31_makes_1 11 rfl rfl)
theorem dX31_makes_36 : decode cX31_makes 36 = .ok (.getfield 15, 3) := dk_180 0 15 (dk_at dksX31_makes_1 12 rfl rfl)
theorem dX31_makes_39 : decode cX31_makes 39 = .ok (.if_icmp .ne 15, 3) := dk_160 0 15 (dk_at dksX31_makes_1 15 rfl rfl)
theorem dX31_makes_42 : decode cX31_makes 42 = .ok (.aload_n 0, 1) := dk_42 (dk_at dksX31_makes_1 18 rfl rfl)
theorem dX31_makes_43 : decode cX31_makes 43 = .ok (.getfield 3, 3) := dk_180 0 3 (dk_at dksX31_makes_1 19 rfl rfl)
theorem dX31_makes_46 : decode cX31_makes 46 = .ok (.bipush 6, 2) := dk_16 6 (dk_at dksX31_makes_1 22 rfl rfl)
theorem dX31_makes_48 : decode cX31_makes 48 = .ok (.iload_n 2, 1) := dk_28 (dk_at dksX31_makes_2 0 rfl rfl)
theorem dX31_makes_49 : decode cX31_makes 49 = .ok (.iconst (-1), 1) := dk_2 (dk_at dksX31_makes_2 1 rfl rfl)
theorem dX31_makes_50 : decode cX31_makes 50 = .ok (.invokevirtual 38, 3) := dk_182 0 38 (dk_at dksX31_makes_2 2 rfl rfl)
theorem dX31_makes_53 : decode cX31_makes 53 = .ok (.athrow, 1) := dk_191 (dk_at dksX31_makes_2 5 rfl rfl)
theorem dX31_makes_54 : decode cX31_makes 54 = .ok (.iinc 4 1, 3) := dk_132 4 1 (dk_at dksX31_makes_2 6 rfl rfl)
theorem dX31_makes_57 : decode cX31_makes 57 = .ok (.goto (-43), 3) := dk_167 255 213 (dk_at dksX31_makes_2 9 rfl rfl)
theorem dX31_makes_60 : decode cX31_makes 60 = .ok (.aload_n 1, 1) := dk_43 (dk_at dksX31_makes_2 12 rfl rfl)
theorem dX31_makes_61 : decode cX31_makes 61 = .ok (.aload_n 3, 1) := dk_45 (dk_at dksX31_makes_2 13 rfl rfl)
theorem dX31_makes_62 : decode cX31_makes 62 = .ok (.invokevirtual 42, 3) := dk_182 0 42 (dk_at dksX31_makes_2 14 rfl rfl)
theorem dX31_makes_65 : decode cX31_makes 65 = .ok (.return_, 1) := dk_177 (dk_at dksX31_makes_2 17 rfl rfl)
abbrev cX31_init : ByteArray := prog_19_method_1_code
def yX31_init : MethodName := ⟨RX31, "<init>", "(LPondHouse;I)V"⟩
def dkwX31_init_0 : List UInt8 := [42, 43, 181, 0, 3, 42, 43, 28, 183, 0, 9, 177]
abbrev dktX31_init_0 : List UInt8 := dkwX31_init_0 ++ []
theorem dksX31_init_0 : cX31_init.data.toList.drop 0 = dktX31_init_0 := by decide +kernel
theorem dX31_init_0 : decode cX31_init 0 = .ok (.aload_n 0, 1) := dk_42 (dk_at dksX31_init_0 0 rfl rfl)
theorem dX31_init_1 : decode cX31_init 1 = .ok (.aload_n 1, 1) := dk_43 (dk_at dksX31_init_0 1 rfl rfl)
theorem dX31_init_2 : decode cX31_init 2 = .ok (.putfield 3, 3) := dk_181 0 3 (dk_at dksX31_init_0 2 rfl rfl)
theorem dX31_init_5 : decode cX31_init 5 = .ok (.aload_n 0, 1) := dk_42 (dk_at dksX31_init_0 5 rfl rfl)
theorem dX31_init_6 : decode cX31_init 6 = .ok (.aload_n 1, 1) := dk_43 (dk_at dksX31_init_0 6 rfl rfl)
theorem dX31_init_7 : decode cX31_init 7 = .ok (.iload_n 2, 1) := dk_28 (dk_at dksX31_init_0 7 rfl rfl)
theorem dX31_init_8 : decode cX31_init 8 = .ok (.invokespecial 9, 3) := dk_183 0 9 (dk_at dksX31_init_0 8 rfl rfl)
theorem dX31_init_11 : decode cX31_init 11 = .ok (.return_, 1) := dk_177 (dk_at dksX31_init_0 11 rfl rfl)
theorem q209 : (Jvm.Cond.initialized "PondHouse$Goes") ∈ lw_all := lw_g (lw_at lw_m1 49 rfl) rfl
theorem q565 : (Jvm.Cond.fieldLink "PondHouse$Goes" (35 : Nat) "PondHouse$Draft" "above" "I") ∈ lw_all := lw_g (lw_at lw_m2 165 rfl) rfl
theorem q677 : (Jvm.Cond.selects "PondHouse$Goes" ({ cls := "java/lang/Object", name := "getClass", desc := "()Ljava/lang/Class;" } : Jvm.MethodName) ({ cls := "java/lang/Object", name := "getClass", desc := "()Ljava/lang/Class;" } : Jvm.MethodName)) ∈ lw_all := lw_g (lw_at lw_m3 37 rfl) rfl
theorem q826 : (Jvm.Cond.selects "PondHouse$Goes" ({ cls := "PondHouse$Change", name := "makes", desc := "(LPondHouse$Row;I)V" } : Jvm.MethodName) ({ cls := "PondHouse$Goes", name := "makes", desc := "(LPondHouse$Row;I)V" } : Jvm.MethodName)) ∈ lw_all := lw_g (lw_at lw_m3 186 rfl) rfl
theorem q827 : (Jvm.Cond.instanceMethod ({ cls := "PondHouse$Goes", name := "makes", desc := "(LPondHouse$Row;I)V" } : Jvm.MethodName)) ∈ lw_all := lw_g (lw_at lw_m3 187 rfl) rfl
theorem q828 : (Jvm.Cond.code ({ cls := "PondHouse$Goes", name := "makes", desc := "(LPondHouse$Row;I)V" } : Jvm.MethodName) prog_19_method_2_code (5 : Nat) (Option.none : Option Jvm.ClassFile.FieldType)) ∈ lw_all := lw_g (lw_at lw_m3 188 rfl) rfl
theorem q829 : (Jvm.Cond.methodLink "PondHouse$Goes" (19 : Nat) ({ cls := "PondHouse$Goes", name := "needed", desc := "(LPondHouse$Row;II)LPondHouse$Draft;" } : Jvm.MethodName)) ∈ lw_all := lw_g (lw_at lw_m3 189 rfl) rfl
theorem q830 : (Jvm.Cond.sameMethod "PondHouse$Goes" "PondHouse$Change" "needed" "(LPondHouse$Row;II)LPondHouse$Draft;") ∈ lw_all := lw_g (lw_at lw_m3 190 rfl) rfl
theorem q831 : (Jvm.Cond.selects "PondHouse$Goes" ({ cls := "PondHouse$Goes", name := "needed", desc := "(LPondHouse$Row;II)LPondHouse$Draft;" } : Jvm.MethodName) ({ cls := "PondHouse$Change", name := "needed", desc := "(LPondHouse$Row;II)LPondHouse$Draft;" } : Jvm.MethodName)) ∈ lw_all := lw_g (lw_at lw_m3 191 rfl) rfl
theorem q832 : (Jvm.Cond.methodLink "PondHouse$Goes" (23 : Nat) ({ cls := "PondHouse$Row", name := "size", desc := "()I" } : Jvm.MethodName)) ∈ lw_all := lw_g (lw_at lw_m3 192 rfl) rfl
theorem q833 : (Jvm.Cond.methodLink "PondHouse$Goes" (29 : Nat) ({ cls := "PondHouse$Row", name := "get", desc := "(I)Ljava/lang/Object;" } : Jvm.MethodName)) ∈ lw_all := lw_g (lw_at lw_m3 193 rfl) rfl
theorem q834 : (Jvm.Cond.classLink "PondHouse$Goes" (33 : Nat) "PondHouse$Draft") ∈ lw_all := lw_g (lw_at lw_m3 194 rfl) rfl
theorem q835 : (Jvm.Cond.methodLinkNest "PondHouse$Goes" (38 : Nat) ({ cls := "PondHouse", name := "refuses", desc := "(III)LPondHouse$Refusal;" } : Jvm.MethodName) "PondHouse") ∈ lw_tbl := lw_at lw_m3 195 rfl
theorem q836 : (Jvm.Cond.methodLink "PondHouse$Goes" (42 : Nat) ({ cls := "PondHouse$Row", name := "drop", desc := "(Ljava/lang/Object;)V" } : Jvm.MethodName)) ∈ lw_all := lw_g (lw_at lw_m3 196 rfl) rfl
theorem q2098 : (Jvm.Cond.fieldLink "PondHouse$Goes" (15 : Nat) "PondHouse$Goes" "kind" "I") ∈ lw_all := lw_g (lw_at lw_m9 18 rfl) rfl
theorem q2099 : (Jvm.Cond.sameField "PondHouse$Goes" "PondHouse$Change" "kind" "I") ∈ lw_all := lw_g (lw_at lw_m9 19 rfl) rfl
theorem q2170 : (Jvm.Cond.instantiable "PondHouse$Goes" (3 : Nat)) ∈ lw_all := lw_g (lw_at lw_m9 90 rfl) rfl
theorem q2172 : (Jvm.Cond.instanceMethod ({ cls := "PondHouse$Goes", name := "<init>", desc := "(LPondHouse;I)V" } : Jvm.MethodName)) ∈ lw_all := lw_g (lw_at lw_m9 92 rfl) rfl
theorem q2173 : (Jvm.Cond.code ({ cls := "PondHouse$Goes", name := "<init>", desc := "(LPondHouse;I)V" } : Jvm.MethodName) prog_19_method_1_code (3 : Nat) (Option.none : Option Jvm.ClassFile.FieldType)) ∈ lw_all := lw_g (lw_at lw_m9 93 rfl) rfl
theorem q2174 : (Jvm.Cond.methodLink "PondHouse$Goes" (9 : Nat) ({ cls := "PondHouse$Change", name := "<init>", desc := "(LPondHouse;I)V" } : Jvm.MethodName)) ∈ lw_all := lw_g (lw_at lw_m9 94 rfl) rfl
theorem q2175 : (Jvm.Cond.fieldLink "PondHouse$Goes" (3 : Nat) "PondHouse$Goes" "this$0" "LPondHouse;") ∈ lw_all := lw_g (lw_at lw_m9 95 rfl) rfl
theorem q2176 : (Jvm.Cond.laysFinal "PondHouse$Goes" "PondHouse$Goes" "this$0" "LPondHouse;") ∈ lw_all := lw_g (lw_at lw_m9 96 rfl) rfl
theorem q2177 : (Jvm.Cond.soleField "PondHouse$Goes" "this$0") ∈ lw_all := lw_g (lw_at lw_m9 97 rfl) rfl
theorem q2178 : (Jvm.Cond.laysFinal "PondHouse$Goes" "PondHouse$Change" "kind" "I") ∈ lw_all := lw_g (lw_at lw_m9 98 rfl) rfl
theorem q2179 : (Jvm.Cond.laysFinal "PondHouse$Goes" "PondHouse$Change" "this$0" "LPondHouse;") ∈ lw_all := lw_g (lw_at lw_m9 99 rfl) rfl
theorem q2180 : (Jvm.Cond.superclass "PondHouse$Goes" "PondHouse$Change") ∈ lw_all := lw_g (lw_at lw_m9 100 rfl) rfl
theorem q3085 : (Jvm.Cond.castable "PondHouse$Goes" "PondHouse$Change") ∈ lw_tbl := lw_at lw_m13 45 rfl
theorem q3122 : (Jvm.Cond.castable "PondHouse$Goes" "java/lang/Object") ∈ lw_tbl := lw_at lw_m13 82 rfl
theorem in_X31 : ∀ w ∈ wsX310, w ∈ lw_all := lw_in wsX310 [2178, 2179, 2176] (by decide +kernel) (by decide +kernel)

/-! PondHouse$Moves -/
set_option maxRecDepth 100000
def RX32 : String := "PondHouse$Moves"
def TX32 : u_T := fun k => match k with
  | 0 => ("PondHouse$Change", "kind", "I", true)
  | 1 => ("PondHouse$Change", "this$0", "LPondHouse;", true)
  | 2 => ("PondHouse$Moves", "above", "I", true)
  | _ => ("PondHouse$Moves", "this$0", "LPondHouse;", true)
def tyX32 : Nat → FieldType := fun k => match k with
  | 0 => .int
  | 1 => .object "PondHouse"
  | 2 => .int
  | _ => .object "PondHouse"
abbrev wsX320 : List Cond := u_ws RX32 TX32 4
-- two fields of one name: no nmX32
theorem tyX32_ok : ∀ k, k < 4 → parseFieldDescriptor (TX32 k).2.2.1 = some (tyX32 k) := by decide +kernel
abbrev cX32_makes : ByteArray := prog_24_method_2_code
def yX32_makes : MethodName := ⟨RX32, "makes", "(LPondHouse$Row;I)V"⟩
def dkwX32_makes_3 : List UInt8 := [180, 0, 34, 54, 4, 167, 255, 219, 45, 42, 180, 0, 15, 181, 0, 34, 45, 4, 181, 0, 37, 177]
abbrev dktX32_makes_3 : List UInt8 := dkwX32_makes_3 ++ []
def dkwX32_makes_2 : List UInt8 := [180, 0, 19, 160, 0, 14, 42, 180, 0, 3, 8, 28, 2, 182, 0, 26, 191, 43, 21, 4, 184, 0, 30]
abbrev dktX32_makes_2 : List UInt8 := dkwX32_makes_2 ++ dktX32_makes_3
def dkwX32_makes_1 : List UInt8 := [180, 0, 15, 28, 182, 0, 22, 87, 42, 180, 0, 15, 54, 4, 21, 4, 2, 159, 0, 37, 21, 4, 42]
abbrev dktX32_makes_1 : List UInt8 := dkwX32_makes_1 ++ dktX32_makes_2
def dkwX32_makes_0 : List UInt8 := [42, 43, 42, 180, 0, 19, 28, 182, 0, 22, 78, 42, 180, 0, 15, 2, 159, 0, 14, 42, 43, 42]
abbrev dktX32_makes_0 : List UInt8 := dkwX32_makes_0 ++ dktX32_makes_1
theorem dksX32_makes_0 : cX32_makes.data.toList.drop 0 = dktX32_makes_0 := by decide +kernel
theorem dksX32_makes_1 : cX32_makes.data.toList.drop 22 = dktX32_makes_1 := dk_seg dksX32_makes_0 22 rfl rfl
theorem dksX32_makes_2 : cX32_makes.data.toList.drop 45 = dktX32_makes_2 := dk_seg dksX32_makes_1 23 rfl rfl
theorem dksX32_makes_3 : cX32_makes.data.toList.drop 68 = dktX32_makes_3 := dk_seg dksX32_makes_2 23 rfl rfl
theorem dX32_makes_0 : decode cX32_makes 0 = .ok (.aload_n 0, 1) := dk_42 (dk_at dksX32_makes_0 0 rfl rfl)
theorem dX32_makes_1 : decode cX32_makes 1 = .ok (.aload_n 1, 1) := dk_43 (dk_at dksX32_makes_0 1 rfl rfl)
theorem dX32_makes_2 : decode cX32_makes 2 = .ok (.aload_n 0, 1) := dk_42 (dk_at dksX32_makes_0 2 rfl rfl)
theorem dX32_makes_3 : decode cX32_makes 3 = .ok (.getfield 19, 3) := dk_180 0 19 (dk_at dksX32_makes_0 3 rfl rfl)
theorem dX32_makes_6 : decode cX32_makes 6 = .ok (.iload_n 2, 1) := dk_28 (dk_at dksX32_makes_0 6 rfl rfl)
theorem dX32_makes_7 : decode cX32_makes 7 = .ok (.invokevirtual 22, 3) := dk_182 0 22 (dk_at dksX32_makes_0 7 rfl rfl)
theorem dX32_makes_10 : decode cX32_makes 10 = .ok (.astore_n 3, 1) := dk_78 (dk_at dksX32_makes_0 10 rfl rfl)
theorem dX32_makes_11 : decode cX32_makes 11 = .ok (.aload_n 0, 1) := dk_42 (dk_at dksX32_makes_0 11 rfl rfl)
theorem dX32_makes_12 : decode cX32_makes 12 = .ok (.getfield 15, 3) := dk_180 0 15 (dk_at dksX32_makes_0 12 rfl rfl)
theorem dX32_makes_15 : decode cX32_makes 15 = .ok (.iconst (-1), 1) := dk_2 (dk_at dksX32_makes_0 15 rfl rfl)
theorem dX32_makes_16 : decode cX32_makes 16 = .ok (.if_icmp .eq 14, 3) := dk_159 0 14 (dk_at dksX32_makes_0 16 rfl rfl)
theorem dX32_makes_19 : decode cX32_makes 19 = .ok (.aload_n 0, 1) := dk_42 (dk_at dksX32_makes_0 19 rfl rfl)
theorem dX32_makes_20 : decode cX32_makes 20 = .ok (.aload_n 1, 1) := dk_43 (dk_at dksX32_makes_0 20 rfl rfl)
theorem dX32_makes_21 : decode cX32_makes 21 = .ok (.aload_n 0, 1) := dk_42 (dk_at dksX32_makes_0 21 rfl rfl)
theorem dX32_makes_22 : decode cX32_makes 22 = .ok (.getfield 15, 3) := dk_180 0 15 (dk_at dksX32_makes_1 0 rfl rfl)
theorem dX32_makes_25 : decode cX32_makes 25 = .ok (.iload_n 2, 1) := dk_28 (dk_at dksX32_makes_1 3 rfl rfl)
theorem dX32_makes_26 : decode cX32_makes 26 = .ok (.invokevirtual 22, 3) := dk_182 0 22 (dk_at dksX32_makes_1 4 rfl rfl)
theorem dX32_makes_29 : decode cX32_makes 29 = .ok (.pop, 1) := dk_87 (dk_at dksX32_makes_1 7 rfl rfl)
theorem dX32_makes_30 : decode cX32_makes 30 = .ok (.aload_n 0, 1) := dk_42 (dk_at dksX32_makes_1 8 rfl rfl)
theorem dX32_makes_31 : decode cX32_makes 31 = .ok (.getfield 15, 3) := dk_180 0 15 (dk_at dksX32_makes_1 9 rfl rfl)
theorem dX32_makes_34 : decode cX32_makes 34 = .ok (.istore 4, 2) := dk_54 4 (dk_at dksX32_makes_1 12 rfl rfl)
theorem dX32_makes_36 : decode cX32_makes 36 = .ok (.iload 4, 2) := dk_21 4 (dk_at dksX32_makes_1 14 rfl rfl)
theorem dX32_makes_38 : decode cX32_makes 38 = .ok (.iconst (-1), 1) := dk_2 (dk_at dksX32_makes_1 16 rfl rfl)
theorem dX32_makes_39 : decode cX32_makes 39 = .ok (.if_icmp .eq 37, 3) := dk_159 0 37 (dk_at dksX32_makes_1 17 rfl rfl)
theorem dX32_makes_42 : decode cX32_makes 42 = .ok (.iload 4, 2) := dk_21 4 (dk_at dksX32_makes_1 20 rfl rfl)
theorem dX32_makes_44 : decode cX32_makes 44 = .ok (.aload_n 0, 1) := dk_42 (dk_at dksX32_makes_1 22 rfl rfl)
theorem dX32_makes_45 : decode cX32_makes 45 = .ok (.getfield 19, 3) := dk_180 0 19 (dk_at dksX32_makes_2 0 rfl rfl)
theorem dX32_makes_48 : decode cX32_makes 48 = .ok (.if_icmp .ne 14, 3) := dk_160 0 14 (dk_at dksX32_makes_2 3 rfl rfl)
theorem dX32_makes_51 : decode cX32_makes 51 = .ok (.aload_n 0, 1) := dk_42 (dk_at dksX32_makes_2 6 rfl rfl)
theorem dX32_makes_52 : decode cX32_makes 52 = .ok (.getfield 3, 3) := dk_180 0 3 (dk_at dksX32_makes_2 7 rfl rfl)
theorem dX32_makes_55 : decode cX32_makes 55 = .ok (.iconst 5, 1) := dk_8 (dk_at dksX32_makes_2 10 rfl rfl)
theorem dX32_makes_56 : decode cX32_makes 56 = .ok (.iload_n 2, 1) := dk_28 (dk_at dksX32_makes_2 11 rfl rfl)
theorem dX32_makes_57 : decode cX32_makes 57 = .ok (.iconst (-1), 1) := dk_2 (dk_at dksX32_makes_2 12 rfl rfl)
theorem dX32_makes_58 : decode cX32_makes 58 = .ok (.invokevirtual 26, 3) := dk_182 0 26 (dk_at dksX32_makes_2 13 rfl rfl)
theorem dX32_makes_61 : decode cX32_makes 61 = .ok (.athrow, 1) := dk_191 (dk_at dksX32_makes_2 16 rfl rfl)
theorem dX32_makes_62 : decode cX32_makes 62 = .ok (.aload_n 1, 1) := dk_43 (dk_at dksX32_makes_2 17 rfl rfl)
theorem dX32_makes_63 : decode cX32_makes 63 = .ok (.iload 4, 2) := dk_21 4 (dk_at dksX32_makes_2 18 rfl rfl)
theorem dX32_makes_65 : decode cX32_makes 65 = .ok (.invokestatic 30, 3) := dk_184 0 30 (dk_at dksX32_makes_2 20 rfl rfl)
theorem dX32_makes_68 : decode cX32_makes 68 = .ok (.getfield 34, 3) := dk_180 0 34 (dk_at dksX32_makes_3 0 rfl rfl)
theorem dX32_makes_71 : decode cX32_makes 71 = .ok (.istore 4, 2) := dk_54 4 (dk_at dksX32_makes_3 3 rfl rfl)
theorem dX32_makes_73 : decode cX32_makes 73 = .ok (.goto (-37), 3) := dk_167 255 219 (dk_at dksX32_makes_3 5 rfl rfl)
theorem dX32_makes_76 : decode cX32_makes 76 = .ok (.aload_n 3, 1) := dk_45 (dk_at dksX32_makes_3 8 rfl rfl)
theorem dX32_makes_77 : decode cX32_makes 77 = .ok (.aload_n 0, 1) := dk_42 (dk_at dksX32_makes_3 9 rfl rfl)
theorem dX32_makes_78 : decode cX32_makes 78 = .ok (.getfield 15, 3) := dk_180 0 15 (dk_at dksX32_makes_3 10 rfl rfl)
theorem dX32_makes_81 : decode cX32_makes 81 = .ok (.putfield 34, 3) := dk_181 0 34 (dk_at dksX32_makes_3 13 rfl rfl)
theorem dX32_makes_84 : decode cX32_makes 84 = .ok (.aload_n 3, 1) := dk_45 (dk_at dksX32_makes_3 16 rfl rfl)
theorem dX32_makes_85 : decode cX32_makes 85 = .ok (.iconst 1, 1) := dk_4 (dk_at dksX32_makes_3 17 rfl rfl)
theorem dX32_makes_86 : decode cX32_makes 86 = .ok (.putfield 37, 3) := dk_181 0 37 (dk_at dksX32_makes_3 18 rfl rfl)
theorem dX32_makes_89 : decode cX32_makes 89 = .ok (.return_, 1) := dk_177 (dk_at dksX32_makes_3 21 rfl rfl)
abbrev cX32_init : ByteArray := prog_24_method_1_code
def yX32_init : MethodName := ⟨RX32, "<init>", "(LPondHouse;II)V"⟩
def dkwX32_init_0 : List UInt8 := [42, 43, 181, 0, 3, 42, 43, 28, 183, 0, 9, 42, 29, 181, 0, 15, 177]
abbrev dktX32_init_0 : List UInt8 := dkwX32_init_0 ++ []
theorem dksX32_init_0 : cX32_init.data.toList.drop 0 = dktX32_init_0 := by decide +kernel
theorem dX32_init_0 : decode cX32_init 0 = .ok (.aload_n 0, 1) := dk_42 (dk_at dksX32_init_0 0 rfl rfl)
theorem dX32_init_1 : decode cX32_init 1 = .ok (.aload_n 1, 1) := dk_43 (dk_at dksX32_init_0 1 rfl rfl)
theorem dX32_init_2 : decode cX32_init 2 = .ok (.putfield 3, 3) := dk_181 0 3 (dk_at dksX32_init_0 2 rfl rfl)
theorem dX32_init_5 : decode cX32_init 5 = .ok (.aload_n 0, 1) := dk_42 (dk_at dksX32_init_0 5 rfl rfl)
theorem dX32_init_6 : decode cX32_init 6 = .ok (.aload_n 1, 1) := dk_43 (dk_at dksX32_init_0 6 rfl rfl)
theorem dX32_init_7 : decode cX32_init 7 = .ok (.iload_n 2, 1) := dk_28 (dk_at dksX32_init_0 7 rfl rfl)
theorem dX32_init_8 : decode cX32_init 8 = .ok (.invokespecial 9, 3) := dk_183 0 9 (dk_at dksX32_init_0 8 rfl rfl)
theorem dX32_init_11 : decode cX32_init 11 = .ok (.aload_n 0, 1) := dk_42 (dk_at dksX32_init_0 11 rfl rfl)
theorem dX32_init_12 : decode cX32_init 12 = .ok (.iload_n 3, 1) := dk_29 (dk_at dksX32_init_0 12 rfl rfl)
theorem dX32_init_13 : decode cX32_init 13 = .ok (.putfield 15, 3) := dk_181 0 15 (dk_at dksX32_init_0 13 rfl rfl)
theorem dX32_init_16 : decode cX32_init 16 = .ok (.return_, 1) := dk_177 (dk_at dksX32_init_0 16 rfl rfl)
theorem q210 : (Jvm.Cond.initialized "PondHouse$Moves") ∈ lw_all := lw_g (lw_at lw_m1 50 rfl) rfl
theorem q566 : (Jvm.Cond.fieldLink "PondHouse$Moves" (34 : Nat) "PondHouse$Draft" "above" "I") ∈ lw_all := lw_g (lw_at lw_m2 166 rfl) rfl
theorem q571 : (Jvm.Cond.fieldLink "PondHouse$Moves" (37 : Nat) "PondHouse$Draft" "isChanged" "Z") ∈ lw_all := lw_g (lw_at lw_m2 171 rfl) rfl
theorem q682 : (Jvm.Cond.selects "PondHouse$Moves" ({ cls := "java/lang/Object", name := "getClass", desc := "()Ljava/lang/Class;" } : Jvm.MethodName) ({ cls := "java/lang/Object", name := "getClass", desc := "()Ljava/lang/Class;" } : Jvm.MethodName)) ∈ lw_all := lw_g (lw_at lw_m3 42 rfl) rfl
theorem q849 : (Jvm.Cond.selects "PondHouse$Moves" ({ cls := "PondHouse$Change", name := "makes", desc := "(LPondHouse$Row;I)V" } : Jvm.MethodName) ({ cls := "PondHouse$Moves", name := "makes", desc := "(LPondHouse$Row;I)V" } : Jvm.MethodName)) ∈ lw_all := lw_g (lw_at lw_m3 209 rfl) rfl
theorem q850 : (Jvm.Cond.instanceMethod ({ cls := "PondHouse$Moves", name := "makes", desc := "(LPondHouse$Row;I)V" } : Jvm.MethodName)) ∈ lw_all := lw_g (lw_at lw_m3 210 rfl) rfl
theorem q851 : (Jvm.Cond.code ({ cls := "PondHouse$Moves", name := "makes", desc := "(LPondHouse$Row;I)V" } : Jvm.MethodName) prog_24_method_2_code (5 : Nat) (Option.none : Option Jvm.ClassFile.FieldType)) ∈ lw_all := lw_g (lw_at lw_m3 211 rfl) rfl
theorem q852 : (Jvm.Cond.methodLink "PondHouse$Moves" (22 : Nat) ({ cls := "PondHouse$Moves", name := "needed", desc := "(LPondHouse$Row;II)LPondHouse$Draft;" } : Jvm.MethodName)) ∈ lw_all := lw_g (lw_at lw_m3 212 rfl) rfl
theorem q853 : (Jvm.Cond.sameMethod "PondHouse$Moves" "PondHouse$Change" "needed" "(LPondHouse$Row;II)LPondHouse$Draft;") ∈ lw_all := lw_g (lw_at lw_m3 213 rfl) rfl
theorem q854 : (Jvm.Cond.selects "PondHouse$Moves" ({ cls := "PondHouse$Moves", name := "needed", desc := "(LPondHouse$Row;II)LPondHouse$Draft;" } : Jvm.MethodName) ({ cls := "PondHouse$Change", name := "needed", desc := "(LPondHouse$Row;II)LPondHouse$Draft;" } : Jvm.MethodName)) ∈ lw_all := lw_g (lw_at lw_m3 214 rfl) rfl
theorem q855 : (Jvm.Cond.methodLinkNest "PondHouse$Moves" (26 : Nat) ({ cls := "PondHouse", name := "refuses", desc := "(III)LPondHouse$Refusal;" } : Jvm.MethodName) "PondHouse") ∈ lw_tbl := lw_at lw_m3 215 rfl
theorem q856 : (Jvm.Cond.methodLinkNest "PondHouse$Moves" (30 : Nat) ({ cls := "PondHouse", name := "draft", desc := "(LPondHouse$Row;I)LPondHouse$Draft;" } : Jvm.MethodName) "PondHouse") ∈ lw_tbl := lw_at lw_m3 216 rfl
theorem q2100 : (Jvm.Cond.fieldLink "PondHouse$Moves" (19 : Nat) "PondHouse$Moves" "kind" "I") ∈ lw_all := lw_g (lw_at lw_m9 20 rfl) rfl
theorem q2101 : (Jvm.Cond.sameField "PondHouse$Moves" "PondHouse$Change" "kind" "I") ∈ lw_all := lw_g (lw_at lw_m9 21 rfl) rfl
theorem q2182 : (Jvm.Cond.instantiable "PondHouse$Moves" (4 : Nat)) ∈ lw_all := lw_g (lw_at lw_m9 102 rfl) rfl
theorem q2184 : (Jvm.Cond.instanceMethod ({ cls := "PondHouse$Moves", name := "<init>", desc := "(LPondHouse;II)V" } : Jvm.MethodName)) ∈ lw_all := lw_g (lw_at lw_m9 104 rfl) rfl
theorem q2185 : (Jvm.Cond.code ({ cls := "PondHouse$Moves", name := "<init>", desc := "(LPondHouse;II)V" } : Jvm.MethodName) prog_24_method_1_code (4 : Nat) (Option.none : Option Jvm.ClassFile.FieldType)) ∈ lw_all := lw_g (lw_at lw_m9 105 rfl) rfl
theorem q2186 : (Jvm.Cond.methodLink "PondHouse$Moves" (9 : Nat) ({ cls := "PondHouse$Change", name := "<init>", desc := "(LPondHouse;I)V" } : Jvm.MethodName)) ∈ lw_all := lw_g (lw_at lw_m9 106 rfl) rfl
theorem q2187 : (Jvm.Cond.fieldLink "PondHouse$Moves" (15 : Nat) "PondHouse$Moves" "above" "I") ∈ lw_all := lw_g (lw_at lw_m9 107 rfl) rfl
theorem q2188 : (Jvm.Cond.fieldLink "PondHouse$Moves" (3 : Nat) "PondHouse$Moves" "this$0" "LPondHouse;") ∈ lw_all := lw_g (lw_at lw_m9 108 rfl) rfl
theorem q2189 : (Jvm.Cond.laysFinal "PondHouse$Moves" "PondHouse$Moves" "above" "I") ∈ lw_all := lw_g (lw_at lw_m9 109 rfl) rfl
theorem q2190 : (Jvm.Cond.soleField "PondHouse$Moves" "above") ∈ lw_all := lw_g (lw_at lw_m9 110 rfl) rfl
theorem q2191 : (Jvm.Cond.laysFinal "PondHouse$Moves" "PondHouse$Moves" "this$0" "LPondHouse;") ∈ lw_all := lw_g (lw_at lw_m9 111 rfl) rfl
theorem q2192 : (Jvm.Cond.soleField "PondHouse$Moves" "this$0") ∈ lw_all := lw_g (lw_at lw_m9 112 rfl) rfl
theorem q2193 : (Jvm.Cond.laysFinal "PondHouse$Moves" "PondHouse$Change" "kind" "I") ∈ lw_all := lw_g (lw_at lw_m9 113 rfl) rfl
theorem q2194 : (Jvm.Cond.laysFinal "PondHouse$Moves" "PondHouse$Change" "this$0" "LPondHouse;") ∈ lw_all := lw_g (lw_at lw_m9 114 rfl) rfl
theorem q2195 : (Jvm.Cond.superclass "PondHouse$Moves" "PondHouse$Change") ∈ lw_all := lw_g (lw_at lw_m9 115 rfl) rfl
theorem q3086 : (Jvm.Cond.castable "PondHouse$Moves" "PondHouse$Change") ∈ lw_tbl := lw_at lw_m13 46 rfl
theorem q3123 : (Jvm.Cond.castable "PondHouse$Moves" "java/lang/Object") ∈ lw_tbl := lw_at lw_m13 83 rfl
theorem in_X32 : ∀ w ∈ wsX320, w ∈ lw_all := lw_in wsX320 [2193, 2194, 2189, 2191] (by decide +kernel) (by decide +kernel)

/-! PondHouse$Checks -/
set_option maxRecDepth 100000
def RX33 : String := "PondHouse$Checks"
def TX33 : u_T := fun k => match k with
  | 0 => ("PondHouse$Change", "kind", "I", true)
  | 1 => ("PondHouse$Change", "this$0", "LPondHouse;", true)
  | 2 => ("PondHouse$Checks", "by", "LPondHouse$Worth;", true)
  | _ => ("PondHouse$Checks", "this$0", "LPondHouse;", true)
def tyX33 : Nat → FieldType := fun k => match k with
  | 0 => .int
  | 1 => .object "PondHouse"
  | 2 => .object "PondHouse$Worth"
  | _ => .object "PondHouse"
abbrev wsX330 : List Cond := u_ws RX33 TX33 4
-- two fields of one name: no nmX33
theorem tyX33_ok : ∀ k, k < 4 → parseFieldDescriptor (TX33 k).2.2.1 = some (tyX33 k) := by decide +kernel
abbrev cX33_makes : ByteArray := prog_7_method_2_code
def yX33_makes : MethodName := ⟨RX33, "makes", "(LPondHouse$Row;I)V"⟩
def dkwX33_makes_0 : List UInt8 := [42, 43, 42, 180, 0, 17, 28, 182, 0, 21, 87, 177]
abbrev dktX33_makes_0 : List UInt8 := dkwX33_makes_0 ++ []
theorem dksX33_makes_0 : cX33_makes.data.toList.drop 0 = dktX33_makes_0 := by decide +kernel
theorem dX33_makes_0 : decode cX33_makes 0 = .ok (.aload_n 0, 1) := dk_42 (dk_at dksX33_makes_0 0 rfl rfl)
theorem dX33_makes_1 : decode cX33_makes 1 = .ok (.aload_n 1, 1) := dk_43 (dk_at dksX33_makes_0 1 rfl rfl)
theorem dX33_makes_2 : decode cX33_makes 2 = .ok (.aload_n 0, 1) := dk_42 (dk_at dksX33_makes_0 2 rfl rfl)
theorem dX33_makes_3 : decode cX33_makes 3 = .ok (.getfield 17, 3) := dk_180 0 17 (dk_at dksX33_makes_0 3 rfl rfl)
theorem dX33_makes_6 : decode cX33_makes 6 = .ok (.iload_n 2, 1) := dk_28 (dk_at dksX33_makes_0 6 rfl rfl)
theorem dX33_makes_7 : decode cX33_makes 7 = .ok (.invokevirtual 21, 3) := dk_182 0 21 (dk_at dksX33_makes_0 7 rfl rfl)
theorem dX33_makes_10 : decode cX33_makes 10 = .ok (.pop, 1) := dk_87 (dk_at dksX33_makes_0 10 rfl rfl)
theorem dX33_makes_11 : decode cX33_makes 11 = .ok (.return_, 1) := dk_177 (dk_at dksX33_makes_0 11 rfl rfl)
abbrev cX33_holds : ByteArray := prog_7_method_3_code
def yX33_holds : MethodName := ⟨RX33, "holds", "(LPondHouse$Creature;)Z"⟩
def dkwX33_holds_1 : List UInt8 := [167, 0, 4, 3, 172, 77, 3, 172]
abbrev dktX33_holds_1 : List UInt8 := dkwX33_holds_1 ++ []
def dkwX33_holds_0 : List UInt8 := [42, 180, 0, 13, 42, 180, 0, 1, 180, 0, 25, 43, 1, 3, 182, 0, 31, 182, 0, 37, 153, 0, 7, 4]
abbrev dktX33_holds_0 : List UInt8 := dkwX33_holds_0 ++ dktX33_holds_1
theorem dksX33_holds_0 : cX33_holds.data.toList.drop 0 = dktX33_holds_0 := by decide +kernel
theorem dksX33_holds_1 : cX33_holds.data.toList.drop 24 = dktX33_holds_1 := dk_seg dksX33_holds_0 24 rfl rfl
theorem dX33_holds_0 : decode cX33_holds 0 = .ok (.aload_n 0, 1) := dk_42 (dk_at dksX33_holds_0 0 rfl rfl)
theorem dX33_holds_1 : decode cX33_holds 1 = .ok (.getfield 13, 3) := dk_180 0 13 (dk_at dksX33_holds_0 1 rfl rfl)
theorem dX33_holds_4 : decode cX33_holds 4 = .ok (.aload_n 0, 1) := dk_42 (dk_at dksX33_holds_0 4 rfl rfl)
theorem dX33_holds_5 : decode cX33_holds 5 = .ok (.getfield 1, 3) := dk_180 0 1 (dk_at dksX33_holds_0 5 rfl rfl)
theorem dX33_holds_8 : decode cX33_holds 8 = .ok (.getfield 25, 3) := dk_180 0 25 (dk_at dksX33_holds_0 8 rfl rfl)
theorem dX33_holds_11 : decode cX33_holds 11 = .ok (.aload_n 1, 1) := dk_43 (dk_at dksX33_holds_0 11 rfl rfl)
theorem dX33_holds_12 : decode cX33_holds 12 = .ok (.aconst_null, 1) := dk_1 (dk_at dksX33_holds_0 12 rfl rfl)
theorem dX33_holds_13 : decode cX33_holds 13 = .ok (.iconst 0, 1) := dk_3 (dk_at dksX33_holds_0 13 rfl rfl)
theorem dX33_holds_14 : decode cX33_holds 14 = .ok (.invokevirtual 31, 3) := dk_182 0 31 (dk_at dksX33_holds_0 14 rfl rfl)
theorem dX33_holds_17 : decode cX33_holds 17 = .ok (.invokevirtual 37, 3) := dk_182 0 37 (dk_at dksX33_holds_0 17 rfl rfl)
theorem dX33_holds_20 : decode cX33_holds 20 = .ok (.ifCond .eq 7, 3) := dk_153 0 7 (dk_at dksX33_holds_0 20 rfl rfl)
theorem dX33_holds_23 : decode cX33_holds 23 = .ok (.iconst 1, 1) := dk_4 (dk_at dksX33_holds_0 23 rfl rfl)
theorem dX33_holds_24 : decode cX33_holds 24 = .ok (.goto 4, 3) := dk_167 0 4 (dk_at dksX33_holds_1 0 rfl rfl)
theorem dX33_holds_27 : decode cX33_holds 27 = .ok (.iconst 0, 1) := dk_3 (dk_at dksX33_holds_1 3 rfl rfl)
theorem dX33_holds_28 : decode cX33_holds 28 = .ok (.ireturn, 1) := dk_172 (dk_at dksX33_holds_1 4 rfl rfl)
theorem dX33_holds_29 : decode cX33_holds 29 = .ok (.astore_n 2, 1) := dk_77 (dk_at dksX33_holds_1 5 rfl rfl)
theorem dX33_holds_30 : decode cX33_holds 30 = .ok (.iconst 0, 1) := dk_3 (dk_at dksX33_holds_1 6 rfl rfl)
theorem dX33_holds_31 : decode cX33_holds 31 = .ok (.ireturn, 1) := dk_172 (dk_at dksX33_holds_1 7 rfl rfl)
abbrev cX33_init : ByteArray := prog_7_method_1_code
def yX33_init : MethodName := ⟨RX33, "<init>", "(LPondHouse;ILPondHouse$Worth;)V"⟩
def dkwX33_init_0 : List UInt8 := [42, 43, 181, 0, 1, 42, 43, 28, 183, 0, 7, 42, 45, 181, 0, 13, 177]
abbrev dktX33_init_0 : List UInt8 := dkwX33_init_0 ++ []
theorem dksX33_init_0 : cX33_init.data.toList.drop 0 = dktX33_init_0 := by decide +kernel
theorem dX33_init_0 : decode cX33_init 0 = .ok (.aload_n 0, 1) := dk_42 (dk_at dksX33_init_0 0 rfl rfl)
theorem dX33_init_1 : decode cX33_init 1 = .ok (.aload_n 1, 1) := dk_43 (dk_at dksX33_init_0 1 rfl rfl)
theorem dX33_init_2 : decode cX33_init 2 = .ok (.putfield 1, 3) := dk_181 0 1 (dk_at dksX33_init_0 2 rfl rfl)
theorem dX33_init_5 : decode cX33_init 5 = .ok (.aload_n 0, 1) := dk_42 (dk_at dksX33_init_0 5 rfl rfl)
theorem dX33_init_6 : decode cX33_init 6 = .ok (.aload_n 1, 1) := dk_43 (dk_at dksX33_init_0 6 rfl rfl)
theorem dX33_init_7 : decode cX33_init 7 = .ok (.iload_n 2, 1) := dk_28 (dk_at dksX33_init_0 7 rfl rfl)
theorem dX33_init_8 : decode cX33_init 8 = .ok (.invokespecial 7, 3) := dk_183 0 7 (dk_at dksX33_init_0 8 rfl rfl)
theorem dX33_init_11 : decode cX33_init 11 = .ok (.aload_n 0, 1) := dk_42 (dk_at dksX33_init_0 11 rfl rfl)
theorem dX33_init_12 : decode cX33_init 12 = .ok (.aload_n 3, 1) := dk_45 (dk_at dksX33_init_0 12 rfl rfl)
theorem dX33_init_13 : decode cX33_init 13 = .ok (.putfield 13, 3) := dk_181 0 13 (dk_at dksX33_init_0 13 rfl rfl)
theorem dX33_init_16 : decode cX33_init 16 = .ok (.return_, 1) := dk_177 (dk_at dksX33_init_0 16 rfl rfl)
theorem q211 : (Jvm.Cond.initialized "PondHouse$Checks") ∈ lw_all := lw_g (lw_at lw_m1 51 rfl) rfl
theorem q665 : (Jvm.Cond.selects "PondHouse$Checks" ({ cls := "java/lang/Object", name := "getClass", desc := "()Ljava/lang/Class;" } : Jvm.MethodName) ({ cls := "java/lang/Object", name := "getClass", desc := "()Ljava/lang/Class;" } : Jvm.MethodName)) ∈ lw_all := lw_g (lw_at lw_m3 25 rfl) rfl
theorem q739 : (Jvm.Cond.selects "PondHouse$Checks" ({ cls := "PondHouse$Change", name := "makes", desc := "(LPondHouse$Row;I)V" } : Jvm.MethodName) ({ cls := "PondHouse$Checks", name := "makes", desc := "(LPondHouse$Row;I)V" } : Jvm.MethodName)) ∈ lw_all := lw_g (lw_at lw_m3 99 rfl) rfl
theorem q740 : (Jvm.Cond.instanceMethod ({ cls := "PondHouse$Checks", name := "makes", desc := "(LPondHouse$Row;I)V" } : Jvm.MethodName)) ∈ lw_all := lw_g (lw_at lw_m3 100 rfl) rfl
theorem q741 : (Jvm.Cond.code ({ cls := "PondHouse$Checks", name := "makes", desc := "(LPondHouse$Row;I)V" } : Jvm.MethodName) prog_7_method_2_code (3 : Nat) (Option.none : Option Jvm.ClassFile.FieldType)) ∈ lw_all := lw_g (lw_at lw_m3 101 rfl) rfl
theorem q742 : (Jvm.Cond.methodLink "PondHouse$Checks" (21 : Nat) ({ cls := "PondHouse$Checks", name := "needed", desc := "(LPondHouse$Row;II)LPondHouse$Draft;" } : Jvm.MethodName)) ∈ lw_all := lw_g (lw_at lw_m3 102 rfl) rfl
theorem q743 : (Jvm.Cond.sameMethod "PondHouse$Checks" "PondHouse$Change" "needed" "(LPondHouse$Row;II)LPondHouse$Draft;") ∈ lw_all := lw_g (lw_at lw_m3 103 rfl) rfl
theorem q745 : (Jvm.Cond.selects "PondHouse$Checks" ({ cls := "PondHouse$Checks", name := "needed", desc := "(LPondHouse$Row;II)LPondHouse$Draft;" } : Jvm.MethodName) ({ cls := "PondHouse$Change", name := "needed", desc := "(LPondHouse$Row;II)LPondHouse$Draft;" } : Jvm.MethodName)) ∈ lw_all := lw_g (lw_at lw_m3 105 rfl) rfl
theorem q1023 : (Jvm.Cond.instanceMethod ({ cls := "PondHouse$Checks", name := "holds", desc := "(LPondHouse$Creature;)Z" } : Jvm.MethodName)) ∈ lw_all := lw_g (lw_at lw_m4 143 rfl) rfl
theorem q1024 : (Jvm.Cond.selects "PondHouse$Checks" ({ cls := "PondHouse$Checks", name := "holds", desc := "(LPondHouse$Creature;)Z" } : Jvm.MethodName) ({ cls := "PondHouse$Checks", name := "holds", desc := "(LPondHouse$Creature;)Z" } : Jvm.MethodName)) ∈ lw_all := lw_g (lw_at lw_m4 144 rfl) rfl
theorem q1025 : (Jvm.Cond.codeWith ({ cls := "PondHouse$Checks", name := "holds", desc := "(LPondHouse$Creature;)Z" } : Jvm.MethodName) prog_7_method_3_code (3 : Nat) (Option.some Jvm.ClassFile.FieldType.boolean) [((0 : Nat), (28 : Nat), (29 : Nat), (43 : Nat))]) ∈ lw_all := lw_g (lw_at lw_m4 145 rfl) rfl
theorem q1026 : (Jvm.Cond.classLink "PondHouse$Checks" (43 : Nat) "PondHouse$Failure") ∈ lw_all := lw_g (lw_at lw_m4 146 rfl) rfl
theorem q1027 : (Jvm.Cond.methodLink "PondHouse$Checks" (31 : Nat) ({ cls := "PondHouse$Frame", name := "begins", desc := "(LPondHouse$Creature;LPondHouse$Body;I)LPondHouse$Frame;" } : Jvm.MethodName)) ∈ lw_all := lw_g (lw_at lw_m4 147 rfl) rfl
theorem q1028 : (Jvm.Cond.methodLink "PondHouse$Checks" (37 : Nat) ({ cls := "PondHouse$Worth", name := "of", desc := "(LPondHouse$Frame;)I" } : Jvm.MethodName)) ∈ lw_all := lw_g (lw_at lw_m4 148 rfl) rfl
theorem q1245 : (Jvm.Cond.fieldLinkNest "PondHouse$Checks" (25 : Nat) "PondHouse" "asked" "LPondHouse$Frame;" "PondHouse") ∈ lw_tbl := lw_at lw_m5 125 rfl
theorem q2094 : (Jvm.Cond.fieldLink "PondHouse$Checks" (17 : Nat) "PondHouse$Checks" "kind" "I") ∈ lw_all := lw_g (lw_at lw_m9 14 rfl) rfl
theorem q2095 : (Jvm.Cond.sameField "PondHouse$Checks" "PondHouse$Change" "kind" "I") ∈ lw_all := lw_g (lw_at lw_m9 15 rfl) rfl
theorem q2197 : (Jvm.Cond.instantiable "PondHouse$Checks" (4 : Nat)) ∈ lw_all := lw_g (lw_at lw_m9 117 rfl) rfl
theorem q2199 : (Jvm.Cond.instanceMethod ({ cls := "PondHouse$Checks", name := "<init>", desc := "(LPondHouse;ILPondHouse$Worth;)V" } : Jvm.MethodName)) ∈ lw_all := lw_g (lw_at lw_m9 119 rfl) rfl
theorem q2200 : (Jvm.Cond.code ({ cls := "PondHouse$Checks", name := "<init>", desc := "(LPondHouse;ILPondHouse$Worth;)V" } : Jvm.MethodName) prog_7_method_1_code (4 : Nat) (Option.none : Option Jvm.ClassFile.FieldType)) ∈ lw_all := lw_g (lw_at lw_m9 120 rfl) rfl
theorem q2201 : (Jvm.Cond.methodLink "PondHouse$Checks" (7 : Nat) ({ cls := "PondHouse$Change", name := "<init>", desc := "(LPondHouse;I)V" } : Jvm.MethodName)) ∈ lw_all := lw_g (lw_at lw_m9 121 rfl) rfl
theorem q2202 : (Jvm.Cond.fieldLink "PondHouse$Checks" (13 : Nat) "PondHouse$Checks" "by" "LPondHouse$Worth;") ∈ lw_all := lw_g (lw_at lw_m9 122 rfl) rfl
theorem q2203 : (Jvm.Cond.fieldLink "PondHouse$Checks" (1 : Nat) "PondHouse$Checks" "this$0" "LPondHouse;") ∈ lw_all := lw_g (lw_at lw_m9 123 rfl) rfl
theorem q2204 : (Jvm.Cond.laysFinal "PondHouse$Checks" "PondHouse$Checks" "by" "LPondHouse$Worth;") ∈ lw_all := lw_g (lw_at lw_m9 124 rfl) rfl
theorem q2205 : (Jvm.Cond.soleField "PondHouse$Checks" "by") ∈ lw_all := lw_g (lw_at lw_m9 125 rfl) rfl
theorem q2206 : (Jvm.Cond.laysFinal "PondHouse$Checks" "PondHouse$Checks" "this$0" "LPondHouse;") ∈ lw_all := lw_g (lw_at lw_m9 126 rfl) rfl
theorem q2207 : (Jvm.Cond.soleField "PondHouse$Checks" "this$0") ∈ lw_all := lw_g (lw_at lw_m9 127 rfl) rfl
theorem q2208 : (Jvm.Cond.laysFinal "PondHouse$Checks" "PondHouse$Change" "kind" "I") ∈ lw_all := lw_g (lw_at lw_m9 128 rfl) rfl
theorem q2209 : (Jvm.Cond.laysFinal "PondHouse$Checks" "PondHouse$Change" "this$0" "LPondHouse;") ∈ lw_all := lw_g (lw_at lw_m9 129 rfl) rfl
theorem q2210 : (Jvm.Cond.superclass "PondHouse$Checks" "PondHouse$Change") ∈ lw_all := lw_g (lw_at lw_m9 130 rfl) rfl
theorem q3082 : (Jvm.Cond.castable "PondHouse$Checks" "PondHouse$Change") ∈ lw_tbl := lw_at lw_m13 42 rfl
theorem q3124 : (Jvm.Cond.castable "PondHouse$Checks" "java/lang/Object") ∈ lw_tbl := lw_at lw_m13 84 rfl
theorem in_X33 : ∀ w ∈ wsX330, w ∈ lw_all := lw_in wsX330 [2208, 2209, 2204, 2206] (by decide +kernel) (by decide +kernel)

/-! PondHouse$Creature -/
set_option maxRecDepth 100000
def RX34 : String := "PondHouse$Creature"
def TX34 : u_T := fun k => match k with
  | 0 => ("PondHouse$Creature", "number", "I", true)
  | 1 => ("PondHouse$Creature", "kind", "LPondHouse$Kind;", false)
  | 2 => ("PondHouse$Creature", "values", "[I", false)
  | 3 => ("PondHouse$Creature", "lost", "[I", true)
  | 4 => ("PondHouse$Creature", "hasLost", "[Z", true)
  | _ => ("PondHouse$Creature", "this$0", "LPondHouse;", true)
def tyX34 : Nat → FieldType := fun k => match k with
  | 0 => .int
  | 1 => .object "PondHouse$Kind"
  | 2 => .array .int
  | 3 => .array .int
  | 4 => .array .boolean
  | _ => .object "PondHouse"
abbrev wsX340 : List Cond := u_ws RX34 TX34 6
theorem nmX34 : ∀ a, a < 6 → ∀ b, b < 6 → a ≠ b → (TX34 a).2.1 ≠ (TX34 b).2.1 := by decide +kernel
theorem tyX34_ok : ∀ k, k < 6 → parseFieldDescriptor (TX34 k).2.2.1 = some (tyX34 k) := by decide +kernel
abbrev cX34_get : ByteArray := prog_10_method_2_code
def yX34_get : MethodName := ⟨RX34, "get", "(I)I"⟩
def dkwX34_get_3 : List UInt8 := [46, 172]
abbrev dktX34_get_3 : List UInt8 := dkwX34_get_3 ++ []
def dkwX34_get_2 : List UInt8 := [180, 0, 19, 27, 51, 154, 0, 14, 42, 180, 0, 3, 17, 3, 233, 182, 0, 56, 191, 42, 180, 0, 15, 27]
abbrev dktX34_get_2 : List UInt8 := dkwX34_get_2 ++ dktX34_get_3
def dkwX34_get_1 : List UInt8 := [180, 0, 3, 42, 180, 0, 27, 27, 182, 0, 47, 78, 45, 198, 0, 8, 45, 180, 0, 51, 172, 42]
abbrev dktX34_get_1 : List UInt8 := dkwX34_get_1 ++ dktX34_get_2
def dkwX34_get_0 : List UInt8 := [42, 180, 0, 27, 27, 182, 0, 44, 61, 28, 2, 159, 0, 10, 42, 180, 0, 37, 28, 46, 172, 42]
abbrev dktX34_get_0 : List UInt8 := dkwX34_get_0 ++ dktX34_get_1
theorem dksX34_get_0 : cX34_get.data.toList.drop 0 = dktX34_get_0 := by decide +kernel
theorem dksX34_get_1 : cX34_get.data.toList.drop 22 = dktX34_get_1 := dk_seg dksX34_get_0 22 rfl rfl
theorem dksX34_get_2 : cX34_get.data.toList.drop 44 = dktX34_get_2 := dk_seg dksX34_get_1 22 rfl rfl
theorem dksX34_get_3 : cX34_get.data.toList.drop 68 = dktX34_get_3 := dk_seg dksX34_get_2 24 rfl rfl
theorem dX34_get_0 : decode cX34_get 0 = .ok (.aload_n 0, 1) := dk_42 (dk_at dksX34_get_0 0 rfl rfl)
theorem dX34_get_1 : decode cX34_get 1 = .ok (.getfield 27, 3) := dk_180 0 27 (dk_at dksX34_get_0 1 rfl rfl)
theorem dX34_get_4 : decode cX34_get 4 = .ok (.iload_n 1, 1) := dk_27 (dk_at dksX34_get_0 4 rfl rfl)
theorem dX34_get_5 : decode cX34_get 5 = .ok (.invokevirtual 44, 3) := dk_182 0 44 (dk_at dksX34_get_0 5 rfl rfl)
theorem dX34_get_8 : decode cX34_get 8 = .ok (.istore_n 2, 1) := dk_61 (dk_at dksX34_get_0 8 rfl rfl)
theorem dX34_get_9 : decode cX34_get 9 = .ok (.iload_n 2, 1) := dk_28 (dk_at dksX34_get_0 9 rfl rfl)
theorem dX34_get_10 : decode cX34_get 10 = .ok (.iconst (-1), 1) := dk_2 (dk_at dksX34_get_0 10 rfl rfl)
theorem dX34_get_11 : decode cX34_get 11 = .ok (.if_icmp .eq 10, 3) := dk_159 0 10 (dk_at dksX34_get_0 11 rfl rfl)
theorem dX34_get_14 : decode cX34_get 14 = .ok (.aload_n 0, 1) := dk_42 (dk_at dksX34_get_0 14 rfl rfl)
theorem dX34_get_15 : decode cX34_get 15 = .ok (.getfield 37, 3) := dk_180 0 37 (dk_at dksX34_get_0 15 rfl rfl)
theorem dX34_get_18 : decode cX34_get 18 = .ok (.iload_n 2, 1) := dk_28 (dk_at dksX34_get_0 18 rfl rfl)
theorem dX34_get_19 : decode cX34_get 19 = .ok (.iaload, 1) := dk_46 (dk_at dksX34_get_0 19 rfl rfl)
theorem dX34_get_20 : decode cX34_get 20 = .ok (.ireturn, 1) := dk_172 (dk_at dksX34_get_0 20 rfl rfl)
theorem dX34_get_21 : decode cX34_get 21 = .ok (.aload_n 0, 1) := dk_42 (dk_at dksX34_get_0 21 rfl rfl)
theorem dX34_get_22 : decode cX34_get 22 = .ok (.getfield 3, 3) := dk_180 0 3 (dk_at dksX34_get_1 0 rfl rfl)
theorem dX34_get_25 : decode cX34_get 25 = .ok (.aload_n 0, 1) := dk_42 (dk_at dksX34_get_1 3 rfl rfl)
theorem dX34_get_26 : decode cX34_get 26 = .ok (.getfield 27, 3) := dk_180 0 27 (dk_at dksX34_get_1 4 rfl rfl)
theorem dX34_get_29 : decode cX34_get 29 = .ok (.iload_n 1, 1) := dk_27 (dk_at dksX34_get_1 7 rfl rfl)
theorem dX34_get_30 : decode cX34_get 30 = .ok (.invokevirtual 47, 3) := dk_182 0 47 (dk_at dksX34_get_1 8 rfl rfl)
theorem dX34_get_33 : decode cX34_get 33 = .ok (.astore_n 3, 1) := dk_78 (dk_at dksX34_get_1 11 rfl rfl)
theorem dX34_get_34 : decode cX34_get 34 = .ok (.aload_n 3, 1) := dk_45 (dk_at dksX34_get_1 12 rfl rfl)
theorem dX34_get_35 : decode cX34_get 35 = .ok (.ifnull 8, 3) := dk_198 0 8 (dk_at dksX34_get_1 13 rfl rfl)
theorem dX34_get_38 : decode cX34_get 38 = .ok (.aload_n 3, 1) := dk_45 (dk_at dksX34_get_1 16 rfl rfl)
theorem dX34_get_39 : decode cX34_get 39 = .ok (.getfield 51, 3) := dk_180 0 51 (dk_at dksX34_get_1 17 rfl rfl)
theorem dX34_get_42 : decode cX34_get 42 = .ok (.ireturn, 1) := dk_172 (dk_at dksX34_get_1 20 rfl rfl)
theorem dX34_get_43 : decode cX34_get 43 = .ok (.aload_n 0, 1) := dk_42 (dk_at dksX34_get_1 21 rfl rfl)
theorem dX34_get_44 : decode cX34_get 44 = .ok (.getfield 19, 3) := dk_180 0 19 (dk_at dksX34_get_2 0 rfl rfl)
theorem dX34_get_47 : decode cX34_get 47 = .ok (.iload_n 1, 1) := dk_27 (dk_at dksX34_get_2 3 rfl rfl)
theorem dX34_get_48 : decode cX34_get 48 = .ok (.baload, 1) := dk_51 (dk_at dksX34_get_2 4 rfl rfl)
theorem dX34_get_49 : decode cX34_get 49 = .ok (.ifCond .ne 14, 3) := dk_154 0 14 (dk_at dksX34_get_2 5 rfl rfl)
theorem dX34_get_52 : decode cX34_get 52 = .ok (.aload_n 0, 1) := dk_42 (dk_at dksX34_get_2 8 rfl rfl)
theorem dX34_get_53 : decode cX34_get 53 = .ok (.getfield 3, 3) := dk_180 0 3 (dk_at dksX34_get_2 9 rfl rfl)
theorem dX34_get_56 : decode cX34_get 56 = .ok (.sipush 1001, 3) := dk_17 3 233 (dk_at dksX34_get_2 12 rfl rfl)
theorem dX34_get_59 : decode cX34_get 59 = .ok (.invokevirtual 56, 3) := dk_182 0 56 (dk_at dksX34_get_2 15 rfl rfl)
theorem dX34_get_62 : decode cX34_get 62 = .ok (.athrow, 1) := dk_191 (dk_at dksX34_get_2 18 rfl rfl)
theorem dX34_get_63 : decode cX34_get 63 = .ok (.aload_n 0, 1) := dk_42 (dk_at dksX34_get_2 19 rfl rfl)
theorem dX34_get_64 : decode cX34_get 64 = .ok (.getfield 15, 3) := dk_180 0 15 (dk_at dksX34_get_2 20 rfl rfl)
theorem dX34_get_67 : decode cX34_get 67 = .ok (.iload_n 1, 1) := dk_27 (dk_at dksX34_get_2 23 rfl rfl)
theorem dX34_get_68 : decode cX34_get 68 = .ok (.iaload, 1) := dk_46 (dk_at dksX34_get_3 0 rfl rfl)
theorem dX34_get_69 : decode cX34_get 69 = .ok (.ireturn, 1) := dk_172 (dk_at dksX34_get_3 1 rfl rfl)
abbrev cX34_set : ByteArray := prog_10_method_3_code
def yX34_set : MethodName := ⟨RX34, "set", "(II)V"⟩
def dkwX34_set_3 : List UInt8 := [180, 0, 15, 27, 28, 79, 167, 0, 14, 42, 180, 0, 3, 17, 3, 233, 182, 0, 56, 191, 177]
abbrev dktX34_set_3 : List UInt8 := dkwX34_set_3 ++ []
def dkwX34_set_2 : List UInt8 := [25, 4, 198, 0, 12, 25, 4, 28, 181, 0, 51, 167, 0, 33, 42, 180, 0, 19, 27, 51, 153, 0, 13, 42]
abbrev dktX34_set_2 : List UInt8 := dkwX34_set_2 ++ dktX34_set_3
def dkwX34_set_1 : List UInt8 := [182, 0, 47, 167, 0, 4, 1, 58, 4, 29, 2, 159, 0, 13, 42, 180, 0, 37, 29, 28, 79, 167, 0, 47]
abbrev dktX34_set_1 : List UInt8 := dkwX34_set_1 ++ dktX34_set_2
def dkwX34_set_0 : List UInt8 := [42, 180, 0, 27, 27, 182, 0, 44, 62, 29, 2, 160, 0, 18, 42, 180, 0, 3, 42, 180, 0, 27, 27]
abbrev dktX34_set_0 : List UInt8 := dkwX34_set_0 ++ dktX34_set_1
theorem dksX34_set_0 : cX34_set.data.toList.drop 0 = dktX34_set_0 := by decide +kernel
theorem dksX34_set_1 : cX34_set.data.toList.drop 23 = dktX34_set_1 := dk_seg dksX34_set_0 23 rfl rfl
theorem dksX34_set_2 : cX34_set.data.toList.drop 47 = dktX34_set_2 := dk_seg dksX34_set_1 24 rfl rfl
theorem dksX34_set_3 : cX34_set.data.toList.drop 71 = dktX34_set_3 := dk_seg dksX34_set_2 24 rfl rfl
theorem dX34_set_0 : decode cX34_set 0 = .ok (.aload_n 0, 1) := dk_42 (dk_at dksX34_set_0 0 rfl rfl)
theorem dX34_set_1 : decode cX34_set 1 = .ok (.getfield 27, 3) := dk_180 0 27 (dk_at dksX34_set_0 1 rfl rfl)
theorem dX34_set_4 : decode cX34_set 4 = .ok (.iload_n 1, 1) := dk_27 (dk_at dksX34_set_0 4 rfl rfl)
theorem dX34_set_5 : decode cX34_set 5 = .ok (.invokevirtual 44, 3) := dk_182 0 44 (dk_at dksX34_set_0 5 rfl rfl)
theorem dX34_set_8 : decode cX34_set 8 = .ok (.istore_n 3, 1) := dk_62 (dk_at dksX34_set_0 8 rfl rfl)
theorem dX34_set_9 : decode cX34_set 9 = .ok (.iload_n 3, 1) := dk_29 (dk_at dksX34_set_0 9 rfl rfl)
theorem dX34_set_10 : decode cX34_set 10 = .ok (.iconst (-1), 1) := dk_2 (dk_at dksX34_set_0 10 rfl rfl)
theorem dX34_set_11 : decode cX34_set 11 = .ok (.if_icmp .ne 18, 3) := dk_160 0 18 (dk_at dksX34_set_0 11 rfl rfl)
theorem dX34_set_14 : decode cX34_set 14 = .ok (.aload_n 0, 1) := dk_42 (dk_at dksX34_set_0 14 rfl rfl)
theorem dX34_set_15 : decode cX34_set 15 = .ok (.getfield 3, 3) := dk_180 0 3 (dk_at dksX34_set_0 15 rfl rfl)
theorem dX34_set_18 : decode cX34_set 18 = .ok (.aload_n 0, 1) := dk_42 (dk_at dksX34_set_0 18 rfl rfl)
theorem dX34_set_19 : decode cX34_set 19 = .ok (.getfield 27, 3) := dk_180 0 27 (dk_at dksX34_set_0 19 rfl rfl)
theorem dX34_set_22 : decode cX34_set 22 = .ok (.iload_n 1, 1) := dk_27 (dk_at dksX34_set_0 22 rfl rfl)
theorem dX34_set_23 : decode cX34_set 23 = .ok (.invokevirtual 47, 3) := dk_182 0 47 (dk_at dksX34_set_1 0 rfl rfl)
theorem dX34_set_26 : decode cX34_set 26 = .ok (.goto 4, 3) := dk_167 0 4 (dk_at dksX34_set_1 3 rfl rfl)
theorem dX34_set_29 : decode cX34_set 29 = .ok (.aconst_null, 1) := dk_1 (dk_at dksX34_set_1 6 rfl rfl)
theorem dX34_set_30 : decode cX34_set 30 = .ok (.astore 4, 2) := dk_58 4 (dk_at dksX34_set_1 7 rfl rfl)
theorem dX34_set_32 : decode cX34_set 32 = .ok (.iload_n 3, 1) := dk_29 (dk_at dksX34_set_1 9 rfl rfl)
theorem dX34_set_33 : decode cX34_set 33 = .ok (.iconst (-1), 1) := dk_2 (dk_at dksX34_set_1 10 rfl rfl)
theorem dX34_set_34 : decode cX34_set 34 = .ok (.if_icmp .eq 13, 3) := dk_159 0 13 (dk_at dksX34_set_1 11 rfl rfl)
theorem dX34_set_37 : decode cX34_set 37 = .ok (.aload_n 0, 1) := dk_42 (dk_at dksX34_set_1 14 rfl rfl)
theorem dX34_set_38 : decode cX34_set 38 = .ok (.getfield 37, 3) := dk_180 0 37 (dk_at dksX34_set_1 15 rfl rfl)
theorem dX34_set_41 : decode cX34_set 41 = .ok (.iload_n 3, 1) := dk_29 (dk_at dksX34_set_1 18 rfl rfl)
theorem dX34_set_42 : decode cX34_set 42 = .ok (.iload_n 2, 1) := dk_28 (dk_at dksX34_set_1 19 rfl rfl)
theorem dX34_set_43 : decode cX34_set 43 = .ok (.iastore, 1) := dk_79 (dk_at dksX34_set_1 20 rfl rfl)
theorem dX34_set_44 : decode cX34_set 44 = .ok (.goto 47, 3) := dk_167 0 47 (dk_at dksX34_set_1 21 rfl rfl)
theorem dX34_set_47 : decode cX34_set 47 = .ok (.aload 4, 2) := dk_25 4 (dk_at dksX34_set_2 0 rfl rfl)
theorem dX34_set_49 : decode cX34_set 49 = .ok (.ifnull 12, 3) := dk_198 0 12 (dk_at dksX34_set_2 2 rfl rfl)
theorem dX34_set_52 : decode cX34_set 52 = .ok (.aload 4, 2) := dk_25 4 (dk_at dksX34_set_2 5 rfl rfl)
theorem dX34_set_54 : decode cX34_set 54 = .ok (.iload_n 2, 1) := dk_28 (dk_at dksX34_set_2 7 rfl rfl)
theorem dX34_set_55 : decode cX34_set 55 = .ok (.putfield 51, 3) := dk_181 0 51 (dk_at dksX34_set_2 8 rfl rfl)
theorem dX34_set_58 : decode cX34_set 58 = .ok (.goto 33, 3) := dk_167 0 33 (dk_at dksX34_set_2 11 rfl rfl)
theorem dX34_set_61 : decode cX34_set 61 = .ok (.aload_n 0, 1) := dk_42 (dk_at dksX34_set_2 14 rfl rfl)
theorem dX34_set_62 : decode cX34_set 62 = .ok (.getfield 19, 3) := dk_180 0 19 (dk_at dksX34_set_2 15 rfl rfl)
theorem dX34_set_65 : decode cX34_set 65 = .ok (.iload_n 1, 1) := dk_27 (dk_at dksX34_set_2 18 rfl rfl)
theorem dX34_set_66 : decode cX34_set 66 = .ok (.baload, 1) := dk_51 (dk_at dksX34_set_2 19 rfl rfl)
theorem dX34_set_67 : decode cX34_set 67 = .ok (.ifCond .eq 13, 3) := dk_153 0 13 (dk_at dksX34_set_2 20 rfl rfl)
theorem dX34_set_70 : decode cX34_set 70 = .ok (.aload_n 0, 1) := dk_42 (dk_at dksX34_set_2 23 rfl rfl)
theorem dX34_set_71 : decode cX34_set 71 = .ok (.getfield 15, 3) := dk_180 0 15 (dk_at dksX34_set_3 0 rfl rfl)
theorem dX34_set_74 : decode cX34_set 74 = .ok (.iload_n 1, 1) := dk_27 (dk_at dksX34_set_3 3 rfl rfl)
theorem dX34_set_75 : decode cX34_set 75 = .ok (.iload_n 2, 1) := dk_28 (dk_at dksX34_set_3 4 rfl rfl)
theorem dX34_set_76 : decode cX34_set 76 = .ok (.iastore, 1) := dk_79 (dk_at dksX34_set_3 5 rfl rfl)
theorem dX34_set_77 : decode cX34_set 77 = .ok (.goto 14, 3) := dk_167 0 14 (dk_at dksX34_set_3 6 rfl rfl)
theorem dX34_set_80 : decode cX34_set 80 = .ok (.aload_n 0, 1) := dk_42 (dk_at dksX34_set_3 9 rfl rfl)
theorem dX34_set_81 : decode cX34_set 81 = .ok (.getfield 3, 3) := dk_180 0 3 (dk_at dksX34_set_3 10 rfl rfl)
theorem dX34_set_84 : decode cX34_set 84 = .ok (.sipush 1001, 3) := dk_17 3 233 (dk_at dksX34_set_3 13 rfl rfl)
theorem dX34_set_87 : decode cX34_set 87 = .ok (.invokevirtual 56, 3) := dk_182 0 56 (dk_at dksX34_set_3 16 rfl rfl)
theorem dX34_set_90 : decode cX34_set 90 = .ok (.athrow, 1) := dk_191 (dk_at dksX34_set_3 19 rfl rfl)
theorem dX34_set_91 : decode cX34_set 91 = .ok (.return_, 1) := dk_177 (dk_at dksX34_set_3 20 rfl rfl)
abbrev cX34_loses : ByteArray := prog_10_method_4_code
def yX34_loses : MethodName := ⟨RX34, "loses", "(II)V"⟩
def dkwX34_loses_0 : List UInt8 := [42, 180, 0, 15, 27, 28, 79, 42, 180, 0, 19, 27, 4, 84, 177]
abbrev dktX34_loses_0 : List UInt8 := dkwX34_loses_0 ++ []
theorem dksX34_loses_0 : cX34_loses.data.toList.drop 0 = dktX34_loses_0 := by decide +kernel
theorem dX34_loses_0 : decode cX34_loses 0 = .ok (.aload_n 0, 1) := dk_42 (dk_at dksX34_loses_0 0 rfl rfl)
theorem dX34_loses_1 : decode cX34_loses 1 = .ok (.getfield 15, 3) := dk_180 0 15 (dk_at dksX34_loses_0 1 rfl rfl)
theorem dX34_loses_4 : decode cX34_loses 4 = .ok (.iload_n 1, 1) := dk_27 (dk_at dksX34_loses_0 4 rfl rfl)
theorem dX34_loses_5 : decode cX34_loses 5 = .ok (.iload_n 2, 1) := dk_28 (dk_at dksX34_loses_0 5 rfl rfl)
theorem dX34_loses_6 : decode cX34_loses 6 = .ok (.iastore, 1) := dk_79 (dk_at dksX34_loses_0 6 rfl rfl)
theorem dX34_loses_7 : decode cX34_loses 7 = .ok (.aload_n 0, 1) := dk_42 (dk_at dksX34_loses_0 7 rfl rfl)
theorem dX34_loses_8 : decode cX34_loses 8 = .ok (.getfield 19, 3) := dk_180 0 19 (dk_at dksX34_loses_0 8 rfl rfl)
theorem dX34_loses_11 : decode cX34_loses 11 = .ok (.iload_n 1, 1) := dk_27 (dk_at dksX34_loses_0 11 rfl rfl)
theorem dX34_loses_12 : decode cX34_loses 12 = .ok (.iconst 1, 1) := dk_4 (dk_at dksX34_loses_0 12 rfl rfl)
theorem dX34_loses_13 : decode cX34_loses 13 = .ok (.bastore, 1) := dk_84 (dk_at dksX34_loses_0 13 rfl rfl)
theorem dX34_loses_14 : decode cX34_loses 14 = .ok (.return_, 1) := dk_177 (dk_at dksX34_loses_0 14 rfl rfl)
abbrev cX34_init : ByteArray := prog_10_method_1_code
def yX34_init : MethodName := ⟨RX34, "<init>", "(LPondHouse;ILPondHouse$Kind;)V"⟩
def dkwX34_init_3 : List UInt8 := [79, 132, 4, 1, 167, 255, 230, 177]
abbrev dktX34_init_3 : List UInt8 := dkwX34_init_3 ++ []
def dkwX34_init_2 : List UInt8 := [54, 4, 21, 4, 42, 180, 0, 37, 190, 162, 0, 22, 42, 180, 0, 37, 21, 4, 45, 21, 4, 182, 0, 40]
abbrev dktX34_init_2 : List UInt8 := dkwX34_init_2 ++ dktX34_init_3
def dkwX34_init_1 : List UInt8 := [181, 0, 19, 42, 28, 181, 0, 23, 42, 45, 181, 0, 27, 42, 45, 182, 0, 31, 188, 10, 181, 0, 37, 3]
abbrev dktX34_init_1 : List UInt8 := dkwX34_init_1 ++ dktX34_init_2
def dkwX34_init_0 : List UInt8 := [42, 43, 181, 0, 3, 42, 183, 0, 9, 42, 16, 40, 188, 10, 181, 0, 15, 42, 16, 40, 188, 4]
abbrev dktX34_init_0 : List UInt8 := dkwX34_init_0 ++ dktX34_init_1
theorem dksX34_init_0 : cX34_init.data.toList.drop 0 = dktX34_init_0 := by decide +kernel
theorem dksX34_init_1 : cX34_init.data.toList.drop 22 = dktX34_init_1 := dk_seg dksX34_init_0 22 rfl rfl
theorem dksX34_init_2 : cX34_init.data.toList.drop 46 = dktX34_init_2 := dk_seg dksX34_init_1 24 rfl rfl
theorem dksX34_init_3 : cX34_init.data.toList.drop 70 = dktX34_init_3 := dk_seg dksX34_init_2 24 rfl rfl
theorem dX34_init_0 : decode cX34_init 0 = .ok (.aload_n 0, 1) := dk_42 (dk_at dksX34_init_0 0 rfl rfl)
theorem dX34_init_1 : decode cX34_init 1 = .ok (.aload_n 1, 1) := dk_43 (dk_at dksX34_init_0 1 rfl rfl)
theorem dX34_init_2 : decode cX34_init 2 = .ok (.putfield 3, 3) := dk_181 0 3 (dk_at dksX34_init_0 2 rfl rfl)
theorem dX34_init_5 : decode cX34_init 5 = .ok (.aload_n 0, 1) := dk_42 (dk_at dksX34_init_0 5 rfl rfl)
theorem dX34_init_6 : decode cX34_init 6 = .ok (.invokespecial 9, 3) := dk_183 0 9 (dk_at dksX34_init_0 6 rfl rfl)
theorem dX34_init_9 : decode cX34_init 9 = .ok (.aload_n 0, 1) := dk_42 (dk_at dksX34_init_0 9 rfl rfl)
theorem dX34_init_10 : decode cX34_init 10 = .ok (.bipush 40, 2) := dk_16 40 (dk_at dksX34_init_0 10 rfl rfl)
theorem dX34_init_12 : decode cX34_init 12 = .ok (.newarray .int, 2) := dk_188_10 (dk_at dksX34_init_0 12 rfl rfl)
theorem dX34_init_14 : decode cX34_init 14 = .ok (.putfield 15, 3) := dk_181 0 15 (dk_at dksX34_init_0 14 rfl rfl)
theorem dX34_init_17 : decode cX34_init 17 = .ok (.aload_n 0, 1) := dk_42 (dk_at dksX34_init_0 17 rfl rfl)
theorem dX34_init_18 : decode cX34_init 18 = .ok (.bipush 40, 2) := dk_16 40 (dk_at dksX34_init_0 18 rfl rfl)
theorem dX34_init_20 : decode cX34_init 20 = .ok (.newarray .boolean, 2) := dk_188_4 (dk_at dksX34_init_0 20 rfl rfl)
theorem dX34_init_22 : decode cX34_init 22 = .ok (.putfield 19, 3) := dk_181 0 19 (dk_at dksX34_init_1 0 rfl rfl)
theorem dX34_init_25 : decode cX34_init 25 = .ok (.aload_n 0, 1) := dk_42 (dk_at dksX34_init_1 3 rfl rfl)
theorem dX34_init_26 : decode cX34_init 26 = .ok (.iload_n 2, 1) := dk_28 (dk_at dksX34_init_1 4 rfl rfl)
theorem dX34_init_27 : decode cX34_init 27 = .ok (.putfield 23, 3) := dk_181 0 23 (dk_at dksX34_init_1 5 rfl rfl)
theorem dX34_init_30 : decode cX34_init 30 = .ok (.aload_n 0, 1) := dk_42 (dk_at dksX34_init_1 8 rfl rfl)
theorem dX34_init_31 : decode cX34_init 31 = .ok (.aload_n 3, 1) := dk_45 (dk_at dksX34_init_1 9 rfl rfl)
theorem dX34_init_32 : decode cX34_init 32 = .ok (.putfield 27, 3) := dk_181 0 27 (dk_at dksX34_init_1 10 rfl rfl)
theorem dX34_init_35 : decode cX34_init 35 = .ok (.aload_n 0, 1) := dk_42 (dk_at dksX34_init_1 13 rfl rfl)
theorem dX34_init_36 : decode cX34_init 36 = .ok (.aload_n 3, 1) := dk_45 (dk_at dksX34_init_1 14 rfl rfl)
theorem dX34_init_37 : decode cX34_init 37 = .ok (.invokevirtual 31, 3) := dk_182 0 31 (dk_at dksX34_init_1 15 rfl rfl)
theorem dX34_init_40 : decode cX34_init 40 = .ok (.newarray .int, 2) := dk_188_10 (dk_at dksX34_init_1 18 rfl rfl)
theorem dX34_init_42 : decode cX34_init 42 = .ok (.putfield 37, 3) := dk_181 0 37 (dk_at dksX34_init_1 20 rfl rfl)
theorem dX34_init_45 : decode cX34_init 45 = .ok (.iconst 0, 1) := dk_3 (dk_at dksX34_init_1 23 rfl rfl)
theorem dX34_init_46 : decode cX34_init 46 = .ok (.istore 4, 2) := dk_54 4 (dk_at dksX34_init_2 0 rfl rfl)
theorem dX34_init_48 : decode cX34_init 48 = .ok (.iload 4, 2) := dk_21 4 (dk_at dksX34_init_2 2 rfl rfl)
theorem dX34_init_50 : decode cX34_init 50 = .ok (.aload_n 0, 1) := dk_42 (dk_at dksX34_init_2 4 rfl rfl)
theorem dX34_init_51 : decode cX34_init 51 = .ok (.getfield 37, 3) := dk_180 0 37 (dk_at dksX34_init_2 5 rfl rfl)
theorem dX34_init_54 : decode cX34_init 54 = .ok (.arraylength, 1) := dk_190 (dk_at dksX34_init_2 8 rfl rfl)
theorem dX34_init_55 : decode cX34_init 55 = .ok (.if_icmp .ge 22, 3) := dk_162 0 22 (dk_at dksX34_init_2 9 rfl rfl)
theorem dX34_init_58 : decode cX34_init 58 = .ok (.aload_n 0, 1) := dk_42 (dk_at dksX34_init_2 12 rfl rfl)
theorem dX34_init_59 : decode cX34_init 59 = .ok (.getfield 37, 3) := dk_180 0 37 (dk_at dksX34_init_2 13 rfl rfl)
theorem dX34_init_62 : decode cX34_init 62 = .ok (.iload 4, 2) := dk_21 4 (dk_at dksX34_init_2 16 rfl rfl)
theorem dX34_init_64 : decode cX34_init 64 = .ok (.aload_n 3, 1) := dk_45 (dk_at dksX34_init_2 18 rfl rfl)
theorem dX34_init_65 : decode cX34_init 65 = .ok (.iload 4, 2) := dk_21 4 (dk_at dksX34_init_2 19 rfl rfl)
theorem dX34_init_67 : decode cX34_init 67 = .ok (.invokevirtual 40, 3) := dk_182 0 40 (dk_at dksX34_init_2 21 rfl rfl)
theorem dX34_init_70 : decode cX34_init 70 = .ok (.iastore, 1) := dk_79 (dk_at dksX34_init_3 0 rfl rfl)
theorem dX34_init_71 : decode cX34_init 71 = .ok (.iinc 4 1, 3) := dk_132 4 1 (dk_at dksX34_init_3 1 rfl rfl)
theorem dX34_init_74 : decode cX34_init 74 = .ok (.goto (-26), 3) := dk_167 255 230 (dk_at dksX34_init_3 4 rfl rfl)
theorem dX34_init_77 : decode cX34_init 77 = .ok (.return_, 1) := dk_177 (dk_at dksX34_init_3 7 rfl rfl)
theorem q212 : (Jvm.Cond.initialized "PondHouse$Creature") ∈ lw_all := lw_g (lw_at lw_m1 52 rfl) rfl
theorem q430 : (Jvm.Cond.instanceMethod ({ cls := "PondHouse$Creature", name := "get", desc := "(I)I" } : Jvm.MethodName)) ∈ lw_all := lw_g (lw_at lw_m2 30 rfl) rfl
theorem q431 : (Jvm.Cond.selects "PondHouse$Creature" ({ cls := "PondHouse$Creature", name := "get", desc := "(I)I" } : Jvm.MethodName) ({ cls := "PondHouse$Creature", name := "get", desc := "(I)I" } : Jvm.MethodName)) ∈ lw_all := lw_g (lw_at lw_m2 31 rfl) rfl
theorem q432 : (Jvm.Cond.code ({ cls := "PondHouse$Creature", name := "get", desc := "(I)I" } : Jvm.MethodName) prog_10_method_2_code (4 : Nat) (Option.some Jvm.ClassFile.FieldType.int)) ∈ lw_all := lw_g (lw_at lw_m2 32 rfl) rfl
theorem q433 : (Jvm.Cond.methodLink "PondHouse$Creature" (44 : Nat) ({ cls := "PondHouse$Kind", name := "place", desc := "(I)I" } : Jvm.MethodName)) ∈ lw_all := lw_g (lw_at lw_m2 33 rfl) rfl
theorem q434 : (Jvm.Cond.methodLinkNest "PondHouse$Creature" (47 : Nat) ({ cls := "PondHouse", name := "fixedOf", desc := "(LPondHouse$Kind;I)LPondHouse$Fixed;" } : Jvm.MethodName) "PondHouse") ∈ lw_tbl := lw_at lw_m2 34 rfl
theorem q438 : (Jvm.Cond.methodLinkNest "PondHouse$Creature" (56 : Nat) ({ cls := "PondHouse", name := "fails", desc := "(I)LPondHouse$Failure;" } : Jvm.MethodName) "PondHouse") ∈ lw_tbl := lw_at lw_m2 38 rfl
theorem q485 : (Jvm.Cond.instanceMethod ({ cls := "PondHouse$Creature", name := "set", desc := "(II)V" } : Jvm.MethodName)) ∈ lw_all := lw_g (lw_at lw_m2 85 rfl) rfl
theorem q486 : (Jvm.Cond.selects "PondHouse$Creature" ({ cls := "PondHouse$Creature", name := "set", desc := "(II)V" } : Jvm.MethodName) ({ cls := "PondHouse$Creature", name := "set", desc := "(II)V" } : Jvm.MethodName)) ∈ lw_all := lw_g (lw_at lw_m2 86 rfl) rfl
theorem q487 : (Jvm.Cond.code ({ cls := "PondHouse$Creature", name := "set", desc := "(II)V" } : Jvm.MethodName) prog_10_method_3_code (5 : Nat) (Option.none : Option Jvm.ClassFile.FieldType)) ∈ lw_all := lw_g (lw_at lw_m2 87 rfl) rfl
theorem q668 : (Jvm.Cond.selects "PondHouse$Creature" ({ cls := "java/lang/Object", name := "getClass", desc := "()Ljava/lang/Class;" } : Jvm.MethodName) ({ cls := "java/lang/Object", name := "getClass", desc := "()Ljava/lang/Class;" } : Jvm.MethodName)) ∈ lw_all := lw_g (lw_at lw_m3 28 rfl) rfl
theorem q992 : (Jvm.Cond.instanceMethod ({ cls := "PondHouse$Creature", name := "loses", desc := "(II)V" } : Jvm.MethodName)) ∈ lw_all := lw_g (lw_at lw_m4 112 rfl) rfl
theorem q993 : (Jvm.Cond.selects "PondHouse$Creature" ({ cls := "PondHouse$Creature", name := "loses", desc := "(II)V" } : Jvm.MethodName) ({ cls := "PondHouse$Creature", name := "loses", desc := "(II)V" } : Jvm.MethodName)) ∈ lw_all := lw_g (lw_at lw_m4 113 rfl) rfl
theorem q994 : (Jvm.Cond.code ({ cls := "PondHouse$Creature", name := "loses", desc := "(II)V" } : Jvm.MethodName) prog_10_method_4_code (3 : Nat) (Option.none : Option Jvm.ClassFile.FieldType)) ∈ lw_all := lw_g (lw_at lw_m4 114 rfl) rfl
theorem q1008 : (Jvm.Cond.fieldLink "PondHouse$Creature" (51 : Nat) "PondHouse$Fixed" "value" "I") ∈ lw_all := lw_g (lw_at lw_m4 128 rfl) rfl
theorem q2242 : (Jvm.Cond.instantiable "PondHouse$Creature" (6 : Nat)) ∈ lw_all := lw_g (lw_at lw_m9 162 rfl) rfl
theorem q2244 : (Jvm.Cond.instanceMethod ({ cls := "PondHouse$Creature", name := "<init>", desc := "(LPondHouse;ILPondHouse$Kind;)V" } : Jvm.MethodName)) ∈ lw_all := lw_g (lw_at lw_m9 164 rfl) rfl
theorem q2245 : (Jvm.Cond.code ({ cls := "PondHouse$Creature", name := "<init>", desc := "(LPondHouse;ILPondHouse$Kind;)V" } : Jvm.MethodName) prog_10_method_1_code (5 : Nat) (Option.none : Option Jvm.ClassFile.FieldType)) ∈ lw_all := lw_g (lw_at lw_m9 165 rfl) rfl
theorem q2246 : (Jvm.Cond.methodLink "PondHouse$Creature" (9 : Nat) ({ cls := "java/lang/Object", name := "<init>", desc := "()V" } : Jvm.MethodName)) ∈ lw_all := lw_g (lw_at lw_m9 166 rfl) rfl
theorem q2247 : (Jvm.Cond.methodLink "PondHouse$Creature" (31 : Nat) ({ cls := "PondHouse$Kind", name := "all", desc := "()I" } : Jvm.MethodName)) ∈ lw_all := lw_g (lw_at lw_m9 167 rfl) rfl
theorem q2248 : (Jvm.Cond.methodLink "PondHouse$Creature" (40 : Nat) ({ cls := "PondHouse$Kind", name := "first", desc := "(I)I" } : Jvm.MethodName)) ∈ lw_all := lw_g (lw_at lw_m9 168 rfl) rfl
theorem q2249 : (Jvm.Cond.fieldLink "PondHouse$Creature" (23 : Nat) "PondHouse$Creature" "number" "I") ∈ lw_all := lw_g (lw_at lw_m9 169 rfl) rfl
theorem q2251 : (Jvm.Cond.fieldLink "PondHouse$Creature" (27 : Nat) "PondHouse$Creature" "kind" "LPondHouse$Kind;") ∈ lw_all := lw_g (lw_at lw_m9 171 rfl) rfl
theorem q2254 : (Jvm.Cond.fieldLink "PondHouse$Creature" (37 : Nat) "PondHouse$Creature" "values" "[I") ∈ lw_all := lw_g (lw_at lw_m9 174 rfl) rfl
theorem q2256 : (Jvm.Cond.fieldLink "PondHouse$Creature" (15 : Nat) "PondHouse$Creature" "lost" "[I") ∈ lw_all := lw_g (lw_at lw_m9 176 rfl) rfl
theorem q2258 : (Jvm.Cond.fieldLink "PondHouse$Creature" (19 : Nat) "PondHouse$Creature" "hasLost" "[Z") ∈ lw_all := lw_g (lw_at lw_m9 178 rfl) rfl
theorem q2260 : (Jvm.Cond.fieldLink "PondHouse$Creature" (3 : Nat) "PondHouse$Creature" "this$0" "LPondHouse;") ∈ lw_all := lw_g (lw_at lw_m9 180 rfl) rfl
theorem q2261 : (Jvm.Cond.laysFinal "PondHouse$Creature" "PondHouse$Creature" "number" "I") ∈ lw_all := lw_g (lw_at lw_m9 181 rfl) rfl
theorem q2262 : (Jvm.Cond.soleField "PondHouse$Creature" "number") ∈ lw_all := lw_g (lw_at lw_m9 182 rfl) rfl
theorem q2263 : (Jvm.Cond.lays "PondHouse$Creature" "PondHouse$Creature" "kind" "LPondHouse$Kind;") ∈ lw_all := lw_g (lw_at lw_m9 183 rfl) rfl
theorem q2264 : (Jvm.Cond.soleField "PondHouse$Creature" "kind") ∈ lw_all := lw_g (lw_at lw_m9 184 rfl) rfl
theorem q2265 : (Jvm.Cond.lays "PondHouse$Creature" "PondHouse$Creature" "values" "[I") ∈ lw_all := lw_g (lw_at lw_m9 185 rfl) rfl
theorem q2266 : (Jvm.Cond.soleField "PondHouse$Creature" "values") ∈ lw_all := lw_g (lw_at lw_m9 186 rfl) rfl
theorem q2267 : (Jvm.Cond.laysFinal "PondHouse$Creature" "PondHouse$Creature" "lost" "[I") ∈ lw_all := lw_g (lw_at lw_m9 187 rfl) rfl
theorem q2268 : (Jvm.Cond.soleField "PondHouse$Creature" "lost") ∈ lw_all := lw_g (lw_at lw_m9 188 rfl) rfl
theorem q2269 : (Jvm.Cond.laysFinal "PondHouse$Creature" "PondHouse$Creature" "hasLost" "[Z") ∈ lw_all := lw_g (lw_at lw_m9 189 rfl) rfl
theorem q2270 : (Jvm.Cond.soleField "PondHouse$Creature" "hasLost") ∈ lw_all := lw_g (lw_at lw_m9 190 rfl) rfl
theorem q2271 : (Jvm.Cond.laysFinal "PondHouse$Creature" "PondHouse$Creature" "this$0" "LPondHouse;") ∈ lw_all := lw_g (lw_at lw_m9 191 rfl) rfl
theorem q2272 : (Jvm.Cond.soleField "PondHouse$Creature" "this$0") ∈ lw_all := lw_g (lw_at lw_m9 192 rfl) rfl
theorem q2273 : (Jvm.Cond.superclass "PondHouse$Creature" "java/lang/Object") ∈ lw_all := lw_g (lw_at lw_m9 193 rfl) rfl
theorem q3092 : (Jvm.Cond.castable "PondHouse$Creature" "java/lang/Object") ∈ lw_tbl := lw_at lw_m13 52 rfl
theorem in_X34 : ∀ w ∈ wsX340, w ∈ lw_all := lw_in wsX340 [2261, 2263, 2265, 2267, 2269, 2271] (by decide +kernel) (by decide +kernel)

/-! PondHouse$LongAct -/
set_option maxRecDepth 100000
def RX35 : String := "PondHouse$LongAct"
def TX35 : u_T := fun k => match k with
  | 0 => ("PondHouse$LongAct", "frame", "LPondHouse$Frame;", true)
  | 1 => ("PondHouse$LongAct", "at", "I", false)
  | 2 => ("PondHouse$LongAct", "runs", "I", false)
  | 3 => ("PondHouse$LongAct", "outcome", "I", false)
  | 4 => ("PondHouse$LongAct", "gave", "I", false)
  | 5 => ("PondHouse$LongAct", "isUnder", "Z", false)
  | _ => ("PondHouse$LongAct", "forbids", "Z", false)
def tyX35 : Nat → FieldType := fun k => match k with
  | 0 => .object "PondHouse$Frame"
  | 1 => .int
  | 2 => .int
  | 3 => .int
  | 4 => .int
  | 5 => .boolean
  | _ => .boolean
abbrev wsX350 : List Cond := u_ws RX35 TX35 7
theorem nmX35 : ∀ a, a < 7 → ∀ b, b < 7 → a ≠ b → (TX35 a).2.1 ≠ (TX35 b).2.1 := by decide +kernel
theorem tyX35_ok : ∀ k, k < 7 → parseFieldDescriptor (TX35 k).2.2.1 = some (tyX35 k) := by decide +kernel
abbrev cX35_init : ByteArray := prog_21_method_1_code
def yX35_init : MethodName := ⟨RX35, "<init>", "(LPondHouse$Frame;)V"⟩
def dkwX35_init_0 : List UInt8 := [42, 183, 0, 1, 42, 4, 181, 0, 7, 42, 43, 181, 0, 13, 177]
abbrev dktX35_init_0 : List UInt8 := dkwX35_init_0 ++ []
theorem dksX35_init_0 : cX35_init.data.toList.drop 0 = dktX35_init_0 := by decide +kernel
theorem dX35_init_0 : decode cX35_init 0 = .ok (.aload_n 0, 1) := dk_42 (dk_at dksX35_init_0 0 rfl rfl)
theorem dX35_init_1 : decode cX35_init 1 = .ok (.invokespecial 1, 3) := dk_183 0 1 (dk_at dksX35_init_0 1 rfl rfl)
theorem dX35_init_4 : decode cX35_init 4 = .ok (.aload_n 0, 1) := dk_42 (dk_at dksX35_init_0 4 rfl rfl)
theorem dX35_init_5 : decode cX35_init 5 = .ok (.iconst 1, 1) := dk_4 (dk_at dksX35_init_0 5 rfl rfl)
theorem dX35_init_6 : decode cX35_init 6 = .ok (.putfield 7, 3) := dk_181 0 7 (dk_at dksX35_init_0 6 rfl rfl)
theorem dX35_init_9 : decode cX35_init 9 = .ok (.aload_n 0, 1) := dk_42 (dk_at dksX35_init_0 9 rfl rfl)
theorem dX35_init_10 : decode cX35_init 10 = .ok (.aload_n 1, 1) := dk_43 (dk_at dksX35_init_0 10 rfl rfl)
theorem dX35_init_11 : decode cX35_init 11 = .ok (.putfield 13, 3) := dk_181 0 13 (dk_at dksX35_init_0 11 rfl rfl)
theorem dX35_init_14 : decode cX35_init 14 = .ok (.return_, 1) := dk_177 (dk_at dksX35_init_0 14 rfl rfl)
theorem q213 : (Jvm.Cond.initialized "PondHouse$LongAct") ∈ lw_all := lw_g (lw_at lw_m1 53 rfl) rfl
theorem q297 : (Jvm.Cond.instantiable "PondHouse$LongAct" (7 : Nat)) ∈ lw_all := lw_g (lw_at lw_m1 137 rfl) rfl
theorem q339 : (Jvm.Cond.instanceMethod ({ cls := "PondHouse$LongAct", name := "<init>", desc := "(LPondHouse$Frame;)V" } : Jvm.MethodName)) ∈ lw_all := lw_g (lw_at lw_m1 179 rfl) rfl
theorem q340 : (Jvm.Cond.code ({ cls := "PondHouse$LongAct", name := "<init>", desc := "(LPondHouse$Frame;)V" } : Jvm.MethodName) prog_21_method_1_code (2 : Nat) (Option.none : Option Jvm.ClassFile.FieldType)) ∈ lw_all := lw_g (lw_at lw_m1 180 rfl) rfl
theorem q341 : (Jvm.Cond.methodLink "PondHouse$LongAct" (1 : Nat) ({ cls := "java/lang/Object", name := "<init>", desc := "()V" } : Jvm.MethodName)) ∈ lw_all := lw_g (lw_at lw_m1 181 rfl) rfl
theorem q342 : (Jvm.Cond.fieldLink "PondHouse$LongAct" (13 : Nat) "PondHouse$LongAct" "frame" "LPondHouse$Frame;") ∈ lw_all := lw_g (lw_at lw_m1 182 rfl) rfl
theorem q348 : (Jvm.Cond.fieldLink "PondHouse$LongAct" (7 : Nat) "PondHouse$LongAct" "isUnder" "Z") ∈ lw_all := lw_g (lw_at lw_m1 188 rfl) rfl
theorem q351 : (Jvm.Cond.laysFinal "PondHouse$LongAct" "PondHouse$LongAct" "frame" "LPondHouse$Frame;") ∈ lw_all := lw_g (lw_at lw_m1 191 rfl) rfl
theorem q352 : (Jvm.Cond.soleField "PondHouse$LongAct" "frame") ∈ lw_all := lw_g (lw_at lw_m1 192 rfl) rfl
theorem q353 : (Jvm.Cond.lays "PondHouse$LongAct" "PondHouse$LongAct" "at" "I") ∈ lw_all := lw_g (lw_at lw_m1 193 rfl) rfl
theorem q354 : (Jvm.Cond.soleField "PondHouse$LongAct" "at") ∈ lw_all := lw_g (lw_at lw_m1 194 rfl) rfl
theorem q355 : (Jvm.Cond.lays "PondHouse$LongAct" "PondHouse$LongAct" "runs" "I") ∈ lw_all := lw_g (lw_at lw_m1 195 rfl) rfl
theorem q356 : (Jvm.Cond.soleField "PondHouse$LongAct" "runs") ∈ lw_all := lw_g (lw_at lw_m1 196 rfl) rfl
theorem q357 : (Jvm.Cond.lays "PondHouse$LongAct" "PondHouse$LongAct" "outcome" "I") ∈ lw_all := lw_g (lw_at lw_m1 197 rfl) rfl
theorem q358 : (Jvm.Cond.soleField "PondHouse$LongAct" "outcome") ∈ lw_all := lw_g (lw_at lw_m1 198 rfl) rfl
theorem q359 : (Jvm.Cond.lays "PondHouse$LongAct" "PondHouse$LongAct" "gave" "I") ∈ lw_all := lw_g (lw_at lw_m1 199 rfl) rfl
theorem q360 : (Jvm.Cond.soleField "PondHouse$LongAct" "gave") ∈ lw_all := lw_g (lw_at lw_m1 200 rfl) rfl
theorem q361 : (Jvm.Cond.lays "PondHouse$LongAct" "PondHouse$LongAct" "isUnder" "Z") ∈ lw_all := lw_g (lw_at lw_m1 201 rfl) rfl
theorem q362 : (Jvm.Cond.soleField "PondHouse$LongAct" "isUnder") ∈ lw_all := lw_g (lw_at lw_m1 202 rfl) rfl
theorem q363 : (Jvm.Cond.lays "PondHouse$LongAct" "PondHouse$LongAct" "forbids" "Z") ∈ lw_all := lw_g (lw_at lw_m1 203 rfl) rfl
theorem q364 : (Jvm.Cond.soleField "PondHouse$LongAct" "forbids") ∈ lw_all := lw_g (lw_at lw_m1 204 rfl) rfl
theorem q365 : (Jvm.Cond.superclass "PondHouse$LongAct" "java/lang/Object") ∈ lw_all := lw_g (lw_at lw_m1 205 rfl) rfl
theorem q679 : (Jvm.Cond.selects "PondHouse$LongAct" ({ cls := "java/lang/Object", name := "getClass", desc := "()Ljava/lang/Class;" } : Jvm.MethodName) ({ cls := "java/lang/Object", name := "getClass", desc := "()Ljava/lang/Class;" } : Jvm.MethodName)) ∈ lw_all := lw_g (lw_at lw_m3 39 rfl) rfl
theorem q3095 : (Jvm.Cond.castable "PondHouse$LongAct" "java/lang/Object") ∈ lw_tbl := lw_at lw_m13 55 rfl
theorem in_X35 : ∀ w ∈ wsX350, w ∈ lw_all := lw_in wsX350 [351, 353, 355, 357, 359, 361, 363] (by decide +kernel) (by decide +kernel)

/-! PondHouse$Refusal -/
set_option maxRecDepth 100000
def RX5 : String := "PondHouse$Refusal"
def TX5 : u_T := fun k => match k with
  | 0 => ("java/lang/Throwable", "cause", "Ljava/lang/Throwable;", false)
  | 1 => ("java/lang/Throwable", "stackTrace", "[Ljava/lang/StackTraceElement;", false)
  | 2 => ("java/lang/Throwable", "suppressedExceptions", "Ljava/util/List;", false)
  | 3 => ("java/lang/Throwable", "detailMessage", "Ljava/lang/String;", false)
  | 4 => ("java/lang/Throwable", "backtrace", "Ljava/lang/Object;", false)
  | 5 => ("java/lang/Throwable", "depth", "I", false)
  | 6 => ("PondHouse$Refusal", "why", "I", false)
  | 7 => ("PondHouse$Refusal", "change", "I", false)
  | _ => ("PondHouse$Refusal", "creature", "I", false)
def tyX5 : Nat → FieldType := fun k => match k with
  | 0 => .object "java/lang/Throwable"
  | 1 => .array (.object "java/lang/StackTraceElement")
  | 2 => .object "java/util/List"
  | 3 => .object "java/lang/String"
  | 4 => .object "java/lang/Object"
  | 5 => .int
  | 6 => .int
  | 7 => .int
  | _ => .int
abbrev wsX50 : List Cond := u_ws RX5 TX5 9
theorem nmX5 : ∀ a, a < 9 → ∀ b, b < 9 → a ≠ b → (TX5 a).2.1 ≠ (TX5 b).2.1 := by decide +kernel
theorem tyX5_ok : ∀ k, k < 9 → parseFieldDescriptor (TX5 k).2.2.1 = some (tyX5 k) := by decide +kernel
abbrev cX5_init : ByteArray := prog_30_method_1_code
def yX5_init : MethodName := ⟨RX5, "<init>", "()V"⟩
def dkwX5_init_0 : List UInt8 := [42, 1, 1, 3, 3, 183, 0, 1, 177]
abbrev dktX5_init_0 : List UInt8 := dkwX5_init_0 ++ []
theorem dksX5_init_0 : cX5_init.data.toList.drop 0 = dktX5_init_0 := by decide +kernel
theorem dX5_init_0 : decode cX5_init 0 = .ok (.aload_n 0, 1) := dk_42 (dk_at dksX5_init_0 0 rfl rfl)
theorem dX5_init_1 : decode cX5_init 1 = .ok (.aconst_null, 1) := dk_1 (dk_at dksX5_init_0 1 rfl rfl)
theorem dX5_init_2 : decode cX5_init 2 = .ok (.aconst_null, 1) := dk_1 (dk_at dksX5_init_0 2 rfl rfl)
theorem dX5_init_3 : decode cX5_init 3 = .ok (.iconst 0, 1) := dk_3 (dk_at dksX5_init_0 3 rfl rfl)
theorem dX5_init_4 : decode cX5_init 4 = .ok (.iconst 0, 1) := dk_3 (dk_at dksX5_init_0 4 rfl rfl)
theorem dX5_init_5 : decode cX5_init 5 = .ok (.invokespecial 1, 3) := dk_183 0 1 (dk_at dksX5_init_0 5 rfl rfl)
theorem dX5_init_8 : decode cX5_init 8 = .ok (.return_, 1) := dk_177 (dk_at dksX5_init_0 8 rfl rfl)
theorem q168 : (Jvm.Cond.initialized "PondHouse$Refusal") ∈ lw_all := lw_g (lw_at lw_m1 8 rfl) rfl
theorem q688 : (Jvm.Cond.selects "PondHouse$Refusal" ({ cls := "java/lang/Object", name := "getClass", desc := "()Ljava/lang/Class;" } : Jvm.MethodName) ({ cls := "java/lang/Object", name := "getClass", desc := "()Ljava/lang/Class;" } : Jvm.MethodName)) ∈ lw_all := lw_g (lw_at lw_m3 48 rfl) rfl
theorem q1116 : (Jvm.Cond.selects "PondHouse$Refusal" ({ cls := "java/lang/Throwable", name := "fillInStackTrace", desc := "()Ljava/lang/Throwable;" } : Jvm.MethodName) ({ cls := "java/lang/Throwable", name := "fillInStackTrace", desc := "()Ljava/lang/Throwable;" } : Jvm.MethodName)) ∈ lw_all := lw_g (lw_at lw_m4 236 rfl) rfl
theorem q1205 : (Jvm.Cond.instantiable "PondHouse$Refusal" (9 : Nat)) ∈ lw_all := lw_g (lw_at lw_m5 85 rfl) rfl
theorem q1206 : (Jvm.Cond.castable "PondHouse$Refusal" "PondHouse$Refusal") ∈ lw_tbl := lw_at lw_m5 86 rfl
theorem q1207 : (Jvm.Cond.selects "PondHouse$Refusal" ({ cls := "java/lang/Throwable", name := "fillInStackTrace", desc := "(I)Ljava/lang/Throwable;" } : Jvm.MethodName) ({ cls := "java/lang/Throwable", name := "fillInStackTrace", desc := "(I)Ljava/lang/Throwable;" } : Jvm.MethodName)) ∈ lw_all := lw_g (lw_at lw_m5 87 rfl) rfl
theorem q1208 : (Jvm.Cond.lays "PondHouse$Refusal" "java/lang/Throwable" "cause" "Ljava/lang/Throwable;") ∈ lw_all := lw_g (lw_at lw_m5 88 rfl) rfl
theorem q1209 : (Jvm.Cond.lays "PondHouse$Refusal" "java/lang/Throwable" "stackTrace" "[Ljava/lang/StackTraceElement;") ∈ lw_all := lw_g (lw_at lw_m5 89 rfl) rfl
theorem q1210 : (Jvm.Cond.lays "PondHouse$Refusal" "java/lang/Throwable" "suppressedExceptions" "Ljava/util/List;") ∈ lw_all := lw_g (lw_at lw_m5 90 rfl) rfl
theorem q1211 : (Jvm.Cond.lays "PondHouse$Refusal" "java/lang/Throwable" "detailMessage" "Ljava/lang/String;") ∈ lw_all := lw_g (lw_at lw_m5 91 rfl) rfl
theorem q1212 : (Jvm.Cond.lays "PondHouse$Refusal" "java/lang/Throwable" "backtrace" "Ljava/lang/Object;") ∈ lw_all := lw_g (lw_at lw_m5 92 rfl) rfl
theorem q1214 : (Jvm.Cond.instanceMethod ({ cls := "PondHouse$Refusal", name := "<init>", desc := "()V" } : Jvm.MethodName)) ∈ lw_all := lw_g (lw_at lw_m5 94 rfl) rfl
theorem q1215 : (Jvm.Cond.code ({ cls := "PondHouse$Refusal", name := "<init>", desc := "()V" } : Jvm.MethodName) prog_30_method_1_code (1 : Nat) (Option.none : Option Jvm.ClassFile.FieldType)) ∈ lw_all := lw_g (lw_at lw_m5 95 rfl) rfl
theorem q1216 : (Jvm.Cond.methodLink "PondHouse$Refusal" (1 : Nat) ({ cls := "java/lang/Exception", name := "<init>", desc := "(Ljava/lang/String;Ljava/lang/Throwable;ZZ)V" } : Jvm.MethodName)) ∈ lw_all := lw_g (lw_at lw_m5 96 rfl) rfl
theorem q1220 : (Jvm.Cond.lays "PondHouse$Refusal" "PondHouse$Refusal" "why" "I") ∈ lw_all := lw_g (lw_at lw_m5 100 rfl) rfl
theorem q1221 : (Jvm.Cond.soleField "PondHouse$Refusal" "why") ∈ lw_all := lw_g (lw_at lw_m5 101 rfl) rfl
theorem q1222 : (Jvm.Cond.lays "PondHouse$Refusal" "PondHouse$Refusal" "change" "I") ∈ lw_all := lw_g (lw_at lw_m5 102 rfl) rfl
theorem q1223 : (Jvm.Cond.soleField "PondHouse$Refusal" "change") ∈ lw_all := lw_g (lw_at lw_m5 103 rfl) rfl
theorem q1224 : (Jvm.Cond.lays "PondHouse$Refusal" "PondHouse$Refusal" "creature" "I") ∈ lw_all := lw_g (lw_at lw_m5 104 rfl) rfl
theorem q1225 : (Jvm.Cond.soleField "PondHouse$Refusal" "creature") ∈ lw_all := lw_g (lw_at lw_m5 105 rfl) rfl
theorem q1226 : (Jvm.Cond.lays "PondHouse$Refusal" "java/lang/Throwable" "depth" "I") ∈ lw_all := lw_g (lw_at lw_m5 106 rfl) rfl
theorem q1227 : (Jvm.Cond.superclass "PondHouse$Refusal" "java/lang/Exception") ∈ lw_all := lw_g (lw_at lw_m5 107 rfl) rfl
theorem q3102 : (Jvm.Cond.castable "PondHouse$Refusal" "java/lang/Object") ∈ lw_tbl := lw_at lw_m13 62 rfl
theorem in_X5 : ∀ w ∈ wsX50, w ∈ lw_all := lw_in wsX50 [1208, 1209, 1210, 1211, 1212, 1226, 1220, 1222, 1224] (by decide +kernel) (by decide +kernel)

/-! PondHouse$Row -/
set_option maxRecDepth 100000
def RX7 : String := "PondHouse$Row"
def TX7 : u_T := fun k => match k with
  | _ => ("PondHouse$Row", "all", "Ljava/util/ArrayList;", true)
def tyX7 : Nat → FieldType := fun k => match k with
  | _ => .object "java/util/ArrayList"
abbrev wsX70 : List Cond := u_ws RX7 TX7 1
theorem nmX7 : ∀ a, a < 1 → ∀ b, b < 1 → a ≠ b → (TX7 a).2.1 ≠ (TX7 b).2.1 := by decide +kernel
theorem tyX7_ok : ∀ k, k < 1 → parseFieldDescriptor (TX7 k).2.2.1 = some (tyX7 k) := by decide +kernel
abbrev cX7_init : ByteArray := prog_32_method_1_code
def yX7_init : MethodName := ⟨RX7, "<init>", "()V"⟩
def dkwX7_init_0 : List UInt8 := [42, 183, 0, 1, 42, 187, 0, 7, 89, 183, 0, 9, 181, 0, 10, 177]
abbrev dktX7_init_0 : List UInt8 := dkwX7_init_0 ++ []
theorem dksX7_init_0 : cX7_init.data.toList.drop 0 = dktX7_init_0 := by decide +kernel
theorem dX7_init_0 : decode cX7_init 0 = .ok (.aload_n 0, 1) := dk_42 (dk_at dksX7_init_0 0 rfl rfl)
theorem dX7_init_1 : decode cX7_init 1 = .ok (.invokespecial 1, 3) := dk_183 0 1 (dk_at dksX7_init_0 1 rfl rfl)
theorem dX7_init_4 : decode cX7_init 4 = .ok (.aload_n 0, 1) := dk_42 (dk_at dksX7_init_0 4 rfl rfl)
theorem dX7_init_5 : decode cX7_init 5 = .ok (.new 7, 3) := dk_187 0 7 (dk_at dksX7_init_0 5 rfl rfl)
theorem dX7_init_8 : decode cX7_init 8 = .ok (.dup, 1) := dk_89 (dk_at dksX7_init_0 8 rfl rfl)
theorem dX7_init_9 : decode cX7_init 9 = .ok (.invokespecial 9, 3) := dk_183 0 9 (dk_at dksX7_init_0 9 rfl rfl)
theorem dX7_init_12 : decode cX7_init 12 = .ok (.putfield 10, 3) := dk_181 0 10 (dk_at dksX7_init_0 12 rfl rfl)
theorem dX7_init_15 : decode cX7_init 15 = .ok (.return_, 1) := dk_177 (dk_at dksX7_init_0 15 rfl rfl)
abbrev cX7_add : ByteArray := prog_32_method_2_code
def yX7_add : MethodName := ⟨RX7, "add", "(Ljava/lang/Object;)V"⟩
def dkwX7_add_0 : List UInt8 := [42, 180, 0, 10, 43, 182, 0, 16, 87, 177]
abbrev dktX7_add_0 : List UInt8 := dkwX7_add_0 ++ []
theorem dksX7_add_0 : cX7_add.data.toList.drop 0 = dktX7_add_0 := by decide +kernel
theorem dX7_add_0 : decode cX7_add 0 = .ok (.aload_n 0, 1) := dk_42 (dk_at dksX7_add_0 0 rfl rfl)
theorem dX7_add_1 : decode cX7_add 1 = .ok (.getfield 10, 3) := dk_180 0 10 (dk_at dksX7_add_0 1 rfl rfl)
theorem dX7_add_4 : decode cX7_add 4 = .ok (.aload_n 1, 1) := dk_43 (dk_at dksX7_add_0 4 rfl rfl)
theorem dX7_add_5 : decode cX7_add 5 = .ok (.invokevirtual 16, 3) := dk_182 0 16 (dk_at dksX7_add_0 5 rfl rfl)
theorem dX7_add_8 : decode cX7_add 8 = .ok (.pop, 1) := dk_87 (dk_at dksX7_add_0 8 rfl rfl)
theorem dX7_add_9 : decode cX7_add 9 = .ok (.return_, 1) := dk_177 (dk_at dksX7_add_0 9 rfl rfl)
abbrev cX7_size : ByteArray := prog_32_method_3_code
def yX7_size : MethodName := ⟨RX7, "size", "()I"⟩
def dkwX7_size_0 : List UInt8 := [42, 180, 0, 10, 182, 0, 20, 172]
abbrev dktX7_size_0 : List UInt8 := dkwX7_size_0 ++ []
theorem dksX7_size_0 : cX7_size.data.toList.drop 0 = dktX7_size_0 := by decide +kernel
theorem dX7_size_0 : decode cX7_size 0 = .ok (.aload_n 0, 1) := dk_42 (dk_at dksX7_size_0 0 rfl rfl)
theorem dX7_size_1 : decode cX7_size 1 = .ok (.getfield 10, 3) := dk_180 0 10 (dk_at dksX7_size_0 1 rfl rfl)
theorem dX7_size_4 : decode cX7_size 4 = .ok (.invokevirtual 20, 3) := dk_182 0 20 (dk_at dksX7_size_0 4 rfl rfl)
theorem dX7_size_7 : decode cX7_size 7 = .ok (.ireturn, 1) := dk_172 (dk_at dksX7_size_0 7 rfl rfl)
abbrev cX7_get : ByteArray := prog_32_method_4_code
def yX7_get : MethodName := ⟨RX7, "get", "(I)Ljava/lang/Object;"⟩
def dkwX7_get_0 : List UInt8 := [42, 180, 0, 10, 27, 182, 0, 24, 176]
abbrev dktX7_get_0 : List UInt8 := dkwX7_get_0 ++ []
theorem dksX7_get_0 : cX7_get.data.toList.drop 0 = dktX7_get_0 := by decide +kernel
theorem dX7_get_0 : decode cX7_get 0 = .ok (.aload_n 0, 1) := dk_42 (dk_at dksX7_get_0 0 rfl rfl)
theorem dX7_get_1 : decode cX7_get 1 = .ok (.getfield 10, 3) := dk_180 0 10 (dk_at dksX7_get_0 1 rfl rfl)
theorem dX7_get_4 : decode cX7_get 4 = .ok (.iload_n 1, 1) := dk_27 (dk_at dksX7_get_0 4 rfl rfl)
theorem dX7_get_5 : decode cX7_get 5 = .ok (.invokevirtual 24, 3) := dk_182 0 24 (dk_at dksX7_get_0 5 rfl rfl)
theorem dX7_get_8 : decode cX7_get 8 = .ok (.areturn, 1) := dk_176 (dk_at dksX7_get_0 8 rfl rfl)
abbrev cX7_drop : ByteArray := prog_32_method_5_code
def yX7_drop : MethodName := ⟨RX7, "drop", "(Ljava/lang/Object;)V"⟩
def dkwX7_drop_1 : List UInt8 := [28, 182, 0, 28, 87, 177]
abbrev dktX7_drop_1 : List UInt8 := dkwX7_drop_1 ++ []
def dkwX7_drop_0 : List UInt8 := [3, 61, 42, 180, 0, 10, 28, 182, 0, 24, 43, 165, 0, 9, 132, 2, 1, 167, 255, 241, 42, 180, 0, 10]
abbrev dktX7_drop_0 : List UInt8 := dkwX7_drop_0 ++ dktX7_drop_1
theorem dksX7_drop_0 : cX7_drop.data.toList.drop 0 = dktX7_drop_0 := by decide +kernel
theorem dksX7_drop_1 : cX7_drop.data.toList.drop 24 = dktX7_drop_1 := dk_seg dksX7_drop_0 24 rfl rfl
theorem dX7_drop_0 : decode cX7_drop 0 = .ok (.iconst 0, 1) := dk_3 (dk_at dksX7_drop_0 0 rfl rfl)
theorem dX7_drop_1 : decode cX7_drop 1 = .ok (.istore_n 2, 1) := dk_61 (dk_at dksX7_drop_0 1 rfl rfl)
theorem dX7_drop_2 : decode cX7_drop 2 = .ok (.aload_n 0, 1) := dk_42 (dk_at dksX7_drop_0 2 rfl rfl)
theorem dX7_drop_3 : decode cX7_drop 3 = .ok (.getfield 10, 3) := dk_180 0 10 (dk_at dksX7_drop_0 3 rfl rfl)
theorem dX7_drop_6 : decode cX7_drop 6 = .ok (.iload_n 2, 1) := dk_28 (dk_at dksX7_drop_0 6 rfl rfl)
theorem dX7_drop_7 : decode cX7_drop 7 = .ok (.invokevirtual 24, 3) := dk_182 0 24 (dk_at dksX7_drop_0 7 rfl rfl)
theorem dX7_drop_10 : decode cX7_drop 10 = .ok (.aload_n 1, 1) := dk_43 (dk_at dksX7_drop_0 10 rfl rfl)
theorem dX7_drop_11 : decode cX7_drop 11 = .ok (.if_acmp .eq 9, 3) := dk_165 0 9 (dk_at dksX7_drop_0 11 rfl rfl)
theorem dX7_drop_14 : decode cX7_drop 14 = .ok (.iinc 2 1, 3) := dk_132 2 1 (dk_at dksX7_drop_0 14 rfl rfl)
theorem dX7_drop_17 : decode cX7_drop 17 = .ok (.goto (-15), 3) := dk_167 255 241 (dk_at dksX7_drop_0 17 rfl rfl)
theorem dX7_drop_20 : decode cX7_drop 20 = .ok (.aload_n 0, 1) := dk_42 (dk_at dksX7_drop_0 20 rfl rfl)
theorem dX7_drop_21 : decode cX7_drop 21 = .ok (.getfield 10, 3) := dk_180 0 10 (dk_at dksX7_drop_0 21 rfl rfl)
theorem dX7_drop_24 : decode cX7_drop 24 = .ok (.iload_n 2, 1) := dk_28 (dk_at dksX7_drop_1 0 rfl rfl)
theorem dX7_drop_25 : decode cX7_drop 25 = .ok (.invokevirtual 28, 3) := dk_182 0 28 (dk_at dksX7_drop_1 1 rfl rfl)
theorem dX7_drop_28 : decode cX7_drop 28 = .ok (.pop, 1) := dk_87 (dk_at dksX7_drop_1 4 rfl rfl)
theorem dX7_drop_29 : decode cX7_drop 29 = .ok (.return_, 1) := dk_177 (dk_at dksX7_drop_1 5 rfl rfl)
theorem q181 : (Jvm.Cond.initialized "PondHouse$Row") ∈ lw_all := lw_g (lw_at lw_m1 21 rfl) rfl
theorem q515 : (Jvm.Cond.instantiable "PondHouse$Row" (1 : Nat)) ∈ lw_all := lw_g (lw_at lw_m2 115 rfl) rfl
theorem q517 : (Jvm.Cond.instanceMethod ({ cls := "PondHouse$Row", name := "<init>", desc := "()V" } : Jvm.MethodName)) ∈ lw_all := lw_g (lw_at lw_m2 117 rfl) rfl
theorem q518 : (Jvm.Cond.code ({ cls := "PondHouse$Row", name := "<init>", desc := "()V" } : Jvm.MethodName) prog_32_method_1_code (1 : Nat) (Option.none : Option Jvm.ClassFile.FieldType)) ∈ lw_all := lw_g (lw_at lw_m2 118 rfl) rfl
theorem q519 : (Jvm.Cond.methodLink "PondHouse$Row" (1 : Nat) ({ cls := "java/lang/Object", name := "<init>", desc := "()V" } : Jvm.MethodName)) ∈ lw_all := lw_g (lw_at lw_m2 119 rfl) rfl
theorem q520 : (Jvm.Cond.classLink "PondHouse$Row" (7 : Nat) "java/util/ArrayList") ∈ lw_all := lw_g (lw_at lw_m2 120 rfl) rfl
theorem q522 : (Jvm.Cond.methodLink "PondHouse$Row" (9 : Nat) ({ cls := "java/util/ArrayList", name := "<init>", desc := "()V" } : Jvm.MethodName)) ∈ lw_all := lw_g (lw_at lw_m2 122 rfl) rfl
theorem q546 : (Jvm.Cond.fieldLink "PondHouse$Row" (10 : Nat) "PondHouse$Row" "all" "Ljava/util/ArrayList;") ∈ lw_all := lw_g (lw_at lw_m2 146 rfl) rfl
theorem q547 : (Jvm.Cond.laysFinal "PondHouse$Row" "PondHouse$Row" "all" "Ljava/util/ArrayList;") ∈ lw_all := lw_g (lw_at lw_m2 147 rfl) rfl
theorem q548 : (Jvm.Cond.soleField "PondHouse$Row" "all") ∈ lw_all := lw_g (lw_at lw_m2 148 rfl) rfl
theorem q549 : (Jvm.Cond.superclass "PondHouse$Row" "java/lang/Object") ∈ lw_all := lw_g (lw_at lw_m2 149 rfl) rfl
theorem q625 : (Jvm.Cond.instanceMethod ({ cls := "PondHouse$Row", name := "add", desc := "(Ljava/lang/Object;)V" } : Jvm.MethodName)) ∈ lw_all := lw_g (lw_at lw_m2 225 rfl) rfl
theorem q626 : (Jvm.Cond.selects "PondHouse$Row" ({ cls := "PondHouse$Row", name := "add", desc := "(Ljava/lang/Object;)V" } : Jvm.MethodName) ({ cls := "PondHouse$Row", name := "add", desc := "(Ljava/lang/Object;)V" } : Jvm.MethodName)) ∈ lw_all := lw_g (lw_at lw_m2 226 rfl) rfl
theorem q627 : (Jvm.Cond.code ({ cls := "PondHouse$Row", name := "add", desc := "(Ljava/lang/Object;)V" } : Jvm.MethodName) prog_32_method_2_code (2 : Nat) (Option.none : Option Jvm.ClassFile.FieldType)) ∈ lw_all := lw_g (lw_at lw_m2 227 rfl) rfl
theorem q628 : (Jvm.Cond.methodLink "PondHouse$Row" (16 : Nat) ({ cls := "java/util/ArrayList", name := "add", desc := "(Ljava/lang/Object;)Z" } : Jvm.MethodName)) ∈ lw_all := lw_g (lw_at lw_m2 228 rfl) rfl
theorem q690 : (Jvm.Cond.selects "PondHouse$Row" ({ cls := "java/lang/Object", name := "getClass", desc := "()Ljava/lang/Class;" } : Jvm.MethodName) ({ cls := "java/lang/Object", name := "getClass", desc := "()Ljava/lang/Class;" } : Jvm.MethodName)) ∈ lw_all := lw_g (lw_at lw_m3 50 rfl) rfl
theorem q710 : (Jvm.Cond.instanceMethod ({ cls := "PondHouse$Row", name := "size", desc := "()I" } : Jvm.MethodName)) ∈ lw_all := lw_g (lw_at lw_m3 70 rfl) rfl
theorem q711 : (Jvm.Cond.selects "PondHouse$Row" ({ cls := "PondHouse$Row", name := "size", desc := "()I" } : Jvm.MethodName) ({ cls := "PondHouse$Row", name := "size", desc := "()I" } : Jvm.MethodName)) ∈ lw_all := lw_g (lw_at lw_m3 71 rfl) rfl
theorem q712 : (Jvm.Cond.code ({ cls := "PondHouse$Row", name := "size", desc := "()I" } : Jvm.MethodName) prog_32_method_3_code (1 : Nat) (Option.some Jvm.ClassFile.FieldType.int)) ∈ lw_all := lw_g (lw_at lw_m3 72 rfl) rfl
theorem q713 : (Jvm.Cond.methodLink "PondHouse$Row" (20 : Nat) ({ cls := "java/util/ArrayList", name := "size", desc := "()I" } : Jvm.MethodName)) ∈ lw_all := lw_g (lw_at lw_m3 73 rfl) rfl
theorem q718 : (Jvm.Cond.instanceMethod ({ cls := "PondHouse$Row", name := "get", desc := "(I)Ljava/lang/Object;" } : Jvm.MethodName)) ∈ lw_all := lw_g (lw_at lw_m3 78 rfl) rfl
theorem q719 : (Jvm.Cond.selects "PondHouse$Row" ({ cls := "PondHouse$Row", name := "get", desc := "(I)Ljava/lang/Object;" } : Jvm.MethodName) ({ cls := "PondHouse$Row", name := "get", desc := "(I)Ljava/lang/Object;" } : Jvm.MethodName)) ∈ lw_all := lw_g (lw_at lw_m3 79 rfl) rfl
theorem q720 : (Jvm.Cond.code ({ cls := "PondHouse$Row", name := "get", desc := "(I)Ljava/lang/Object;" } : Jvm.MethodName) prog_32_method_4_code (2 : Nat) (Option.some (Jvm.ClassFile.FieldType.object "java/lang/Object"))) ∈ lw_all := lw_g (lw_at lw_m3 80 rfl) rfl
theorem q721 : (Jvm.Cond.methodLink "PondHouse$Row" (24 : Nat) ({ cls := "java/util/ArrayList", name := "get", desc := "(I)Ljava/lang/Object;" } : Jvm.MethodName)) ∈ lw_all := lw_g (lw_at lw_m3 81 rfl) rfl
theorem q837 : (Jvm.Cond.instanceMethod ({ cls := "PondHouse$Row", name := "drop", desc := "(Ljava/lang/Object;)V" } : Jvm.MethodName)) ∈ lw_all := lw_g (lw_at lw_m3 197 rfl) rfl
theorem q838 : (Jvm.Cond.selects "PondHouse$Row" ({ cls := "PondHouse$Row", name := "drop", desc := "(Ljava/lang/Object;)V" } : Jvm.MethodName) ({ cls := "PondHouse$Row", name := "drop", desc := "(Ljava/lang/Object;)V" } : Jvm.MethodName)) ∈ lw_all := lw_g (lw_at lw_m3 198 rfl) rfl
theorem q839 : (Jvm.Cond.code ({ cls := "PondHouse$Row", name := "drop", desc := "(Ljava/lang/Object;)V" } : Jvm.MethodName) prog_32_method_5_code (3 : Nat) (Option.none : Option Jvm.ClassFile.FieldType)) ∈ lw_all := lw_g (lw_at lw_m3 199 rfl) rfl
theorem q840 : (Jvm.Cond.methodLink "PondHouse$Row" (28 : Nat) ({ cls := "java/util/ArrayList", name := "remove", desc := "(I)Ljava/lang/Object;" } : Jvm.MethodName)) ∈ lw_all := lw_g (lw_at lw_m3 200 rfl) rfl
theorem q3105 : (Jvm.Cond.castable "PondHouse$Row" "java/lang/Object") ∈ lw_tbl := lw_at lw_m13 65 rfl
theorem in_X7 : ∀ w ∈ wsX70, w ∈ lw_all := lw_in wsX70 [547] (by decide +kernel) (by decide +kernel)

/-! PondHouse$Draft -/
set_option maxRecDepth 100000
def RX8 : String := "PondHouse$Draft"
def TX8 : u_T := fun k => match k with
  | 0 => ("PondHouse$Draft", "name", "I", true)
  | 1 => ("PondHouse$Draft", "above", "I", false)
  | 2 => ("PondHouse$Draft", "isChanged", "Z", false)
  | 3 => ("PondHouse$Draft", "fields", "[I", true)
  | 4 => ("PondHouse$Draft", "firsts", "[I", true)
  | 5 => ("PondHouse$Draft", "from", "[I", true)
  | 6 => ("PondHouse$Draft", "statics", "[I", true)
  | 7 => ("PondHouse$Draft", "fixed", "[I", true)
  | 8 => ("PondHouse$Draft", "acts", "[I", true)
  | 9 => ("PondHouse$Draft", "blocks", "[LPondHouse$Block;", true)
  | 10 => ("PondHouse$Draft", "fieldMany", "I", false)
  | 11 => ("PondHouse$Draft", "staticMany", "I", false)
  | _ => ("PondHouse$Draft", "actMany", "I", false)
def tyX8 : Nat → FieldType := fun k => match k with
  | 0 => .int
  | 1 => .int
  | 2 => .boolean
  | 3 => .array .int
  | 4 => .array .int
  | 5 => .array .int
  | 6 => .array .int
  | 7 => .array .int
  | 8 => .array .int
  | 9 => .array (.object "PondHouse$Block")
  | 10 => .int
  | 11 => .int
  | _ => .int
abbrev wsX80 : List Cond := u_ws RX8 TX8 13
set_option maxRecDepth 100000 in
theorem nmX8 : ∀ a, a < 13 → ∀ b, b < 13 → a ≠ b → (TX8 a).2.1 ≠ (TX8 b).2.1 := by decide +kernel
set_option maxRecDepth 100000 in
theorem tyX8_ok : ∀ k, k < 13 → parseFieldDescriptor (TX8 k).2.2.1 = some (tyX8 k) := by decide +kernel
abbrev cX8_init : ByteArray := prog_11_method_2_code
def yX8_init : MethodName := ⟨RX8, "<init>", "(LPondHouse$Kind;)V"⟩
def dkwX8_init_7 : List UInt8 := [42, 180, 0, 32, 28, 43, 180, 0, 60, 28, 50, 180, 0, 78, 83, 132, 2, 1, 167, 255, 215, 177]
abbrev dktX8_init_7 : List UInt8 := dkwX8_init_7 ++ []
def dkwX8_init_6 : List UInt8 := [61, 28, 42, 180, 0, 64, 162, 0, 39, 42, 180, 0, 27, 28, 43, 180, 0, 60, 28, 50, 180, 0, 75, 79]
abbrev dktX8_init_6 : List UInt8 := dkwX8_init_6 ++ dktX8_init_7
def dkwX8_init_5 : List UInt8 := [180, 0, 57, 184, 0, 67, 43, 180, 0, 74, 3, 42, 180, 0, 24, 3, 42, 180, 0, 57, 184, 0, 67, 3]
abbrev dktX8_init_5 : List UInt8 := dkwX8_init_5 ++ dktX8_init_6
def dkwX8_init_4 : List UInt8 := [180, 0, 15, 3, 42, 180, 0, 53, 184, 0, 67, 43, 180, 0, 56, 3, 42, 180, 0, 21, 3, 42]
abbrev dktX8_init_4 : List UInt8 := dkwX8_init_4 ++ dktX8_init_5
def dkwX8_init_3 : List UInt8 := [43, 180, 0, 52, 3, 42, 180, 0, 18, 3, 42, 180, 0, 53, 184, 0, 67, 43, 180, 0, 73, 3, 42]
abbrev dktX8_init_3 : List UInt8 := dkwX8_init_3 ++ dktX8_init_4
def dkwX8_init_2 : List UInt8 := [180, 0, 60, 190, 181, 0, 64, 43, 180, 0, 52, 3, 42, 180, 0, 9, 3, 42, 180, 0, 53, 184, 0, 67]
abbrev dktX8_init_2 : List UInt8 := dkwX8_init_2 ++ dktX8_init_3
def dkwX8_init_1 : List UInt8 := [183, 0, 49, 42, 43, 180, 0, 52, 190, 181, 0, 53, 42, 43, 180, 0, 56, 190, 181, 0, 57, 42, 43]
abbrev dktX8_init_1 : List UInt8 := dkwX8_init_1 ++ dktX8_init_2
def dkwX8_init_0 : List UInt8 := [42, 43, 180, 0, 43, 43, 180, 0, 46, 199, 0, 7, 2, 167, 0, 10, 43, 180, 0, 46, 180, 0, 43]
abbrev dktX8_init_0 : List UInt8 := dkwX8_init_0 ++ dktX8_init_1
theorem dksX8_init_0 : cX8_init.data.toList.drop 0 = dktX8_init_0 := by decide +kernel
theorem dksX8_init_1 : cX8_init.data.toList.drop 23 = dktX8_init_1 := dk_seg dksX8_init_0 23 rfl rfl
theorem dksX8_init_2 : cX8_init.data.toList.drop 46 = dktX8_init_2 := dk_seg dksX8_init_1 23 rfl rfl
theorem dksX8_init_3 : cX8_init.data.toList.drop 70 = dktX8_init_3 := dk_seg dksX8_init_2 24 rfl rfl
theorem dksX8_init_4 : cX8_init.data.toList.drop 93 = dktX8_init_4 := dk_seg dksX8_init_3 23 rfl rfl
theorem dksX8_init_5 : cX8_init.data.toList.drop 115 = dktX8_init_5 := dk_seg dksX8_init_4 22 rfl rfl
theorem dksX8_init_6 : cX8_init.data.toList.drop 139 = dktX8_init_6 := dk_seg dksX8_init_5 24 rfl rfl
theorem dksX8_init_7 : cX8_init.data.toList.drop 163 = dktX8_init_7 := dk_seg dksX8_init_6 24 rfl rfl
theorem dX8_init_0 : decode cX8_init 0 = .ok (.aload_n 0, 1) := dk_42 (dk_at dksX8_init_0 0 rfl rfl)
theorem dX8_init_1 : decode cX8_init 1 = .ok (.aload_n 1, 1) := dk_43 (dk_at dksX8_init_0 1 rfl rfl)
theorem dX8_init_2 : decode cX8_init 2 = .ok (.getfield 43, 3) := dk_180 0 43 (dk_at dksX8_init_0 2 rfl rfl)
theorem dX8_init_5 : decode cX8_init 5 = .ok (.aload_n 1, 1) := dk_43 (dk_at dksX8_init_0 5 rfl rfl)
theorem dX8_init_6 : decode cX8_init 6 = .ok (.getfield 46, 3) := dk_180 0 46 (dk_at dksX8_init_0 6 rfl rfl)
theorem dX8_init_9 : decode cX8_init 9 = .ok (.ifnonnull 7, 3) := dk_199 0 7 (dk_at dksX8_init_0 9 rfl rfl)
theorem dX8_init_12 : decode cX8_init 12 = .ok (.iconst (-1), 1) := dk_2 (dk_at dksX8_init_0 12 rfl rfl)
theorem dX8_init_13 : decode cX8_init 13 = .ok (.goto 10, 3) := dk_167 0 10 (dk_at dksX8_init_0 13 rfl rfl)
theorem dX8_init_16 : decode cX8_init 16 = .ok (.aload_n 1, 1) := dk_43 (dk_at dksX8_init_0 16 rfl rfl)
theorem dX8_init_17 : decode cX8_init 17 = .ok (.getfield 46, 3) := dk_180 0 46 (dk_at dksX8_init_0 17 rfl rfl)
theorem dX8_init_20 : decode cX8_init 20 = .ok (.getfield 43, 3) := dk_180 0 43 (dk_at dksX8_init_0 20 rfl rfl)
theorem dX8_init_23 : decode cX8_init 23 = .ok (.invokespecial 49, 3) := dk_183 0 49 (dk_at dksX8_init_1 0 rfl rfl)
theorem dX8_init_26 : decode cX8_init 26 = .ok (.aload_n 0, 1) := dk_42 (dk_at dksX8_init_1 3 rfl rfl)
theorem dX8_init_27 : decode cX8_init 27 = .ok (.aload_n 1, 1) := dk_43 (dk_at dksX8_init_1 4 rfl rfl)
theorem dX8_init_28 : decode cX8_init 28 = .ok (.getfield 52, 3) := dk_180 0 52 (dk_at dksX8_init_1 5 rfl rfl)
theorem dX8_init_31 : decode cX8_init 31 = .ok (.arraylength, 1) := dk_190 (dk_at dksX8_init_1 8 rfl rfl)
theorem dX8_init_32 : decode cX8_init 32 = .ok (.putfield 53, 3) := dk_181 0 53 (dk_at dksX8_init_1 9 rfl rfl)
theorem dX8_init_35 : decode cX8_init 35 = .ok (.aload_n 0, 1) := dk_42 (dk_at dksX8_init_1 12 rfl rfl)
theorem dX8_init_36 : decode cX8_init 36 = .ok (.aload_n 1, 1) := dk_43 (dk_at dksX8_init_1 13 rfl rfl)
theorem dX8_init_37 : decode cX8_init 37 = .ok (.getfield 56, 3) := dk_180 0 56 (dk_at dksX8_init_1 14 rfl rfl)
theorem dX8_init_40 : decode cX8_init 40 = .ok (.arraylength, 1) := dk_190 (dk_at dksX8_init_1 17 rfl rfl)
theorem dX8_init_41 : decode cX8_init 41 = .ok (.putfield 57, 3) := dk_181 0 57 (dk_at dksX8_init_1 18 rfl rfl)
theorem dX8_init_44 : decode cX8_init 44 = .ok (.aload_n 0, 1) := dk_42 (dk_at dksX8_init_1 21 rfl rfl)
theorem dX8_init_45 : decode cX8_init 45 = .ok (.aload_n 1, 1) := dk_43 (dk_at dksX8_init_1 22 rfl rfl)
theorem dX8_init_46 : decode cX8_init 46 = .ok (.getfield 60, 3) := dk_180 0 60 (dk_at dksX8_init_2 0 rfl rfl)
theorem dX8_init_49 : decode cX8_init 49 = .ok (.arraylength, 1) := dk_190 (dk_at dksX8_init_2 3 rfl rfl)
theorem dX8_init_50 : decode cX8_init 50 = .ok (.putfield 64, 3) := dk_181 0 64 (dk_at dksX8_init_2 4 rfl rfl)
theorem dX8_init_53 : decode cX8_init 53 = .ok (.aload_n 1, 1) := dk_43 (dk_at dksX8_init_2 7 rfl rfl)
theorem dX8_init_54 : decode cX8_init 54 = .ok (.getfield 52, 3) := dk_180 0 52 (dk_at dksX8_init_2 8 rfl rfl)
theorem dX8_init_57 : decode cX8_init 57 = .ok (.iconst 0, 1) := dk_3 (dk_at dksX8_init_2 11 rfl rfl)
theorem dX8_init_58 : decode cX8_init 58 = .ok (.aload_n 0, 1) := dk_42 (dk_at dksX8_init_2 12 rfl rfl)
theorem dX8_init_59 : decode cX8_init 59 = .ok (.getfield 9, 3) := dk_180 0 9 (dk_at dksX8_init_2 13 rfl rfl)
theorem dX8_init_62 : decode cX8_init 62 = .ok (.iconst 0, 1) := dk_3 (dk_at dksX8_init_2 16 rfl rfl)
theorem dX8_init_63 : decode cX8_init 63 = .ok (.aload_n 0, 1) := dk_42 (dk_at dksX8_init_2 17 rfl rfl)
theorem dX8_init_64 : decode cX8_init 64 = .ok (.getfield 53, 3) := dk_180 0 53 (dk_at dksX8_init_2 18 rfl rfl)
theorem dX8_init_67 : decode cX8_init 67 = .ok (.invokestatic 67, 3) := dk_184 0 67 (dk_at dksX8_init_2 21 rfl rfl)
theorem dX8_init_70 : decode cX8_init 70 = .ok (.aload_n 1, 1) := dk_43 (dk_at dksX8_init_3 0 rfl rfl)
theorem dX8_init_71 : decode cX8_init 71 = .ok (.getfield 52, 3) := dk_180 0 52 (dk_at dksX8_init_3 1 rfl rfl)
theorem dX8_init_74 : decode cX8_init 74 = .ok (.iconst 0, 1) := dk_3 (dk_at dksX8_init_3 4 rfl rfl)
theorem dX8_init_75 : decode cX8_init 75 = .ok (.aload_n 0, 1) := dk_42 (dk_at dksX8_init_3 5 rfl rfl)
theorem dX8_init_76 : decode cX8_init 76 = .ok (.getfield 18, 3) := dk_180 0 18 (dk_at dksX8_init_3 6 rfl rfl)
theorem dX8_init_79 : decode cX8_init 79 = .ok (.iconst 0, 1) := dk_3 (dk_at dksX8_init_3 9 rfl rfl)
theorem dX8_init_80 : decode cX8_init 80 = .ok (.aload_n 0, 1) := dk_42 (dk_at dksX8_init_3 10 rfl rfl)
theorem dX8_init_81 : decode cX8_init 81 = .ok (.getfield 53, 3) := dk_180 0 53 (dk_at dksX8_init_3 11 rfl rfl)
theorem dX8_init_84 : decode cX8_init 84 = .ok (.invokestatic 67, 3) := dk_184 0 67 (dk_at dksX8_init_3 14 rfl rfl)
theorem dX8_init_87 : decode cX8_init 87 = .ok (.aload_n 1, 1) := dk_43 (dk_at dksX8_init_3 17 rfl rfl)
theorem dX8_init_88 : decode cX8_init 88 = .ok (.getfield 73, 3) := dk_180 0 73 (dk_at dksX8_init_3 18 rfl rfl)
theorem dX8_init_91 : decode cX8_init 91 = .ok (.iconst 0, 1) := dk_3 (dk_at dksX8_init_3 21 rfl rfl)
theorem dX8_init_92 : decode cX8_init 92 = .ok (.aload_n 0, 1) := dk_42 (dk_at dksX8_init_3 22 rfl rfl)
theorem dX8_init_93 : decode cX8_init 93 = .ok (.getfield 15, 3) := dk_180 0 15 (dk_at dksX8_init_4 0 rfl rfl)
theorem dX8_init_96 : decode cX8_init 96 = .ok (.iconst 0, 1) := dk_3 (dk_at dksX8_init_4 3 rfl rfl)
theorem dX8_init_97 : decode cX8_init 97 = .ok (.aload_n 0, 1) := dk_42 (dk_at dksX8_init_4 4 rfl rfl)
theorem dX8_init_98 : decode cX8_init 98 = .ok (.getfield 53, 3) := dk_180 0 53 (dk_at dksX8_init_4 5 rfl rfl)
theorem dX8_init_101 : decode cX8_init 101 = .ok (.invokestatic 67, 3) := dk_184 0 67 (dk_at dksX8_init_4 8 rfl rfl)
theorem dX8_init_104 : decode cX8_init 104 = .ok (.aload_n 1, 1) := dk_43 (dk_at dksX8_init_4 11 rfl rfl)
theorem dX8_init_105 : decode cX8_init 105 = .ok (.getfield 56, 3) := dk_180 0 56 (dk_at dksX8_init_4 12 rfl rfl)
theorem dX8_init_108 : decode cX8_init 108 = .ok (.iconst 0, 1) := dk_3 (dk_at dksX8_init_4 15 rfl rfl)
theorem dX8_init_109 : decode cX8_init 109 = .ok (.aload_n 0, 1) := dk_42 (dk_at dksX8_init_4 16 rfl rfl)
theorem dX8_init_110 : decode cX8_init 110 = .ok (.getfield 21, 3) := dk_180 0 21 (dk_at dksX8_init_4 17 rfl rfl)
theorem dX8_init_113 : decode cX8_init 113 = .ok (.iconst 0, 1) := dk_3 (dk_at dksX8_init_4 20 rfl rfl)
theorem dX8_init_114 : decode cX8_init 114 = .ok (.aload_n 0, 1) := dk_42 (dk_at dksX8_init_4 21 rfl rfl)
theorem dX8_init_115 : decode cX8_init 115 = .ok (.getfield 57, 3) := dk_180 0 57 (dk_at dksX8_init_5 0 rfl rfl)
theorem dX8_init_118 : decode cX8_init 118 = .ok (.invokestatic 67, 3) := dk_184 0 67 (dk_at dksX8_init_5 3 rfl rfl)
theorem dX8_init_121 : decode cX8_init 121 = .ok (.aload_n 1, 1) := dk_43 (dk_at dksX8_init_5 6 rfl rfl)
theorem dX8_init_122 : decode cX8_init 122 = .ok (.getfield 74, 3) := dk_180 0 74 (dk_at dksX8_init_5 7 rfl rfl)
theorem dX8_init_125 : decode cX8_init 125 = .ok (.iconst 0, 1) := dk_3 (dk_at dksX8_init_5 10 rfl rfl)
theorem dX8_init_126 : decode cX8_init 126 = .ok (.aload_n 0, 1) := dk_42 (dk_at dksX8_init_5 11 rfl rfl)
theorem dX8_init_127 : decode cX8_init 127 = .ok (.getfield 24, 3) := dk_180 0 24 (dk_at dksX8_init_5 12 rfl rfl)
theorem dX8_init_130 : decode cX8_init 130 = .ok (.iconst 0, 1) := dk_3 (dk_at dksX8_init_5 15 rfl rfl)
theorem dX8_init_131 : decode cX8_init 131 = .ok (.aload_n 0, 1) := dk_42 (dk_at dksX8_init_5 16 rfl rfl)
theorem dX8_init_132 : decode cX8_init 132 = .ok (.getfield 57, 3) := dk_180 0 57 (dk_at dksX8_init_5 17 rfl rfl)
theorem dX8_init_135 : decode cX8_init 135 = .ok (.invokestatic 67, 3) := dk_184 0 67 (dk_at dksX8_init_5 20 rfl rfl)
theorem dX8_init_138 : decode cX8_init 138 = .ok (.iconst 0, 1) := dk_3 (dk_at dksX8_init_5 23 rfl rfl)
theorem dX8_init_139 : decode cX8_init 139 = .ok (.istore_n 2, 1) := dk_61 (dk_at dksX8_init_6 0 rfl rfl)
theorem dX8_init_140 : decode cX8_init 140 = .ok (.iload_n 2, 1) := dk_28 (dk_at dksX8_init_6 1 rfl rfl)
theorem dX8_init_141 : decode cX8_init 141 = .ok (.aload_n 0, 1) := dk_42 (dk_at dksX8_init_6 2 rfl rfl)
theorem dX8_init_142 : decode cX8_init 142 = .ok (.getfield 64, 3) := dk_180 0 64 (dk_at dksX8_init_6 3 rfl rfl)
theorem dX8_init_145 : decode cX8_init 145 = .ok (.if_icmp .ge 39, 3) := dk_162 0 39 (dk_at dksX8_init_6 6 rfl rfl)
theorem dX8_init_148 : decode cX8_init 148 = .ok (.aload_n 0, 1) := dk_42 (dk_at dksX8_init_6 9 rfl rfl)
theorem dX8_init_149 : decode cX8_init 149 = .ok (.getfield 27, 3) := dk_180 0 27 (dk_at dksX8_init_6 10 rfl rfl)
theorem dX8_init_152 : decode cX8_init 152 = .ok (.iload_n 2, 1) := dk_28 (dk_at dksX8_init_6 13 rfl rfl)
theorem dX8_init_153 : decode cX8_init 153 = .ok (.aload_n 1, 1) := dk_43 (dk_at dksX8_init_6 14 rfl rfl)
theorem dX8_init_154 : decode cX8_init 154 = .ok (.getfield 60, 3) := dk_180 0 60 (dk_at dksX8_init_6 15 rfl rfl)
theorem dX8_init_157 : decode cX8_init 157 = .ok (.iload_n 2, 1) := dk_28 (dk_at dksX8_init_6 18 rfl rfl)
theorem dX8_init_158 : decode cX8_init 158 = .ok (.aaload, 1) := dk_50 (dk_at dksX8_init_6 19 rfl rfl)
theorem dX8_init_159 : decode cX8_init 159 = .ok (.getfield 75, 3) := dk_180 0 75 (dk_at dksX8_init_6 20 rfl rfl)
theorem dX8_init_162 : decode cX8_init 162 = .ok (.iastore, 1) := dk_79 (dk_at dksX8_init_6 23 rfl rfl)
theorem dX8_init_163 : decode cX8_init 163 = .ok (.aload_n 0, 1) := dk_42 (dk_at dksX8_init_7 0 rfl rfl)
theorem dX8_init_164 : decode cX8_init 164 = .ok (.getfield 32, 3) := dk_180 0 32 (dk_at dksX8_init_7 1 rfl rfl)
theorem dX8_init_167 : decode cX8_init 167 = .ok (.iload_n 2, 1) := dk_28 (dk_at dksX8_init_7 4 rfl rfl)
theorem dX8_init_168 : decode cX8_init 168 = .ok (.aload_n 1, 1) := dk_43 (dk_at dksX8_init_7 5 rfl rfl)
theorem dX8_init_169 : decode cX8_init 169 = .ok (.getfield 60, 3) := dk_180 0 60 (dk_at dksX8_init_7 6 rfl rfl)
theorem dX8_init_172 : decode cX8_init 172 = .ok (.iload_n 2, 1) := dk_28 (dk_at dksX8_init_7 9 rfl rfl)
theorem dX8_init_173 : decode cX8_init 173 = .ok (.aaload, 1) := dk_50 (dk_at dksX8_init_7 10 rfl rfl)
theorem dX8_init_174 : decode cX8_init 174 = .ok (.getfield 78, 3) := dk_180 0 78 (dk_at dksX8_init_7 11 rfl rfl)
theorem dX8_init_177 : decode cX8_init 177 = .ok (.aastore, 1) := dk_83 (dk_at dksX8_init_7 14 rfl rfl)
theorem dX8_init_178 : decode cX8_init 178 = .ok (.iinc 2 1, 3) := dk_132 2 1 (dk_at dksX8_init_7 15 rfl rfl)
theorem dX8_init_181 : decode cX8_init 181 = .ok (.goto (-41), 3) := dk_167 255 215 (dk_at dksX8_init_7 18 rfl rfl)
theorem dX8_init_184 : decode cX8_init 184 = .ok (.return_, 1) := dk_177 (dk_at dksX8_init_7 21 rfl rfl)
abbrev cX8_init_2 : ByteArray := prog_11_method_1_code
def yX8_init_2 : MethodName := ⟨RX8, "<init>", "(II)V"⟩
def dkwX8_init_2_2 : List UInt8 := [181, 0, 27, 42, 16, 8, 189, 0, 30, 181, 0, 32, 42, 27, 181, 0, 36, 42, 28, 181, 0, 40, 177]
abbrev dktX8_init_2_2 : List UInt8 := dkwX8_init_2_2 ++ []
def dkwX8_init_2_1 : List UInt8 := [188, 10, 181, 0, 18, 42, 7, 188, 10, 181, 0, 21, 42, 7, 188, 10, 181, 0, 24, 42, 16, 8, 188, 10]
abbrev dktX8_init_2_1 : List UInt8 := dkwX8_init_2_1 ++ dktX8_init_2_2
def dkwX8_init_2_0 : List UInt8 := [42, 183, 0, 3, 42, 16, 8, 188, 10, 181, 0, 9, 42, 16, 8, 188, 10, 181, 0, 15, 42, 16, 8]
abbrev dktX8_init_2_0 : List UInt8 := dkwX8_init_2_0 ++ dktX8_init_2_1
theorem dksX8_init_2_0 : cX8_init_2.data.toList.drop 0 = dktX8_init_2_0 := by decide +kernel
theorem dksX8_init_2_1 : cX8_init_2.data.toList.drop 23 = dktX8_init_2_1 := dk_seg dksX8_init_2_0 23 rfl rfl
theorem dksX8_init_2_2 : cX8_init_2.data.toList.drop 47 = dktX8_init_2_2 := dk_seg dksX8_init_2_1 24 rfl rfl
theorem dX8_init_2_0 : decode cX8_init_2 0 = .ok (.aload_n 0, 1) := dk_42 (dk_at dksX8_init_2_0 0 rfl rfl)
theorem dX8_init_2_1 : decode cX8_init_2 1 = .ok (.invokespecial 3, 3) := dk_183 0 3 (dk_at dksX8_init_2_0 1 rfl rfl)
theorem dX8_init_2_4 : decode cX8_init_2 4 = .ok (.aload_n 0, 1) := dk_42 (dk_at dksX8_init_2_0 4 rfl rfl)
theorem dX8_init_2_5 : decode cX8_init_2 5 = .ok (.bipush 8, 2) := dk_16 8 (dk_at dksX8_init_2_0 5 rfl rfl)
theorem dX8_init_2_7 : decode cX8_init_2 7 = .ok (.newarray .int, 2) := dk_188_10 (dk_at dksX8_init_2_0 7 rfl rfl)
theorem dX8_init_2_9 : decode cX8_init_2 9 = .ok (.putfield 9, 3) := dk_181 0 9 (dk_at dksX8_init_2_0 9 rfl rfl)
theorem dX8_init_2_12 : decode cX8_init_2 12 = .ok (.aload_n 0, 1) := dk_42 (dk_at dksX8_init_2_0 12 rfl rfl)
theorem dX8_init_2_13 : decode cX8_init_2 13 = .ok (.bipush 8, 2) := dk_16 8 (dk_at dksX8_init_2_0 13 rfl rfl)
theorem dX8_init_2_15 : decode cX8_init_2 15 = .ok (.newarray .int, 2) := dk_188_10 (dk_at dksX8_init_2_0 15 rfl rfl)
theorem dX8_init_2_17 : decode cX8_init_2 17 = .ok (.putfield 15, 3) := dk_181 0 15 (dk_at dksX8_init_2_0 17 rfl rfl)
theorem dX8_init_2_20 : decode cX8_init_2 20 = .ok (.aload_n 0, 1) := dk_42 (dk_at dksX8_init_2_0 20 rfl rfl)
theorem dX8_init_2_21 : decode cX8_init_2 21 = .ok (.bipush 8, 2) := dk_16 8 (dk_at dksX8_init_2_0 21 rfl rfl)
theorem dX8_init_2_23 : decode cX8_init_2 23 = .ok (.newarray .int, 2) := dk_188_10 (dk_at dksX8_init_2_1 0 rfl rfl)
theorem dX8_init_2_25 : decode cX8_init_2 25 = .ok (.putfield 18, 3) := dk_181 0 18 (dk_at dksX8_init_2_1 2 rfl rfl)
theorem dX8_init_2_28 : decode cX8_init_2 28 = .ok (.aload_n 0, 1) := dk_42 (dk_at dksX8_init_2_1 5 rfl rfl)
theorem dX8_init_2_29 : decode cX8_init_2 29 = .ok (.iconst 4, 1) := dk_7 (dk_at dksX8_init_2_1 6 rfl rfl)
theorem dX8_init_2_30 : decode cX8_init_2 30 = .ok (.newarray .int, 2) := dk_188_10 (dk_at dksX8_init_2_1 7 rfl rfl)
theorem dX8_init_2_32 : decode cX8_init_2 32 = .ok (.putfield 21, 3) := dk_181 0 21 (dk_at dksX8_init_2_1 9 rfl rfl)
theorem dX8_init_2_35 : decode cX8_init_2 35 = .ok (.aload_n 0, 1) := dk_42 (dk_at dksX8_init_2_1 12 rfl rfl)
theorem dX8_init_2_36 : decode cX8_init_2 36 = .ok (.iconst 4, 1) := dk_7 (dk_at dksX8_init_2_1 13 rfl rfl)
theorem dX8_init_2_37 : decode cX8_init_2 37 = .ok (.newarray .int, 2) := dk_188_10 (dk_at dksX8_init_2_1 14 rfl rfl)
theorem dX8_init_2_39 : decode cX8_init_2 39 = .ok (.putfield 24, 3) := dk_181 0 24 (dk_at dksX8_init_2_1 16 rfl rfl)
theorem dX8_init_2_42 : decode cX8_init_2 42 = .ok (.aload_n 0, 1) := dk_42 (dk_at dksX8_init_2_1 19 rfl rfl)
theorem dX8_init_2_43 : decode cX8_init_2 43 = .ok (.bipush 8, 2) := dk_16 8 (dk_at dksX8_init_2_1 20 rfl rfl)
theorem dX8_init_2_45 : decode cX8_init_2 45 = .ok (.newarray .int, 2) := dk_188_10 (dk_at dksX8_init_2_1 22 rfl rfl)
theorem dX8_init_2_47 : decode cX8_init_2 47 = .ok (.putfield 27, 3) := dk_181 0 27 (dk_at dksX8_init_2_2 0 rfl rfl)
theorem dX8_init_2_50 : decode cX8_init_2 50 = .ok (.aload_n 0, 1) := dk_42 (dk_at dksX8_init_2_2 3 rfl rfl)
theorem dX8_init_2_51 : decode cX8_init_2 51 = .ok (.bipush 8, 2) := dk_16 8 (dk_at dksX8_init_2_2 4 rfl rfl)
theorem dX8_init_2_53 : decode cX8_init_2 53 = .ok (.anewarray 30, 3) := dk_189 0 30 (dk_at dksX8_init_2_2 6 rfl rfl)
theorem dX8_init_2_56 : decode cX8_init_2 56 = .ok (.putfield 32, 3) := dk_181 0 32 (dk_at dksX8_init_2_2 9 rfl rfl)
theorem dX8_init_2_59 : decode cX8_init_2 59 = .ok (.aload_n 0, 1) := dk_42 (dk_at dksX8_init_2_2 12 rfl rfl)
theorem dX8_init_2_60 : decode cX8_init_2 60 = .ok (.iload_n 1, 1) := dk_27 (dk_at dksX8_init_2_2 13 rfl rfl)
theorem dX8_init_2_61 : decode cX8_init_2 61 = .ok (.putfield 36, 3) := dk_181 0 36 (dk_at dksX8_init_2_2 14 rfl rfl)
theorem dX8_init_2_64 : decode cX8_init_2 64 = .ok (.aload_n 0, 1) := dk_42 (dk_at dksX8_init_2_2 17 rfl rfl)
theorem dX8_init_2_65 : decode cX8_init_2 65 = .ok (.iload_n 2, 1) := dk_28 (dk_at dksX8_init_2_2 18 rfl rfl)
theorem dX8_init_2_66 : decode cX8_init_2 66 = .ok (.putfield 40, 3) := dk_181 0 40 (dk_at dksX8_init_2_2 19 rfl rfl)
theorem dX8_init_2_69 : decode cX8_init_2 69 = .ok (.return_, 1) := dk_177 (dk_at dksX8_init_2_2 22 rfl rfl)
abbrev cX8_act : ByteArray := prog_11_method_5_code
def yX8_act : MethodName := ⟨RX8, "act", "(I)I"⟩
def dkwX8_act_0 : List UInt8 := [42, 180, 0, 27, 42, 180, 0, 64, 27, 184, 0, 82, 172]
abbrev dktX8_act_0 : List UInt8 := dkwX8_act_0 ++ []
theorem dksX8_act_0 : cX8_act.data.toList.drop 0 = dktX8_act_0 := by decide +kernel
theorem dX8_act_0 : decode cX8_act 0 = .ok (.aload_n 0, 1) := dk_42 (dk_at dksX8_act_0 0 rfl rfl)
theorem dX8_act_1 : decode cX8_act 1 = .ok (.getfield 27, 3) := dk_180 0 27 (dk_at dksX8_act_0 1 rfl rfl)
theorem dX8_act_4 : decode cX8_act 4 = .ok (.aload_n 0, 1) := dk_42 (dk_at dksX8_act_0 4 rfl rfl)
theorem dX8_act_5 : decode cX8_act 5 = .ok (.getfield 64, 3) := dk_180 0 64 (dk_at dksX8_act_0 5 rfl rfl)
theorem dX8_act_8 : decode cX8_act 8 = .ok (.iload_n 1, 1) := dk_27 (dk_at dksX8_act_0 8 rfl rfl)
theorem dX8_act_9 : decode cX8_act 9 = .ok (.invokestatic 82, 3) := dk_184 0 82 (dk_at dksX8_act_0 9 rfl rfl)
theorem dX8_act_12 : decode cX8_act 12 = .ok (.ireturn, 1) := dk_172 (dk_at dksX8_act_0 12 rfl rfl)
abbrev cX8_find : ByteArray := prog_11_method_3_code
def yX8_find : MethodName := ⟨RX8, "find", "([III)I"⟩
def dkwX8_find_0 : List UInt8 := [3, 62, 29, 27, 162, 0, 18, 42, 29, 46, 28, 160, 0, 5, 29, 172, 132, 3, 1, 167, 255, 239, 2, 172]
abbrev dktX8_find_0 : List UInt8 := dkwX8_find_0 ++ []
theorem dksX8_find_0 : cX8_find.data.toList.drop 0 = dktX8_find_0 := by decide +kernel
theorem dX8_find_0 : decode cX8_find 0 = .ok (.iconst 0, 1) := dk_3 (dk_at dksX8_find_0 0 rfl rfl)
theorem dX8_find_1 : decode cX8_find 1 = .ok (.istore_n 3, 1) := dk_62 (dk_at dksX8_find_0 1 rfl rfl)
theorem dX8_find_2 : decode cX8_find 2 = .ok (.iload_n 3, 1) := dk_29 (dk_at dksX8_find_0 2 rfl rfl)
theorem dX8_find_3 : decode cX8_find 3 = .ok (.iload_n 1, 1) := dk_27 (dk_at dksX8_find_0 3 rfl rfl)
theorem dX8_find_4 : decode cX8_find 4 = .ok (.if_icmp .ge 18, 3) := dk_162 0 18 (dk_at dksX8_find_0 4 rfl rfl)
theorem dX8_find_7 : decode cX8_find 7 = .ok (.aload_n 0, 1) := dk_42 (dk_at dksX8_find_0 7 rfl rfl)
theorem dX8_find_8 : decode cX8_find 8 = .ok (.iload_n 3, 1) := dk_29 (dk_at dksX8_find_0 8 rfl rfl)
theorem dX8_find_9 : decode cX8_find 9 = .ok (.iaload, 1) := dk_46 (dk_at dksX8_find_0 9 rfl rfl)
theorem dX8_find_10 : decode cX8_find 10 = .ok (.iload_n 2, 1) := dk_28 (dk_at dksX8_find_0 10 rfl rfl)
theorem dX8_find_11 : decode cX8_find 11 = .ok (.if_icmp .ne 5, 3) := dk_160 0 5 (dk_at dksX8_find_0 11 rfl rfl)
theorem dX8_find_14 : decode cX8_find 14 = .ok (.iload_n 3, 1) := dk_29 (dk_at dksX8_find_0 14 rfl rfl)
theorem dX8_find_15 : decode cX8_find 15 = .ok (.ireturn, 1) := dk_172 (dk_at dksX8_find_0 15 rfl rfl)
theorem dX8_find_16 : decode cX8_find 16 = .ok (.iinc 3 1, 3) := dk_132 3 1 (dk_at dksX8_find_0 16 rfl rfl)
theorem dX8_find_19 : decode cX8_find 19 = .ok (.goto (-17), 3) := dk_167 255 239 (dk_at dksX8_find_0 19 rfl rfl)
theorem dX8_find_22 : decode cX8_find 22 = .ok (.iconst (-1), 1) := dk_2 (dk_at dksX8_find_0 22 rfl rfl)
theorem dX8_find_23 : decode cX8_find 23 = .ok (.ireturn, 1) := dk_172 (dk_at dksX8_find_0 23 rfl rfl)
abbrev cX8_holds : ByteArray := prog_11_method_6_code
def yX8_holds : MethodName := ⟨RX8, "holds", "(I)Z"⟩
def dkwX8_holds_1 : List UInt8 := [159, 0, 7, 4, 167, 0, 4, 3, 172]
abbrev dktX8_holds_1 : List UInt8 := dkwX8_holds_1 ++ []
def dkwX8_holds_0 : List UInt8 := [42, 27, 182, 0, 86, 2, 160, 0, 19, 42, 180, 0, 21, 42, 180, 0, 57, 27, 184, 0, 82, 2]
abbrev dktX8_holds_0 : List UInt8 := dkwX8_holds_0 ++ dktX8_holds_1
theorem dksX8_holds_0 : cX8_holds.data.toList.drop 0 = dktX8_holds_0 := by decide +kernel
theorem dksX8_holds_1 : cX8_holds.data.toList.drop 22 = dktX8_holds_1 := dk_seg dksX8_holds_0 22 rfl rfl
theorem dX8_holds_0 : decode cX8_holds 0 = .ok (.aload_n 0, 1) := dk_42 (dk_at dksX8_holds_0 0 rfl rfl)
theorem dX8_holds_1 : decode cX8_holds 1 = .ok (.iload_n 1, 1) := dk_27 (dk_at dksX8_holds_0 1 rfl rfl)
theorem dX8_holds_2 : decode cX8_holds 2 = .ok (.invokevirtual 86, 3) := dk_182 0 86 (dk_at dksX8_holds_0 2 rfl rfl)
theorem dX8_holds_5 : decode cX8_holds 5 = .ok (.iconst (-1), 1) := dk_2 (dk_at dksX8_holds_0 5 rfl rfl)
theorem dX8_holds_6 : decode cX8_holds 6 = .ok (.if_icmp .ne 19, 3) := dk_160 0 19 (dk_at dksX8_holds_0 6 rfl rfl)
theorem dX8_holds_9 : decode cX8_holds 9 = .ok (.aload_n 0, 1) := dk_42 (dk_at dksX8_holds_0 9 rfl rfl)
theorem dX8_holds_10 : decode cX8_holds 10 = .ok (.getfield 21, 3) := dk_180 0 21 (dk_at dksX8_holds_0 10 rfl rfl)
theorem dX8_holds_13 : decode cX8_holds 13 = .ok (.aload_n 0, 1) := dk_42 (dk_at dksX8_holds_0 13 rfl rfl)
theorem dX8_holds_14 : decode cX8_holds 14 = .ok (.getfield 57, 3) := dk_180 0 57 (dk_at dksX8_holds_0 14 rfl rfl)
theorem dX8_holds_17 : decode cX8_holds 17 = .ok (.iload_n 1, 1) := dk_27 (dk_at dksX8_holds_0 17 rfl rfl)
theorem dX8_holds_18 : decode cX8_holds 18 = .ok (.invokestatic 82, 3) := dk_184 0 82 (dk_at dksX8_holds_0 18 rfl rfl)
theorem dX8_holds_21 : decode cX8_holds 21 = .ok (.iconst (-1), 1) := dk_2 (dk_at dksX8_holds_0 21 rfl rfl)
theorem dX8_holds_22 : decode cX8_holds 22 = .ok (.if_icmp .eq 7, 3) := dk_159 0 7 (dk_at dksX8_holds_1 0 rfl rfl)
theorem dX8_holds_25 : decode cX8_holds 25 = .ok (.iconst 1, 1) := dk_4 (dk_at dksX8_holds_1 3 rfl rfl)
theorem dX8_holds_26 : decode cX8_holds 26 = .ok (.goto 4, 3) := dk_167 0 4 (dk_at dksX8_holds_1 4 rfl rfl)
theorem dX8_holds_29 : decode cX8_holds 29 = .ok (.iconst 0, 1) := dk_3 (dk_at dksX8_holds_1 7 rfl rfl)
theorem dX8_holds_30 : decode cX8_holds 30 = .ok (.ireturn, 1) := dk_172 (dk_at dksX8_holds_1 8 rfl rfl)
abbrev cX8_field : ByteArray := prog_11_method_4_code
def yX8_field : MethodName := ⟨RX8, "field", "(I)I"⟩
def dkwX8_field_0 : List UInt8 := [42, 180, 0, 9, 42, 180, 0, 53, 27, 184, 0, 82, 172]
abbrev dktX8_field_0 : List UInt8 := dkwX8_field_0 ++ []
theorem dksX8_field_0 : cX8_field.data.toList.drop 0 = dktX8_field_0 := by decide +kernel
theorem dX8_field_0 : decode cX8_field 0 = .ok (.aload_n 0, 1) := dk_42 (dk_at dksX8_field_0 0 rfl rfl)
theorem dX8_field_1 : decode cX8_field 1 = .ok (.getfield 9, 3) := dk_180 0 9 (dk_at dksX8_field_0 1 rfl rfl)
theorem dX8_field_4 : decode cX8_field 4 = .ok (.aload_n 0, 1) := dk_42 (dk_at dksX8_field_0 4 rfl rfl)
theorem dX8_field_5 : decode cX8_field 5 = .ok (.getfield 53, 3) := dk_180 0 53 (dk_at dksX8_field_0 5 rfl rfl)
theorem dX8_field_8 : decode cX8_field 8 = .ok (.iload_n 1, 1) := dk_27 (dk_at dksX8_field_0 8 rfl rfl)
theorem dX8_field_9 : decode cX8_field 9 = .ok (.invokestatic 82, 3) := dk_184 0 82 (dk_at dksX8_field_0 9 rfl rfl)
theorem dX8_field_12 : decode cX8_field 12 = .ok (.ireturn, 1) := dk_172 (dk_at dksX8_field_0 12 rfl rfl)
abbrev cX8_isFull : ByteArray := prog_11_method_7_code
def yX8_isFull : MethodName := ⟨RX8, "isFull", "(I)Z"⟩
def dkwX8_isFull_2 : List UInt8 := [16, 8, 160, 0, 7, 4, 167, 0, 4, 3, 172]
abbrev dktX8_isFull_2 : List UInt8 := dkwX8_isFull_2 ++ []
def dkwX8_isFull_1 : List UInt8 := [160, 0, 19, 42, 180, 0, 57, 7, 160, 0, 7, 4, 167, 0, 21, 3, 167, 0, 17, 42, 180, 0, 53]
abbrev dktX8_isFull_1 : List UInt8 := dkwX8_isFull_1 ++ dktX8_isFull_2
def dkwX8_isFull_0 : List UInt8 := [27, 5, 160, 0, 20, 42, 180, 0, 64, 16, 8, 160, 0, 7, 4, 167, 0, 42, 3, 167, 0, 38, 27, 4]
abbrev dktX8_isFull_0 : List UInt8 := dkwX8_isFull_0 ++ dktX8_isFull_1
theorem dksX8_isFull_0 : cX8_isFull.data.toList.drop 0 = dktX8_isFull_0 := by decide +kernel
theorem dksX8_isFull_1 : cX8_isFull.data.toList.drop 24 = dktX8_isFull_1 := dk_seg dksX8_isFull_0 24 rfl rfl
theorem dksX8_isFull_2 : cX8_isFull.data.toList.drop 47 = dktX8_isFull_2 := dk_seg dksX8_isFull_1 23 rfl rfl
theorem dX8_isFull_0 : decode cX8_isFull 0 = .ok (.iload_n 1, 1) := dk_27 (dk_at dksX8_isFull_0 0 rfl rfl)
theorem dX8_isFull_1 : decode cX8_isFull 1 = .ok (.iconst 2, 1) := dk_5 (dk_at dksX8_isFull_0 1 rfl rfl)
theorem dX8_isFull_2 : decode cX8_isFull 2 = .ok (.if_icmp .ne 20, 3) := dk_160 0 20 (dk_at dksX8_isFull_0 2 rfl rfl)
theorem dX8_isFull_5 : decode cX8_isFull 5 = .ok (.aload_n 0, 1) := dk_42 (dk_at dksX8_isFull_0 5 rfl rfl)
theorem dX8_isFull_6 : decode cX8_isFull 6 = .ok (.getfield 64, 3) := dk_180 0 64 (dk_at dksX8_isFull_0 6 rfl rfl)
theorem dX8_isFull_9 : decode cX8_isFull 9 = .ok (.bipush 8, 2) := dk_16 8 (dk_at dksX8_isFull_0 9 rfl rfl)
theorem dX8_isFull_11 : decode cX8_isFull 11 = .ok (.if_icmp .ne 7, 3) := dk_160 0 7 (dk_at dksX8_isFull_0 11 rfl rfl)
theorem dX8_isFull_14 : decode cX8_isFull 14 = .ok (.iconst 1, 1) := dk_4 (dk_at dksX8_isFull_0 14 rfl rfl)
theorem dX8_isFull_15 : decode cX8_isFull 15 = .ok (.goto 42, 3) := dk_167 0 42 (dk_at dksX8_isFull_0 15 rfl rfl)
theorem dX8_isFull_18 : decode cX8_isFull 18 = .ok (.iconst 0, 1) := dk_3 (dk_at dksX8_isFull_0 18 rfl rfl)
theorem dX8_isFull_19 : decode cX8_isFull 19 = .ok (.goto 38, 3) := dk_167 0 38 (dk_at dksX8_isFull_0 19 rfl rfl)
theorem dX8_isFull_22 : decode cX8_isFull 22 = .ok (.iload_n 1, 1) := dk_27 (dk_at dksX8_isFull_0 22 rfl rfl)
theorem dX8_isFull_23 : decode cX8_isFull 23 = .ok (.iconst 1, 1) := dk_4 (dk_at dksX8_isFull_0 23 rfl rfl)
theorem dX8_isFull_24 : decode cX8_isFull 24 = .ok (.if_icmp .ne 19, 3) := dk_160 0 19 (dk_at dksX8_isFull_1 0 rfl rfl)
theorem dX8_isFull_27 : decode cX8_isFull 27 = .ok (.aload_n 0, 1) := dk_42 (dk_at dksX8_isFull_1 3 rfl rfl)
theorem dX8_isFull_28 : decode cX8_isFull 28 = .ok (.getfield 57, 3) := dk_180 0 57 (dk_at dksX8_isFull_1 4 rfl rfl)
theorem dX8_isFull_31 : decode cX8_isFull 31 = .ok (.iconst 4, 1) := dk_7 (dk_at dksX8_isFull_1 7 rfl rfl)
theorem dX8_isFull_32 : decode cX8_isFull 32 = .ok (.if_icmp .ne 7, 3) := dk_160 0 7 (dk_at dksX8_isFull_1 8 rfl rfl)
theorem dX8_isFull_35 : decode cX8_isFull 35 = .ok (.iconst 1, 1) := dk_4 (dk_at dksX8_isFull_1 11 rfl rfl)
theorem dX8_isFull_36 : decode cX8_isFull 36 = .ok (.goto 21, 3) := dk_167 0 21 (dk_at dksX8_isFull_1 12 rfl rfl)
theorem dX8_isFull_39 : decode cX8_isFull 39 = .ok (.iconst 0, 1) := dk_3 (dk_at dksX8_isFull_1 15 rfl rfl)
theorem dX8_isFull_40 : decode cX8_isFull 40 = .ok (.goto 17, 3) := dk_167 0 17 (dk_at dksX8_isFull_1 16 rfl rfl)
theorem dX8_isFull_43 : decode cX8_isFull 43 = .ok (.aload_n 0, 1) := dk_42 (dk_at dksX8_isFull_1 19 rfl rfl)
theorem dX8_isFull_44 : decode cX8_isFull 44 = .ok (.getfield 53, 3) := dk_180 0 53 (dk_at dksX8_isFull_1 20 rfl rfl)
theorem dX8_isFull_47 : decode cX8_isFull 47 = .ok (.bipush 8, 2) := dk_16 8 (dk_at dksX8_isFull_2 0 rfl rfl)
theorem dX8_isFull_49 : decode cX8_isFull 49 = .ok (.if_icmp .ne 7, 3) := dk_160 0 7 (dk_at dksX8_isFull_2 2 rfl rfl)
theorem dX8_isFull_52 : decode cX8_isFull 52 = .ok (.iconst 1, 1) := dk_4 (dk_at dksX8_isFull_2 5 rfl rfl)
theorem dX8_isFull_53 : decode cX8_isFull 53 = .ok (.goto 4, 3) := dk_167 0 4 (dk_at dksX8_isFull_2 6 rfl rfl)
theorem dX8_isFull_56 : decode cX8_isFull 56 = .ok (.iconst 0, 1) := dk_3 (dk_at dksX8_isFull_2 9 rfl rfl)
theorem dX8_isFull_57 : decode cX8_isFull 57 = .ok (.ireturn, 1) := dk_172 (dk_at dksX8_isFull_2 10 rfl rfl)
abbrev cX8_add : ByteArray := prog_11_method_8_code
def yX8_add : MethodName := ⟨RX8, "add", "(LPondHouse$Member;)V"⟩
def dkwX8_add_7 : List UInt8 := [181, 0, 53, 177]
abbrev dktX8_add_7 : List UInt8 := dkwX8_add_7 ++ []
def dkwX8_add_6 : List UInt8 := [43, 180, 0, 100, 79, 42, 180, 0, 18, 42, 180, 0, 53, 2, 79, 42, 89, 180, 0, 53, 4, 96]
abbrev dktX8_add_6 : List UInt8 := dkwX8_add_6 ++ dktX8_add_7
def dkwX8_add_5 : List UInt8 := [167, 0, 49, 42, 180, 0, 9, 42, 180, 0, 53, 43, 180, 0, 95, 79, 42, 180, 0, 15, 42, 180, 0, 53]
abbrev dktX8_add_5 : List UInt8 := dkwX8_add_5 ++ dktX8_add_6
def dkwX8_add_4 : List UInt8 := [42, 180, 0, 24, 42, 180, 0, 57, 43, 180, 0, 100, 79, 42, 89, 180, 0, 57, 4, 96, 181, 0, 57]
abbrev dktX8_add_4 : List UInt8 := dkwX8_add_4 ++ dktX8_add_5
def dkwX8_add_3 : List UInt8 := [167, 0, 96, 43, 180, 0, 92, 4, 160, 0, 42, 42, 180, 0, 21, 42, 180, 0, 57, 43, 180, 0, 95, 79]
abbrev dktX8_add_3 : List UInt8 := dkwX8_add_3 ++ dktX8_add_4
def dkwX8_add_2 : List UInt8 := [180, 0, 99, 83, 42, 89, 180, 0, 64, 28, 2, 160, 0, 7, 4, 167, 0, 4, 3, 96, 181, 0, 64]
abbrev dktX8_add_2 : List UInt8 := dkwX8_add_2 ++ dktX8_add_3
def dkwX8_add_1 : List UInt8 := [180, 0, 64, 167, 0, 4, 28, 62, 42, 180, 0, 27, 29, 43, 180, 0, 95, 79, 42, 180, 0, 32, 29, 43]
abbrev dktX8_add_1 : List UInt8 := dkwX8_add_1 ++ dktX8_add_2
def dkwX8_add_0 : List UInt8 := [43, 180, 0, 92, 5, 160, 0, 68, 42, 43, 180, 0, 95, 182, 0, 96, 61, 28, 2, 160, 0, 10, 42]
abbrev dktX8_add_0 : List UInt8 := dkwX8_add_0 ++ dktX8_add_1
theorem dksX8_add_0 : cX8_add.data.toList.drop 0 = dktX8_add_0 := by decide +kernel
theorem dksX8_add_1 : cX8_add.data.toList.drop 23 = dktX8_add_1 := dk_seg dksX8_add_0 23 rfl rfl
theorem dksX8_add_2 : cX8_add.data.toList.drop 47 = dktX8_add_2 := dk_seg dksX8_add_1 24 rfl rfl
theorem dksX8_add_3 : cX8_add.data.toList.drop 70 = dktX8_add_3 := dk_seg dksX8_add_2 23 rfl rfl
theorem dksX8_add_4 : cX8_add.data.toList.drop 94 = dktX8_add_4 := dk_seg dksX8_add_3 24 rfl rfl
theorem dksX8_add_5 : cX8_add.data.toList.drop 117 = dktX8_add_5 := dk_seg dksX8_add_4 23 rfl rfl
theorem dksX8_add_6 : cX8_add.data.toList.drop 141 = dktX8_add_6 := dk_seg dksX8_add_5 24 rfl rfl
theorem dksX8_add_7 : cX8_add.data.toList.drop 163 = dktX8_add_7 := dk_seg dksX8_add_6 22 rfl rfl
theorem dX8_add_0 : decode cX8_add 0 = .ok (.aload_n 1, 1) := dk_43 (dk_at dksX8_add_0 0 rfl rfl)
theorem dX8_add_1 : decode cX8_add 1 = .ok (.getfield 92, 3) := dk_180 0 92 (dk_at dksX8_add_0 1 rfl rfl)
theorem dX8_add_4 : decode cX8_add 4 = .ok (.iconst 2, 1) := dk_5 (dk_at dksX8_add_0 4 rfl rfl)
theorem dX8_add_5 : decode cX8_add 5 = .ok (.if_icmp .ne 68, 3) := dk_160 0 68 (dk_at dksX8_add_0 5 rfl rfl)
theorem dX8_add_8 : decode cX8_add 8 = .ok (.aload_n 0, 1) := dk_42 (dk_at dksX8_add_0 8 rfl rfl)
theorem dX8_add_9 : decode cX8_add 9 = .ok (.aload_n 1, 1) := dk_43 (dk_at dksX8_add_0 9 rfl rfl)
theorem dX8_add_10 : decode cX8_add 10 = .ok (.getfield 95, 3) := dk_180 0 95 (dk_at dksX8_add_0 10 rfl rfl)
theorem dX8_add_13 : decode cX8_add 13 = .ok (.invokevirtual 96, 3) := dk_182 0 96 (dk_at dksX8_add_0 13 rfl rfl)
theorem dX8_add_16 : decode cX8_add 16 = .ok (.istore_n 2, 1) := dk_61 (dk_at dksX8_add_0 16 rfl rfl)
theorem dX8_add_17 : decode cX8_add 17 = .ok (.iload_n 2, 1) := dk_28 (dk_at dksX8_add_0 17 rfl rfl)
theorem dX8_add_18 : decode cX8_add 18 = .ok (.iconst (-1), 1) := dk_2 (dk_at dksX8_add_0 18 rfl rfl)
theorem dX8_add_19 : decode cX8_add 19 = .ok (.if_icmp .ne 10, 3) := dk_160 0 10 (dk_at dksX8_add_0 19 rfl rfl)
theorem dX8_add_22 : decode cX8_add 22 = .ok (.aload_n 0, 1) := dk_42 (dk_at dksX8_add_0 22 rfl rfl)
theorem dX8_add_23 : decode cX8_add 23 = .ok (.getfield 64, 3) := dk_180 0 64 (dk_at dksX8_add_1 0 rfl rfl)
theorem dX8_add_26 : decode cX8_add 26 = .ok (.goto 4, 3) := dk_167 0 4 (dk_at dksX8_add_1 3 rfl rfl)
theorem dX8_add_29 : decode cX8_add 29 = .ok (.iload_n 2, 1) := dk_28 (dk_at dksX8_add_1 6 rfl rfl)
theorem dX8_add_30 : decode cX8_add 30 = .ok (.istore_n 3, 1) := dk_62 (dk_at dksX8_add_1 7 rfl rfl)
theorem dX8_add_31 : decode cX8_add 31 = .ok (.aload_n 0, 1) := dk_42 (dk_at dksX8_add_1 8 rfl rfl)
theorem dX8_add_32 : decode cX8_add 32 = .ok (.getfield 27, 3) := dk_180 0 27 (dk_at dksX8_add_1 9 rfl rfl)
theorem dX8_add_35 : decode cX8_add 35 = .ok (.iload_n 3, 1) := dk_29 (dk_at dksX8_add_1 12 rfl rfl)
theorem dX8_add_36 : decode cX8_add 36 = .ok (.aload_n 1, 1) := dk_43 (dk_at dksX8_add_1 13 rfl rfl)
theorem dX8_add_37 : decode cX8_add 37 = .ok (.getfield 95, 3) := dk_180 0 95 (dk_at dksX8_add_1 14 rfl rfl)
theorem dX8_add_40 : decode cX8_add 40 = .ok (.iastore, 1) := dk_79 (dk_at dksX8_add_1 17 rfl rfl)
theorem dX8_add_41 : decode cX8_add 41 = .ok (.aload_n 0, 1) := dk_42 (dk_at dksX8_add_1 18 rfl rfl)
theorem dX8_add_42 : decode cX8_add 42 = .ok (.getfield 32, 3) := dk_180 0 32 (dk_at dksX8_add_1 19 rfl rfl)
theorem dX8_add_45 : decode cX8_add 45 = .ok (.iload_n 3, 1) := dk_29 (dk_at dksX8_add_1 22 rfl rfl)
theorem dX8_add_46 : decode cX8_add 46 = .ok (.aload_n 1, 1) := dk_43 (dk_at dksX8_add_1 23 rfl rfl)
theorem dX8_add_47 : decode cX8_add 47 = .ok (.getfield 99, 3) := dk_180 0 99 (dk_at dksX8_add_2 0 rfl rfl)
theorem dX8_add_50 : decode cX8_add 50 = .ok (.aastore, 1) := dk_83 (dk_at dksX8_add_2 3 rfl rfl)
theorem dX8_add_51 : decode cX8_add 51 = .ok (.aload_n 0, 1) := dk_42 (dk_at dksX8_add_2 4 rfl rfl)
theorem dX8_add_52 : decode cX8_add 52 = .ok (.dup, 1) := dk_89 (dk_at dksX8_add_2 5 rfl rfl)
theorem dX8_add_53 : decode cX8_add 53 = .ok (.getfield 64, 3) := dk_180 0 64 (dk_at dksX8_add_2 6 rfl rfl)
theorem dX8_add_56 : decode cX8_add 56 = .ok (.iload_n 2, 1) := dk_28 (dk_at dksX8_add_2 9 rfl rfl)
theorem dX8_add_57 : decode cX8_add 57 = .ok (.iconst (-1), 1) := dk_2 (dk_at dksX8_add_2 10 rfl rfl)
theorem dX8_add_58 : decode cX8_add 58 = .ok (.if_icmp .ne 7, 3) := dk_160 0 7 (dk_at dksX8_add_2 11 rfl rfl)
theorem dX8_add_61 : decode cX8_add 61 = .ok (.iconst 1, 1) := dk_4 (dk_at dksX8_add_2 14 rfl rfl)
theorem dX8_add_62 : decode cX8_add 62 = .ok (.goto 4, 3) := dk_167 0 4 (dk_at dksX8_add_2 15 rfl rfl)
theorem dX8_add_65 : decode cX8_add 65 = .ok (.iconst 0, 1) := dk_3 (dk_at dksX8_add_2 18 rfl rfl)
theorem dX8_add_66 : decode cX8_add 66 = .ok (.iadd, 1) := dk_96 (dk_at dksX8_add_2 19 rfl rfl)
theorem dX8_add_67 : decode cX8_add 67 = .ok (.putfield 64, 3) := dk_181 0 64 (dk_at dksX8_add_2 20 rfl rfl)
theorem dX8_add_70 : decode cX8_add 70 = .ok (.goto 96, 3) := dk_167 0 96 (dk_at dksX8_add_3 0 rfl rfl)
theorem dX8_add_73 : decode cX8_add 73 = .ok (.aload_n 1, 1) := dk_43 (dk_at dksX8_add_3 3 rfl rfl)
theorem dX8_add_74 : decode cX8_add 74 = .ok (.getfield 92, 3) := dk_180 0 92 (dk_at dksX8_add_3 4 rfl rfl)
theorem dX8_add_77 : decode cX8_add 77 = .ok (.iconst 1, 1) := dk_4 (dk_at dksX8_add_3 7 rfl rfl)
theorem dX8_add_78 : decode cX8_add 78 = .ok (.if_icmp .ne 42, 3) := dk_160 0 42 (dk_at dksX8_add_3 8 rfl rfl)
theorem dX8_add_81 : decode cX8_add 81 = .ok (.aload_n 0, 1) := dk_42 (dk_at dksX8_add_3 11 rfl rfl)
theorem dX8_add_82 : decode cX8_add 82 = .ok (.getfield 21, 3) := dk_180 0 21 (dk_at dksX8_add_3 12 rfl rfl)
theorem dX8_add_85 : decode cX8_add 85 = .ok (.aload_n 0, 1) := dk_42 (dk_at dksX8_add_3 15 rfl rfl)
theorem dX8_add_86 : decode cX8_add 86 = .ok (.getfield 57, 3) := dk_180 0 57 (dk_at dksX8_add_3 16 rfl rfl)
theorem dX8_add_89 : decode cX8_add 89 = .ok (.aload_n 1, 1) := dk_43 (dk_at dksX8_add_3 19 rfl rfl)
theorem dX8_add_90 : decode cX8_add 90 = .ok (.getfield 95, 3) := dk_180 0 95 (dk_at dksX8_add_3 20 rfl rfl)
theorem dX8_add_93 : decode cX8_add 93 = .ok (.iastore, 1) := dk_79 (dk_at dksX8_add_3 23 rfl rfl)
theorem dX8_add_94 : decode cX8_add 94 = .ok (.aload_n 0, 1) := dk_42 (dk_at dksX8_add_4 0 rfl rfl)
theorem dX8_add_95 : decode cX8_add 95 = .ok (.getfield 24, 3) := dk_180 0 24 (dk_at dksX8_add_4 1 rfl rfl)
theorem dX8_add_98 : decode cX8_add 98 = .ok (.aload_n 0, 1) := dk_42 (dk_at dksX8_add_4 4 rfl rfl)
theorem dX8_add_99 : decode cX8_add 99 = .ok (.getfield 57, 3) := dk_180 0 57 (dk_at dksX8_add_4 5 rfl rfl)
theorem dX8_add_102 : decode cX8_add 102 = .ok (.aload_n 1, 1) := dk_43 (dk_at dksX8_add_4 8 rfl rfl)
theorem dX8_add_103 : decode cX8_add 103 = .ok (.getfield 100, 3) := dk_180 0 100 (dk_at dksX8_add_4 9 rfl rfl)
theorem dX8_add_106 : decode cX8_add 106 = .ok (.iastore, 1) := dk_79 (dk_at dksX8_add_4 12 rfl rfl)
theorem dX8_add_107 : decode cX8_add 107 = .ok (.aload_n 0, 1) := dk_42 (dk_at dksX8_add_4 13 rfl rfl)
theorem dX8_add_108 : decode cX8_add 108 = .ok (.dup, 1) := dk_89 (dk_at dksX8_add_4 14 rfl rfl)
theorem dX8_add_109 : decode cX8_add 109 = .ok (.getfield 57, 3) := dk_180 0 57 (dk_at dksX8_add_4 15 rfl rfl)
theorem dX8_add_112 : decode cX8_add 112 = .ok (.iconst 1, 1) := dk_4 (dk_at dksX8_add_4 18 rfl rfl)
theorem dX8_add_113 : decode cX8_add 113 = .ok (.iadd, 1) := dk_96 (dk_at dksX8_add_4 19 rfl rfl)
theorem dX8_add_114 : decode cX8_add 114 = .ok (.putfield 57, 3) := dk_181 0 57 (dk_at dksX8_add_4 20 rfl rfl)
theorem dX8_add_117 : decode cX8_add 117 = .ok (.goto 49, 3) := dk_167 0 49 (dk_at dksX8_add_5 0 rfl rfl)
theorem dX8_add_120 : decode cX8_add 120 = .ok (.aload_n 0, 1) := dk_42 (dk_at dksX8_add_5 3 rfl rfl)
theorem dX8_add_121 : decode cX8_add 121 = .ok (.getfield 9, 3) := dk_180 0 9 (dk_at dksX8_add_5 4 rfl rfl)
theorem dX8_add_124 : decode cX8_add 124 = .ok (.aload_n 0, 1) := dk_42 (dk_at dksX8_add_5 7 rfl rfl)
theorem dX8_add_125 : decode cX8_add 125 = .ok (.getfield 53, 3) := dk_180 0 53 (dk_at dksX8_add_5 8 rfl rfl)
theorem dX8_add_128 : decode cX8_add 128 = .ok (.aload_n 1, 1) := dk_43 (dk_at dksX8_add_5 11 rfl rfl)
theorem dX8_add_129 : decode cX8_add 129 = .ok (.getfield 95, 3) := dk_180 0 95 (dk_at dksX8_add_5 12 rfl rfl)
theorem dX8_add_132 : decode cX8_add 132 = .ok (.iastore, 1) := dk_79 (dk_at dksX8_add_5 15 rfl rfl)
theorem dX8_add_133 : decode cX8_add 133 = .ok (.aload_n 0, 1) := dk_42 (dk_at dksX8_add_5 16 rfl rfl)
theorem dX8_add_134 : decode cX8_add 134 = .ok (.getfield 15, 3) := dk_180 0 15 (dk_at dksX8_add_5 17 rfl rfl)
theorem dX8_add_137 : decode cX8_add 137 = .ok (.aload_n 0, 1) := dk_42 (dk_at dksX8_add_5 20 rfl rfl)
theorem dX8_add_138 : decode cX8_add 138 = .ok (.getfield 53, 3) := dk_180 0 53 (dk_at dksX8_add_5 21 rfl rfl)
theorem dX8_add_141 : decode cX8_add 141 = .ok (.aload_n 1, 1) := dk_43 (dk_at dksX8_add_6 0 rfl rfl)
theorem dX8_add_142 : decode cX8_add 142 = .ok (.getfield 100, 3) := dk_180 0 100 (dk_at dksX8_add_6 1 rfl rfl)
theorem dX8_add_145 : decode cX8_add 145 = .ok (.iastore, 1) := dk_79 (dk_at dksX8_add_6 4 rfl rfl)
theorem dX8_add_146 : decode cX8_add 146 = .ok (.aload_n 0, 1) := dk_42 (dk_at dksX8_add_6 5 rfl rfl)
theorem dX8_add_147 : decode cX8_add 147 = .ok (.getfield 18, 3) := dk_180 0 18 (dk_at dksX8_add_6 6 rfl rfl)
theorem dX8_add_150 : decode cX8_add 150 = .ok (.aload_n 0, 1) := dk_42 (dk_at dksX8_add_6 9 rfl rfl)
theorem dX8_add_151 : decode cX8_add 151 = .ok (.getfield 53, 3) := dk_180 0 53 (dk_at dksX8_add_6 10 rfl rfl)
theorem dX8_add_154 : decode cX8_add 154 = .ok (.iconst (-1), 1) := dk_2 (dk_at dksX8_add_6 13 rfl rfl)
theorem dX8_add_155 : decode cX8_add 155 = .ok (.iastore, 1) := dk_79 (dk_at dksX8_add_6 14 rfl rfl)
theorem dX8_add_156 : decode cX8_add 156 = .ok (.aload_n 0, 1) := dk_42 (dk_at dksX8_add_6 15 rfl rfl)
theorem dX8_add_157 : decode cX8_add 157 = .ok (.dup, 1) := dk_89 (dk_at dksX8_add_6 16 rfl rfl)
theorem dX8_add_158 : decode cX8_add 158 = .ok (.getfield 53, 3) := dk_180 0 53 (dk_at dksX8_add_6 17 rfl rfl)
theorem dX8_add_161 : decode cX8_add 161 = .ok (.iconst 1, 1) := dk_4 (dk_at dksX8_add_6 20 rfl rfl)
theorem dX8_add_162 : decode cX8_add 162 = .ok (.iadd, 1) := dk_96 (dk_at dksX8_add_6 21 rfl rfl)
theorem dX8_add_163 : decode cX8_add 163 = .ok (.putfield 53, 3) := dk_181 0 53 (dk_at dksX8_add_7 0 rfl rfl)
theorem dX8_add_166 : decode cX8_add 166 = .ok (.return_, 1) := dk_177 (dk_at dksX8_add_7 3 rfl rfl)
abbrev cX8_drops : ByteArray := prog_11_method_9_code
def yX8_drops : MethodName := ⟨RX8, "drops", "(I)Z"⟩
def dkwX8_drops_8 : List UInt8 := [159, 0, 7, 4, 167, 0, 4, 3, 172]
abbrev dktX8_drops_8 : List UInt8 := dkwX8_drops_8 ++ []
def dkwX8_drops_7 : List UInt8 := [180, 0, 64, 21, 4, 100, 184, 0, 67, 28, 2, 160, 0, 14, 29, 2, 160, 0, 9, 21, 4, 2]
abbrev dktX8_drops_7 : List UInt8 := dkwX8_drops_7 ++ dktX8_drops_8
def dkwX8_drops_6 : List UInt8 := [21, 4, 42, 180, 0, 64, 184, 0, 103, 42, 180, 0, 32, 21, 4, 4, 96, 42, 180, 0, 32, 21, 4, 42]
abbrev dktX8_drops_6 : List UInt8 := dkwX8_drops_6 ++ dktX8_drops_7
def dkwX8_drops_5 : List UInt8 := [167, 0, 56, 21, 4, 2, 159, 0, 50, 42, 89, 180, 0, 64, 4, 100, 181, 0, 64, 42, 180, 0, 27]
abbrev dktX8_drops_5 : List UInt8 := dkwX8_drops_5 ++ dktX8_drops_6
def dkwX8_drops_4 : List UInt8 := [42, 180, 0, 21, 29, 42, 180, 0, 57, 184, 0, 103, 42, 180, 0, 24, 29, 42, 180, 0, 57, 184, 0, 103]
abbrev dktX8_drops_4 : List UInt8 := dkwX8_drops_4 ++ dktX8_drops_5
def dkwX8_drops_3 : List UInt8 := [180, 0, 53, 184, 0, 103, 167, 0, 98, 29, 2, 159, 0, 40, 42, 89, 180, 0, 57, 4, 100, 181, 0, 57]
abbrev dktX8_drops_3 : List UInt8 := dkwX8_drops_3 ++ dktX8_drops_4
def dkwX8_drops_2 : List UInt8 := [180, 0, 53, 184, 0, 103, 42, 180, 0, 15, 28, 42, 180, 0, 53, 184, 0, 103, 42, 180, 0, 18, 28, 42]
abbrev dktX8_drops_2 : List UInt8 := dkwX8_drops_2 ++ dktX8_drops_3
def dkwX8_drops_1 : List UInt8 := [54, 4, 28, 2, 159, 0, 52, 42, 89, 180, 0, 53, 4, 100, 181, 0, 53, 42, 180, 0, 9, 28, 42]
abbrev dktX8_drops_1 : List UInt8 := dkwX8_drops_1 ++ dktX8_drops_2
def dkwX8_drops_0 : List UInt8 := [42, 27, 182, 0, 86, 61, 42, 180, 0, 21, 42, 180, 0, 57, 27, 184, 0, 82, 62, 42, 27, 182, 0, 96]
abbrev dktX8_drops_0 : List UInt8 := dkwX8_drops_0 ++ dktX8_drops_1
theorem dksX8_drops_0 : cX8_drops.data.toList.drop 0 = dktX8_drops_0 := by decide +kernel
theorem dksX8_drops_1 : cX8_drops.data.toList.drop 24 = dktX8_drops_1 := dk_seg dksX8_drops_0 24 rfl rfl
theorem dksX8_drops_2 : cX8_drops.data.toList.drop 47 = dktX8_drops_2 := dk_seg dksX8_drops_1 23 rfl rfl
theorem dksX8_drops_3 : cX8_drops.data.toList.drop 71 = dktX8_drops_3 := dk_seg dksX8_drops_2 24 rfl rfl
theorem dksX8_drops_4 : cX8_drops.data.toList.drop 95 = dktX8_drops_4 := dk_seg dksX8_drops_3 24 rfl rfl
theorem dksX8_drops_5 : cX8_drops.data.toList.drop 119 = dktX8_drops_5 := dk_seg dksX8_drops_4 24 rfl rfl
theorem dksX8_drops_6 : cX8_drops.data.toList.drop 142 = dktX8_drops_6 := dk_seg dksX8_drops_5 23 rfl rfl
theorem dksX8_drops_7 : cX8_drops.data.toList.drop 166 = dktX8_drops_7 := dk_seg dksX8_drops_6 24 rfl rfl
theorem dksX8_drops_8 : cX8_drops.data.toList.drop 188 = dktX8_drops_8 := dk_seg dksX8_drops_7 22 rfl rfl
theorem dX8_drops_0 : decode cX8_drops 0 = .ok (.aload_n 0, 1) := dk_42 (dk_at dksX8_drops_0 0 rfl rfl)
theorem dX8_drops_1 : decode cX8_drops 1 = .ok (.iload_n 1, 1) := dk_27 (dk_at dksX8_drops_0 1 rfl rfl)
theorem dX8_drops_2 : decode cX8_drops 2 = .ok (.invokevirtual 86, 3) := dk_182 0 86 (dk_at dksX8_drops_0 2 rfl rfl)
theorem dX8_drops_5 : decode cX8_drops 5 = .ok (.istore_n 2, 1) := dk_61 (dk_at dksX8_drops_0 5 rfl rfl)
theorem dX8_drops_6 : decode cX8_drops 6 = .ok (.aload_n 0, 1) := dk_42 (dk_at dksX8_drops_0 6 rfl rfl)
theorem dX8_drops_7 : decode cX8_drops 7 = .ok (.getfield 21, 3) := dk_180 0 21 (dk_at dksX8_drops_0 7 rfl rfl)
theorem dX8_drops_10 : decode cX8_drops 10 = .ok (.aload_n 0, 1) := dk_42 (dk_at dksX8_drops_0 10 rfl rfl)
theorem dX8_drops_11 : decode cX8_drops 11 = .ok (.getfield 57, 3) := dk_180 0 57 (dk_at dksX8_drops_0 11 rfl rfl)
theorem dX8_drops_14 : decode cX8_drops 14 = .ok (.iload_n 1, 1) := dk_27 (dk_at dksX8_drops_0 14 rfl rfl)
theorem dX8_drops_15 : decode cX8_drops 15 = .ok (.invokestatic 82, 3) := dk_184 0 82 (dk_at dksX8_drops_0 15 rfl rfl)
theorem dX8_drops_18 : decode cX8_drops 18 = .ok (.istore_n 3, 1) := dk_62 (dk_at dksX8_drops_0 18 rfl rfl)
theorem dX8_drops_19 : decode cX8_drops 19 = .ok (.aload_n 0, 1) := dk_42 (dk_at dksX8_drops_0 19 rfl rfl)
theorem dX8_drops_20 : decode cX8_drops 20 = .ok (.iload_n 1, 1) := dk_27 (dk_at dksX8_drops_0 20 rfl rfl)
theorem dX8_drops_21 : decode cX8_drops 21 = .ok (.invokevirtual 96, 3) := dk_182 0 96 (dk_at dksX8_drops_0 21 rfl rfl)
theorem dX8_drops_24 : decode cX8_drops 24 = .ok (.istore 4, 2) := dk_54 4 (dk_at dksX8_drops_1 0 rfl rfl)
theorem dX8_drops_26 : decode cX8_drops 26 = .ok (.iload_n 2, 1) := dk_28 (dk_at dksX8_drops_1 2 rfl rfl)
theorem dX8_drops_27 : decode cX8_drops 27 = .ok (.iconst (-1), 1) := dk_2 (dk_at dksX8_drops_1 3 rfl rfl)
theorem dX8_drops_28 : decode cX8_drops 28 = .ok (.if_icmp .eq 52, 3) := dk_159 0 52 (dk_at dksX8_drops_1 4 rfl rfl)
theorem dX8_drops_31 : decode cX8_drops 31 = .ok (.aload_n 0, 1) := dk_42 (dk_at dksX8_drops_1 7 rfl rfl)
theorem dX8_drops_32 : decode cX8_drops 32 = .ok (.dup, 1) := dk_89 (dk_at dksX8_drops_1 8 rfl rfl)
theorem dX8_drops_33 : decode cX8_drops 33 = .ok (.getfield 53, 3) := dk_180 0 53 (dk_at dksX8_drops_1 9 rfl rfl)
theorem dX8_drops_36 : decode cX8_drops 36 = .ok (.iconst 1, 1) := dk_4 (dk_at dksX8_drops_1 12 rfl rfl)
theorem dX8_drops_37 : decode cX8_drops 37 = .ok (.isub, 1) := dk_100 (dk_at dksX8_drops_1 13 rfl rfl)
theorem dX8_drops_38 : decode cX8_drops 38 = .ok (.putfield 53, 3) := dk_181 0 53 (dk_at dksX8_drops_1 14 rfl rfl)
theorem dX8_drops_41 : decode cX8_drops 41 = .ok (.aload_n 0, 1) := dk_42 (dk_at dksX8_drops_1 17 rfl rfl)
theorem dX8_drops_42 : decode cX8_drops 42 = .ok (.getfield 9, 3) := dk_180 0 9 (dk_at dksX8_drops_1 18 rfl rfl)
theorem dX8_drops_45 : decode cX8_drops 45 = .ok (.iload_n 2, 1) := dk_28 (dk_at dksX8_drops_1 21 rfl rfl)
theorem dX8_drops_46 : decode cX8_drops 46 = .ok (.aload_n 0, 1) := dk_42 (dk_at dksX8_drops_1 22 rfl rfl)
theorem dX8_drops_47 : decode cX8_drops 47 = .ok (.getfield 53, 3) := dk_180 0 53 (dk_at dksX8_drops_2 0 rfl rfl)
theorem dX8_drops_50 : decode cX8_drops 50 = .ok (.invokestatic 103, 3) := dk_184 0 103 (dk_at dksX8_drops_2 3 rfl rfl)
theorem dX8_drops_53 : decode cX8_drops 53 = .ok (.aload_n 0, 1) := dk_42 (dk_at dksX8_drops_2 6 rfl rfl)
theorem dX8_drops_54 : decode cX8_drops 54 = .ok (.getfield 15, 3) := dk_180 0 15 (dk_at dksX8_drops_2 7 rfl rfl)
theorem dX8_drops_57 : decode cX8_drops 57 = .ok (.iload_n 2, 1) := dk_28 (dk_at dksX8_drops_2 10 rfl rfl)
theorem dX8_drops_58 : decode cX8_drops 58 = .ok (.aload_n 0, 1) := dk_42 (dk_at dksX8_drops_2 11 rfl rfl)
theorem dX8_drops_59 : decode cX8_drops 59 = .ok (.getfield 53, 3) := dk_180 0 53 (dk_at dksX8_drops_2 12 rfl rfl)
theorem dX8_drops_62 : decode cX8_drops 62 = .ok (.invokestatic 103, 3) := dk_184 0 103 (dk_at dksX8_drops_2 15 rfl rfl)
theorem dX8_drops_65 : decode cX8_drops 65 = .ok (.aload_n 0, 1) := dk_42 (dk_at dksX8_drops_2 18 rfl rfl)
theorem dX8_drops_66 : decode cX8_drops 66 = .ok (.getfield 18, 3) := dk_180 0 18 (dk_at dksX8_drops_2 19 rfl rfl)
theorem dX8_drops_69 : decode cX8_drops 69 = .ok (.iload_n 2, 1) := dk_28 (dk_at dksX8_drops_2 22 rfl rfl)
theorem dX8_drops_70 : decode cX8_drops 70 = .ok (.aload_n 0, 1) := dk_42 (dk_at dksX8_drops_2 23 rfl rfl)
theorem dX8_drops_71 : decode cX8_drops 71 = .ok (.getfield 53, 3) := dk_180 0 53 (dk_at dksX8_drops_3 0 rfl rfl)
theorem dX8_drops_74 : decode cX8_drops 74 = .ok (.invokestatic 103, 3) := dk_184 0 103 (dk_at dksX8_drops_3 3 rfl rfl)
theorem dX8_drops_77 : decode cX8_drops 77 = .ok (.goto 98, 3) := dk_167 0 98 (dk_at dksX8_drops_3 6 rfl rfl)
theorem dX8_drops_80 : decode cX8_drops 80 = .ok (.iload_n 3, 1) := dk_29 (dk_at dksX8_drops_3 9 rfl rfl)
theorem dX8_drops_81 : decode cX8_drops 81 = .ok (.iconst (-1), 1) := dk_2 (dk_at dksX8_drops_3 10 rfl rfl)
theorem dX8_drops_82 : decode cX8_drops 82 = .ok (.if_icmp .eq 40, 3) := dk_159 0 40 (dk_at dksX8_drops_3 11 rfl rfl)
theorem dX8_drops_85 : decode cX8_drops 85 = .ok (.aload_n 0, 1) := dk_42 (dk_at dksX8_drops_3 14 rfl rfl)
theorem dX8_drops_86 : decode cX8_drops 86 = .ok (.dup, 1) := dk_89 (dk_at dksX8_drops_3 15 rfl rfl)
theorem dX8_drops_87 : decode cX8_drops 87 = .ok (.getfield 57, 3) := dk_180 0 57 (dk_at dksX8_drops_3 16 rfl rfl)
theorem dX8_drops_90 : decode cX8_drops 90 = .ok (.iconst 1, 1) := dk_4 (dk_at dksX8_drops_3 19 rfl rfl)
theorem dX8_drops_91 : decode cX8_drops 91 = .ok (.isub, 1) := dk_100 (dk_at dksX8_drops_3 20 rfl rfl)
theorem dX8_drops_92 : decode cX8_drops 92 = .ok (.putfield 57, 3) := dk_181 0 57 (dk_at dksX8_drops_3 21 rfl rfl)
theorem dX8_drops_95 : decode cX8_drops 95 = .ok (.aload_n 0, 1) := dk_42 (dk_at dksX8_drops_4 0 rfl rfl)
theorem dX8_drops_96 : decode cX8_drops 96 = .ok (.getfield 21, 3) := dk_180 0 21 (dk_at dksX8_drops_4 1 rfl rfl)
theorem dX8_drops_99 : decode cX8_drops 99 = .ok (.iload_n 3, 1) := dk_29 (dk_at dksX8_drops_4 4 rfl rfl)
theorem dX8_drops_100 : decode cX8_drops 100 = .ok (.aload_n 0, 1) := dk_42 (dk_at dksX8_drops_4 5 rfl rfl)
theorem dX8_drops_101 : decode cX8_drops 101 = .ok (.getfield 57, 3) := dk_180 0 57 (dk_at dksX8_drops_4 6 rfl rfl)
theorem dX8_drops_104 : decode cX8_drops 104 = .ok (.invokestatic 103, 3) := dk_184 0 103 (dk_at dksX8_drops_4 9 rfl rfl)
theorem dX8_drops_107 : decode cX8_drops 107 = .ok (.aload_n 0, 1) := dk_42 (dk_at dksX8_drops_4 12 rfl rfl)
theorem dX8_drops_108 : decode cX8_drops 108 = .ok (.getfield 24, 3) := dk_180 0 24 (dk_at dksX8_drops_4 13 rfl rfl)
theorem dX8_drops_111 : decode cX8_drops 111 = .ok (.iload_n 3, 1) := dk_29 (dk_at dksX8_drops_4 16 rfl rfl)
theorem dX8_drops_112 : decode cX8_drops 112 = .ok (.aload_n 0, 1) := dk_42 (dk_at dksX8_drops_4 17 rfl rfl)
theorem dX8_drops_113 : decode cX8_drops 113 = .ok (.getfield 57, 3) := dk_180 0 57 (dk_at dksX8_drops_4 18 rfl rfl)
theorem dX8_drops_116 : decode cX8_drops 116 = .ok (.invokestatic 103, 3) := dk_184 0 103 (dk_at dksX8_drops_4 21 rfl rfl)
theorem dX8_drops_119 : decode cX8_drops 119 = .ok (.goto 56, 3) := dk_167 0 56 (dk_at dksX8_drops_5 0 rfl rfl)
theorem dX8_drops_122 : decode cX8_drops 122 = .ok (.iload 4, 2) := dk_21 4 (dk_at dksX8_drops_5 3 rfl rfl)
theorem dX8_drops_124 : decode cX8_drops 124 = .ok (.iconst (-1), 1) := dk_2 (dk_at dksX8_drops_5 5 rfl rfl)
theorem dX8_drops_125 : decode cX8_drops 125 = .ok (.if_icmp .eq 50, 3) := dk_159 0 50 (dk_at dksX8_drops_5 6 rfl rfl)
theorem dX8_drops_128 : decode cX8_drops 128 = .ok (.aload_n 0, 1) := dk_42 (dk_at dksX8_drops_5 9 rfl rfl)
theorem dX8_drops_129 : decode cX8_drops 129 = .ok (.dup, 1) := dk_89 (dk_at dksX8_drops_5 10 rfl rfl)
theorem dX8_drops_130 : decode cX8_drops 130 = .ok (.getfield 64, 3) := dk_180 0 64 (dk_at dksX8_drops_5 11 rfl rfl)
theorem dX8_drops_133 : decode cX8_drops 133 = .ok (.iconst 1, 1) := dk_4 (dk_at dksX8_drops_5 14 rfl rfl)
theorem dX8_drops_134 : decode cX8_drops 134 = .ok (.isub, 1) := dk_100 (dk_at dksX8_drops_5 15 rfl rfl)
theorem dX8_drops_135 : decode cX8_drops 135 = .ok (.putfield 64, 3) := dk_181 0 64 (dk_at dksX8_drops_5 16 rfl rfl)
theorem dX8_drops_138 : decode cX8_drops 138 = .ok (.aload_n 0, 1) := dk_42 (dk_at dksX8_drops_5 19 rfl rfl)
theorem dX8_drops_139 : decode cX8_drops 139 = .ok (.getfield 27, 3) := dk_180 0 27 (dk_at dksX8_drops_5 20 rfl rfl)
theorem dX8_drops_142 : decode cX8_drops 142 = .ok (.iload 4, 2) := dk_21 4 (dk_at dksX8_drops_6 0 rfl rfl)
theorem dX8_drops_144 : decode cX8_drops 144 = .ok (.aload_n 0, 1) := dk_42 (dk_at dksX8_drops_6 2 rfl rfl)
theorem dX8_drops_145 : decode cX8_drops 145 = .ok (.getfield 64, 3) := dk_180 0 64 (dk_at dksX8_drops_6 3 rfl rfl)
theorem dX8_drops_148 : decode cX8_drops 148 = .ok (.invokestatic 103, 3) := dk_184 0 103 (dk_at dksX8_drops_6 6 rfl rfl)
theorem dX8_drops_151 : decode cX8_drops 151 = .ok (.aload_n 0, 1) := dk_42 (dk_at dksX8_drops_6 9 rfl rfl)
theorem dX8_drops_152 : decode cX8_drops 152 = .ok (.getfield 32, 3) := dk_180 0 32 (dk_at dksX8_drops_6 10 rfl rfl)
theorem dX8_drops_155 : decode cX8_drops 155 = .ok (.iload 4, 2) := dk_21 4 (dk_at dksX8_drops_6 13 rfl rfl)
theorem dX8_drops_157 : decode cX8_drops 157 = .ok (.iconst 1, 1) := dk_4 (dk_at dksX8_drops_6 15 rfl rfl)
theorem dX8_drops_158 : decode cX8_drops 158 = .ok (.iadd, 1) := dk_96 (dk_at dksX8_drops_6 16 rfl rfl)
theorem dX8_drops_159 : decode cX8_drops 159 = .ok (.aload_n 0, 1) := dk_42 (dk_at dksX8_drops_6 17 rfl rfl)
theorem dX8_drops_160 : decode cX8_drops 160 = .ok (.getfield 32, 3) := dk_180 0 32 (dk_at dksX8_drops_6 18 rfl rfl)
theorem dX8_drops_163 : decode cX8_drops 163 = .ok (.iload 4, 2) := dk_21 4 (dk_at dksX8_drops_6 21 rfl rfl)
theorem dX8_drops_165 : decode cX8_drops 165 = .ok (.aload_n 0, 1) := dk_42 (dk_at dksX8_drops_6 23 rfl rfl)
theorem dX8_drops_166 : decode cX8_drops 166 = .ok (.getfield 64, 3) := dk_180 0 64 (dk_at dksX8_drops_7 0 rfl rfl)
theorem dX8_drops_169 : decode cX8_drops 169 = .ok (.iload 4, 2) := dk_21 4 (dk_at dksX8_drops_7 3 rfl rfl)
theorem dX8_drops_171 : decode cX8_drops 171 = .ok (.isub, 1) := dk_100 (dk_at dksX8_drops_7 5 rfl rfl)
theorem dX8_drops_172 : decode cX8_drops 172 = .ok (.invokestatic 67, 3) := dk_184 0 67 (dk_at dksX8_drops_7 6 rfl rfl)
theorem dX8_drops_175 : decode cX8_drops 175 = .ok (.iload_n 2, 1) := dk_28 (dk_at dksX8_drops_7 9 rfl rfl)
theorem dX8_drops_176 : decode cX8_drops 176 = .ok (.iconst (-1), 1) := dk_2 (dk_at dksX8_drops_7 10 rfl rfl)
theorem dX8_drops_177 : decode cX8_drops 177 = .ok (.if_icmp .ne 14, 3) := dk_160 0 14 (dk_at dksX8_drops_7 11 rfl rfl)
theorem dX8_drops_180 : decode cX8_drops 180 = .ok (.iload_n 3, 1) := dk_29 (dk_at dksX8_drops_7 14 rfl rfl)
theorem dX8_drops_181 : decode cX8_drops 181 = .ok (.iconst (-1), 1) := dk_2 (dk_at dksX8_drops_7 15 rfl rfl)
theorem dX8_drops_182 : decode cX8_drops 182 = .ok (.if_icmp .ne 9, 3) := dk_160 0 9 (dk_at dksX8_drops_7 16 rfl rfl)
theorem dX8_drops_185 : decode cX8_drops 185 = .ok (.iload 4, 2) := dk_21 4 (dk_at dksX8_drops_7 19 rfl rfl)
theorem dX8_drops_187 : decode cX8_drops 187 = .ok (.iconst (-1), 1) := dk_2 (dk_at dksX8_drops_7 21 rfl rfl)
theorem dX8_drops_188 : decode cX8_drops 188 = .ok (.if_icmp .eq 7, 3) := dk_159 0 7 (dk_at dksX8_drops_8 0 rfl rfl)
theorem dX8_drops_191 : decode cX8_drops 191 = .ok (.iconst 1, 1) := dk_4 (dk_at dksX8_drops_8 3 rfl rfl)
theorem dX8_drops_192 : decode cX8_drops 192 = .ok (.goto 4, 3) := dk_167 0 4 (dk_at dksX8_drops_8 4 rfl rfl)
theorem dX8_drops_195 : decode cX8_drops 195 = .ok (.iconst 0, 1) := dk_3 (dk_at dksX8_drops_8 7 rfl rfl)
theorem dX8_drops_196 : decode cX8_drops 196 = .ok (.ireturn, 1) := dk_172 (dk_at dksX8_drops_8 8 rfl rfl)
abbrev cX8_shift : ByteArray := prog_11_method_10_code
def yX8_shift : MethodName := ⟨RX8, "shift", "([III)V"⟩
def dkwX8_shift_0 : List UInt8 := [42, 27, 4, 96, 42, 27, 28, 27, 100, 184, 0, 67, 177]
abbrev dktX8_shift_0 : List UInt8 := dkwX8_shift_0 ++ []
theorem dksX8_shift_0 : cX8_shift.data.toList.drop 0 = dktX8_shift_0 := by decide +kernel
theorem dX8_shift_0 : decode cX8_shift 0 = .ok (.aload_n 0, 1) := dk_42 (dk_at dksX8_shift_0 0 rfl rfl)
theorem dX8_shift_1 : decode cX8_shift 1 = .ok (.iload_n 1, 1) := dk_27 (dk_at dksX8_shift_0 1 rfl rfl)
theorem dX8_shift_2 : decode cX8_shift 2 = .ok (.iconst 1, 1) := dk_4 (dk_at dksX8_shift_0 2 rfl rfl)
theorem dX8_shift_3 : decode cX8_shift 3 = .ok (.iadd, 1) := dk_96 (dk_at dksX8_shift_0 3 rfl rfl)
theorem dX8_shift_4 : decode cX8_shift 4 = .ok (.aload_n 0, 1) := dk_42 (dk_at dksX8_shift_0 4 rfl rfl)
theorem dX8_shift_5 : decode cX8_shift 5 = .ok (.iload_n 1, 1) := dk_27 (dk_at dksX8_shift_0 5 rfl rfl)
theorem dX8_shift_6 : decode cX8_shift 6 = .ok (.iload_n 2, 1) := dk_28 (dk_at dksX8_shift_0 6 rfl rfl)
theorem dX8_shift_7 : decode cX8_shift 7 = .ok (.iload_n 1, 1) := dk_27 (dk_at dksX8_shift_0 7 rfl rfl)
theorem dX8_shift_8 : decode cX8_shift 8 = .ok (.isub, 1) := dk_100 (dk_at dksX8_shift_0 8 rfl rfl)
theorem dX8_shift_9 : decode cX8_shift 9 = .ok (.invokestatic 67, 3) := dk_184 0 67 (dk_at dksX8_shift_0 9 rfl rfl)
theorem dX8_shift_12 : decode cX8_shift 12 = .ok (.return_, 1) := dk_177 (dk_at dksX8_shift_0 12 rfl rfl)
theorem q186 : (Jvm.Cond.initialized "PondHouse$Draft") ∈ lw_all := lw_g (lw_at lw_m1 26 rfl) rfl
theorem q551 : (Jvm.Cond.instantiable "PondHouse$Draft" (13 : Nat)) ∈ lw_all := lw_g (lw_at lw_m2 151 rfl) rfl
theorem q553 : (Jvm.Cond.instanceMethod ({ cls := "PondHouse$Draft", name := "<init>", desc := "(LPondHouse$Kind;)V" } : Jvm.MethodName)) ∈ lw_all := lw_g (lw_at lw_m2 153 rfl) rfl
theorem q554 : (Jvm.Cond.code ({ cls := "PondHouse$Draft", name := "<init>", desc := "(LPondHouse$Kind;)V" } : Jvm.MethodName) prog_11_method_2_code (3 : Nat) (Option.none : Option Jvm.ClassFile.FieldType)) ∈ lw_all := lw_g (lw_at lw_m2 154 rfl) rfl
theorem q555 : (Jvm.Cond.methodLink "PondHouse$Draft" (49 : Nat) ({ cls := "PondHouse$Draft", name := "<init>", desc := "(II)V" } : Jvm.MethodName)) ∈ lw_all := lw_g (lw_at lw_m2 155 rfl) rfl
theorem q556 : (Jvm.Cond.instanceMethod ({ cls := "PondHouse$Draft", name := "<init>", desc := "(II)V" } : Jvm.MethodName)) ∈ lw_all := lw_g (lw_at lw_m2 156 rfl) rfl
theorem q557 : (Jvm.Cond.code ({ cls := "PondHouse$Draft", name := "<init>", desc := "(II)V" } : Jvm.MethodName) prog_11_method_1_code (3 : Nat) (Option.none : Option Jvm.ClassFile.FieldType)) ∈ lw_all := lw_g (lw_at lw_m2 157 rfl) rfl
theorem q558 : (Jvm.Cond.methodLink "PondHouse$Draft" (3 : Nat) ({ cls := "java/lang/Object", name := "<init>", desc := "()V" } : Jvm.MethodName)) ∈ lw_all := lw_g (lw_at lw_m2 158 rfl) rfl
theorem q559 : (Jvm.Cond.classLink "PondHouse$Draft" (30 : Nat) "PondHouse$Block") ∈ lw_all := lw_g (lw_at lw_m2 159 rfl) rfl
theorem q562 : (Jvm.Cond.fieldLink "PondHouse$Draft" (36 : Nat) "PondHouse$Draft" "name" "I") ∈ lw_all := lw_g (lw_at lw_m2 162 rfl) rfl
theorem q564 : (Jvm.Cond.fieldLink "PondHouse$Draft" (40 : Nat) "PondHouse$Draft" "above" "I") ∈ lw_all := lw_g (lw_at lw_m2 164 rfl) rfl
theorem q573 : (Jvm.Cond.fieldLink "PondHouse$Draft" (9 : Nat) "PondHouse$Draft" "fields" "[I") ∈ lw_all := lw_g (lw_at lw_m2 173 rfl) rfl
theorem q576 : (Jvm.Cond.fieldLink "PondHouse$Draft" (15 : Nat) "PondHouse$Draft" "firsts" "[I") ∈ lw_all := lw_g (lw_at lw_m2 176 rfl) rfl
theorem q578 : (Jvm.Cond.fieldLink "PondHouse$Draft" (18 : Nat) "PondHouse$Draft" "from" "[I") ∈ lw_all := lw_g (lw_at lw_m2 178 rfl) rfl
theorem q580 : (Jvm.Cond.fieldLink "PondHouse$Draft" (21 : Nat) "PondHouse$Draft" "statics" "[I") ∈ lw_all := lw_g (lw_at lw_m2 180 rfl) rfl
theorem q582 : (Jvm.Cond.fieldLink "PondHouse$Draft" (24 : Nat) "PondHouse$Draft" "fixed" "[I") ∈ lw_all := lw_g (lw_at lw_m2 182 rfl) rfl
theorem q584 : (Jvm.Cond.fieldLink "PondHouse$Draft" (27 : Nat) "PondHouse$Draft" "acts" "[I") ∈ lw_all := lw_g (lw_at lw_m2 184 rfl) rfl
theorem q586 : (Jvm.Cond.fieldLink "PondHouse$Draft" (32 : Nat) "PondHouse$Draft" "blocks" "[LPondHouse$Block;") ∈ lw_all := lw_g (lw_at lw_m2 186 rfl) rfl
theorem q589 : (Jvm.Cond.fieldLink "PondHouse$Draft" (53 : Nat) "PondHouse$Draft" "fieldMany" "I") ∈ lw_all := lw_g (lw_at lw_m2 189 rfl) rfl
theorem q591 : (Jvm.Cond.fieldLink "PondHouse$Draft" (57 : Nat) "PondHouse$Draft" "staticMany" "I") ∈ lw_all := lw_g (lw_at lw_m2 191 rfl) rfl
theorem q593 : (Jvm.Cond.fieldLink "PondHouse$Draft" (64 : Nat) "PondHouse$Draft" "actMany" "I") ∈ lw_all := lw_g (lw_at lw_m2 193 rfl) rfl
theorem q594 : (Jvm.Cond.laysFinal "PondHouse$Draft" "PondHouse$Draft" "name" "I") ∈ lw_all := lw_g (lw_at lw_m2 194 rfl) rfl
theorem q595 : (Jvm.Cond.soleField "PondHouse$Draft" "name") ∈ lw_all := lw_g (lw_at lw_m2 195 rfl) rfl
theorem q596 : (Jvm.Cond.lays "PondHouse$Draft" "PondHouse$Draft" "above" "I") ∈ lw_all := lw_g (lw_at lw_m2 196 rfl) rfl
theorem q597 : (Jvm.Cond.soleField "PondHouse$Draft" "above") ∈ lw_all := lw_g (lw_at lw_m2 197 rfl) rfl
theorem q598 : (Jvm.Cond.lays "PondHouse$Draft" "PondHouse$Draft" "isChanged" "Z") ∈ lw_all := lw_g (lw_at lw_m2 198 rfl) rfl
theorem q599 : (Jvm.Cond.soleField "PondHouse$Draft" "isChanged") ∈ lw_all := lw_g (lw_at lw_m2 199 rfl) rfl
theorem q600 : (Jvm.Cond.laysFinal "PondHouse$Draft" "PondHouse$Draft" "fields" "[I") ∈ lw_all := lw_g (lw_at lw_m2 200 rfl) rfl
theorem q601 : (Jvm.Cond.soleField "PondHouse$Draft" "fields") ∈ lw_all := lw_g (lw_at lw_m2 201 rfl) rfl
theorem q602 : (Jvm.Cond.laysFinal "PondHouse$Draft" "PondHouse$Draft" "firsts" "[I") ∈ lw_all := lw_g (lw_at lw_m2 202 rfl) rfl
theorem q603 : (Jvm.Cond.soleField "PondHouse$Draft" "firsts") ∈ lw_all := lw_g (lw_at lw_m2 203 rfl) rfl
theorem q604 : (Jvm.Cond.laysFinal "PondHouse$Draft" "PondHouse$Draft" "from" "[I") ∈ lw_all := lw_g (lw_at lw_m2 204 rfl) rfl
theorem q605 : (Jvm.Cond.soleField "PondHouse$Draft" "from") ∈ lw_all := lw_g (lw_at lw_m2 205 rfl) rfl
theorem q606 : (Jvm.Cond.laysFinal "PondHouse$Draft" "PondHouse$Draft" "statics" "[I") ∈ lw_all := lw_g (lw_at lw_m2 206 rfl) rfl
theorem q607 : (Jvm.Cond.soleField "PondHouse$Draft" "statics") ∈ lw_all := lw_g (lw_at lw_m2 207 rfl) rfl
theorem q608 : (Jvm.Cond.laysFinal "PondHouse$Draft" "PondHouse$Draft" "fixed" "[I") ∈ lw_all := lw_g (lw_at lw_m2 208 rfl) rfl
theorem q609 : (Jvm.Cond.soleField "PondHouse$Draft" "fixed") ∈ lw_all := lw_g (lw_at lw_m2 209 rfl) rfl
theorem q610 : (Jvm.Cond.laysFinal "PondHouse$Draft" "PondHouse$Draft" "acts" "[I") ∈ lw_all := lw_g (lw_at lw_m2 210 rfl) rfl
theorem q611 : (Jvm.Cond.soleField "PondHouse$Draft" "acts") ∈ lw_all := lw_g (lw_at lw_m2 211 rfl) rfl
theorem q612 : (Jvm.Cond.laysFinal "PondHouse$Draft" "PondHouse$Draft" "blocks" "[LPondHouse$Block;") ∈ lw_all := lw_g (lw_at lw_m2 212 rfl) rfl
theorem q613 : (Jvm.Cond.soleField "PondHouse$Draft" "blocks") ∈ lw_all := lw_g (lw_at lw_m2 213 rfl) rfl
theorem q614 : (Jvm.Cond.lays "PondHouse$Draft" "PondHouse$Draft" "fieldMany" "I") ∈ lw_all := lw_g (lw_at lw_m2 214 rfl) rfl
theorem q615 : (Jvm.Cond.soleField "PondHouse$Draft" "fieldMany") ∈ lw_all := lw_g (lw_at lw_m2 215 rfl) rfl
theorem q616 : (Jvm.Cond.lays "PondHouse$Draft" "PondHouse$Draft" "staticMany" "I") ∈ lw_all := lw_g (lw_at lw_m2 216 rfl) rfl
theorem q617 : (Jvm.Cond.soleField "PondHouse$Draft" "staticMany") ∈ lw_all := lw_g (lw_at lw_m2 217 rfl) rfl
theorem q618 : (Jvm.Cond.lays "PondHouse$Draft" "PondHouse$Draft" "actMany" "I") ∈ lw_all := lw_g (lw_at lw_m2 218 rfl) rfl
theorem q619 : (Jvm.Cond.soleField "PondHouse$Draft" "actMany") ∈ lw_all := lw_g (lw_at lw_m2 219 rfl) rfl
theorem q620 : (Jvm.Cond.superclass "PondHouse$Draft" "java/lang/Object") ∈ lw_all := lw_g (lw_at lw_m2 220 rfl) rfl
theorem q621 : (Jvm.Cond.methodLink "PondHouse$Draft" (67 : Nat) ({ cls := "java/lang/System", name := "arraycopy", desc := "(Ljava/lang/Object;ILjava/lang/Object;II)V" } : Jvm.MethodName)) ∈ lw_all := lw_g (lw_at lw_m2 221 rfl) rfl
theorem q669 : (Jvm.Cond.selects "PondHouse$Draft" ({ cls := "java/lang/Object", name := "getClass", desc := "()Ljava/lang/Class;" } : Jvm.MethodName) ({ cls := "java/lang/Object", name := "getClass", desc := "()Ljava/lang/Class;" } : Jvm.MethodName)) ∈ lw_all := lw_g (lw_at lw_m3 29 rfl) rfl
theorem q776 : (Jvm.Cond.instanceMethod ({ cls := "PondHouse$Draft", name := "act", desc := "(I)I" } : Jvm.MethodName)) ∈ lw_all := lw_g (lw_at lw_m3 136 rfl) rfl
theorem q777 : (Jvm.Cond.selects "PondHouse$Draft" ({ cls := "PondHouse$Draft", name := "act", desc := "(I)I" } : Jvm.MethodName) ({ cls := "PondHouse$Draft", name := "act", desc := "(I)I" } : Jvm.MethodName)) ∈ lw_all := lw_g (lw_at lw_m3 137 rfl) rfl
theorem q778 : (Jvm.Cond.code ({ cls := "PondHouse$Draft", name := "act", desc := "(I)I" } : Jvm.MethodName) prog_11_method_5_code (2 : Nat) (Option.some Jvm.ClassFile.FieldType.int)) ∈ lw_all := lw_g (lw_at lw_m3 138 rfl) rfl
theorem q779 : (Jvm.Cond.methodLink "PondHouse$Draft" (82 : Nat) ({ cls := "PondHouse$Draft", name := "find", desc := "([III)I" } : Jvm.MethodName)) ∈ lw_all := lw_g (lw_at lw_m3 139 rfl) rfl
theorem q780 : (Jvm.Cond.static ({ cls := "PondHouse$Draft", name := "find", desc := "([III)I" } : Jvm.MethodName)) ∈ lw_all := lw_g (lw_at lw_m3 140 rfl) rfl
theorem q781 : (Jvm.Cond.code ({ cls := "PondHouse$Draft", name := "find", desc := "([III)I" } : Jvm.MethodName) prog_11_method_3_code (4 : Nat) (Option.some Jvm.ClassFile.FieldType.int)) ∈ lw_all := lw_g (lw_at lw_m3 141 rfl) rfl
theorem q783 : (Jvm.Cond.instanceMethod ({ cls := "PondHouse$Draft", name := "holds", desc := "(I)Z" } : Jvm.MethodName)) ∈ lw_all := lw_g (lw_at lw_m3 143 rfl) rfl
theorem q784 : (Jvm.Cond.selects "PondHouse$Draft" ({ cls := "PondHouse$Draft", name := "holds", desc := "(I)Z" } : Jvm.MethodName) ({ cls := "PondHouse$Draft", name := "holds", desc := "(I)Z" } : Jvm.MethodName)) ∈ lw_all := lw_g (lw_at lw_m3 144 rfl) rfl
theorem q785 : (Jvm.Cond.code ({ cls := "PondHouse$Draft", name := "holds", desc := "(I)Z" } : Jvm.MethodName) prog_11_method_6_code (2 : Nat) (Option.some Jvm.ClassFile.FieldType.boolean)) ∈ lw_all := lw_g (lw_at lw_m3 145 rfl) rfl
theorem q786 : (Jvm.Cond.methodLink "PondHouse$Draft" (86 : Nat) ({ cls := "PondHouse$Draft", name := "field", desc := "(I)I" } : Jvm.MethodName)) ∈ lw_all := lw_g (lw_at lw_m3 146 rfl) rfl
theorem q787 : (Jvm.Cond.instanceMethod ({ cls := "PondHouse$Draft", name := "field", desc := "(I)I" } : Jvm.MethodName)) ∈ lw_all := lw_g (lw_at lw_m3 147 rfl) rfl
theorem q788 : (Jvm.Cond.selects "PondHouse$Draft" ({ cls := "PondHouse$Draft", name := "field", desc := "(I)I" } : Jvm.MethodName) ({ cls := "PondHouse$Draft", name := "field", desc := "(I)I" } : Jvm.MethodName)) ∈ lw_all := lw_g (lw_at lw_m3 148 rfl) rfl
theorem q789 : (Jvm.Cond.code ({ cls := "PondHouse$Draft", name := "field", desc := "(I)I" } : Jvm.MethodName) prog_11_method_4_code (2 : Nat) (Option.some Jvm.ClassFile.FieldType.int)) ∈ lw_all := lw_g (lw_at lw_m3 149 rfl) rfl
theorem q791 : (Jvm.Cond.instanceMethod ({ cls := "PondHouse$Draft", name := "isFull", desc := "(I)Z" } : Jvm.MethodName)) ∈ lw_all := lw_g (lw_at lw_m3 151 rfl) rfl
theorem q792 : (Jvm.Cond.selects "PondHouse$Draft" ({ cls := "PondHouse$Draft", name := "isFull", desc := "(I)Z" } : Jvm.MethodName) ({ cls := "PondHouse$Draft", name := "isFull", desc := "(I)Z" } : Jvm.MethodName)) ∈ lw_all := lw_g (lw_at lw_m3 152 rfl) rfl
theorem q793 : (Jvm.Cond.code ({ cls := "PondHouse$Draft", name := "isFull", desc := "(I)Z" } : Jvm.MethodName) prog_11_method_7_code (2 : Nat) (Option.some Jvm.ClassFile.FieldType.boolean)) ∈ lw_all := lw_g (lw_at lw_m3 153 rfl) rfl
theorem q795 : (Jvm.Cond.instanceMethod ({ cls := "PondHouse$Draft", name := "add", desc := "(LPondHouse$Member;)V" } : Jvm.MethodName)) ∈ lw_all := lw_g (lw_at lw_m3 155 rfl) rfl
theorem q796 : (Jvm.Cond.selects "PondHouse$Draft" ({ cls := "PondHouse$Draft", name := "add", desc := "(LPondHouse$Member;)V" } : Jvm.MethodName) ({ cls := "PondHouse$Draft", name := "add", desc := "(LPondHouse$Member;)V" } : Jvm.MethodName)) ∈ lw_all := lw_g (lw_at lw_m3 156 rfl) rfl
theorem q797 : (Jvm.Cond.code ({ cls := "PondHouse$Draft", name := "add", desc := "(LPondHouse$Member;)V" } : Jvm.MethodName) prog_11_method_8_code (4 : Nat) (Option.none : Option Jvm.ClassFile.FieldType)) ∈ lw_all := lw_g (lw_at lw_m3 157 rfl) rfl
theorem q798 : (Jvm.Cond.methodLink "PondHouse$Draft" (96 : Nat) ({ cls := "PondHouse$Draft", name := "act", desc := "(I)I" } : Jvm.MethodName)) ∈ lw_all := lw_g (lw_at lw_m3 158 rfl) rfl
theorem q820 : (Jvm.Cond.instanceMethod ({ cls := "PondHouse$Draft", name := "drops", desc := "(I)Z" } : Jvm.MethodName)) ∈ lw_all := lw_g (lw_at lw_m3 180 rfl) rfl
theorem q821 : (Jvm.Cond.selects "PondHouse$Draft" ({ cls := "PondHouse$Draft", name := "drops", desc := "(I)Z" } : Jvm.MethodName) ({ cls := "PondHouse$Draft", name := "drops", desc := "(I)Z" } : Jvm.MethodName)) ∈ lw_all := lw_g (lw_at lw_m3 181 rfl) rfl
theorem q822 : (Jvm.Cond.code ({ cls := "PondHouse$Draft", name := "drops", desc := "(I)Z" } : Jvm.MethodName) prog_11_method_9_code (5 : Nat) (Option.some Jvm.ClassFile.FieldType.boolean)) ∈ lw_all := lw_g (lw_at lw_m3 182 rfl) rfl
theorem q823 : (Jvm.Cond.methodLink "PondHouse$Draft" (103 : Nat) ({ cls := "PondHouse$Draft", name := "shift", desc := "([III)V" } : Jvm.MethodName)) ∈ lw_all := lw_g (lw_at lw_m3 183 rfl) rfl
theorem q824 : (Jvm.Cond.static ({ cls := "PondHouse$Draft", name := "shift", desc := "([III)V" } : Jvm.MethodName)) ∈ lw_all := lw_g (lw_at lw_m3 184 rfl) rfl
theorem q825 : (Jvm.Cond.code ({ cls := "PondHouse$Draft", name := "shift", desc := "([III)V" } : Jvm.MethodName) prog_11_method_10_code (3 : Nat) (Option.none : Option Jvm.ClassFile.FieldType)) ∈ lw_all := lw_g (lw_at lw_m3 185 rfl) rfl
theorem q893 : (Jvm.Cond.fieldLink "PondHouse$Draft" (75 : Nat) "PondHouse$Body" "name" "I") ∈ lw_all := lw_g (lw_at lw_m4 13 rfl) rfl
theorem q896 : (Jvm.Cond.fieldLink "PondHouse$Draft" (78 : Nat) "PondHouse$Body" "block" "LPondHouse$Block;") ∈ lw_all := lw_g (lw_at lw_m4 16 rfl) rfl
theorem q906 : (Jvm.Cond.fieldLink "PondHouse$Draft" (43 : Nat) "PondHouse$Kind" "name" "I") ∈ lw_all := lw_g (lw_at lw_m4 26 rfl) rfl
theorem q911 : (Jvm.Cond.fieldLink "PondHouse$Draft" (46 : Nat) "PondHouse$Kind" "above" "LPondHouse$Kind;") ∈ lw_all := lw_g (lw_at lw_m4 31 rfl) rfl
theorem q915 : (Jvm.Cond.fieldLink "PondHouse$Draft" (52 : Nat) "PondHouse$Kind" "fields" "[I") ∈ lw_all := lw_g (lw_at lw_m4 35 rfl) rfl
theorem q918 : (Jvm.Cond.fieldLink "PondHouse$Draft" (73 : Nat) "PondHouse$Kind" "firsts" "[I") ∈ lw_all := lw_g (lw_at lw_m4 38 rfl) rfl
theorem q920 : (Jvm.Cond.fieldLink "PondHouse$Draft" (56 : Nat) "PondHouse$Kind" "statics" "[I") ∈ lw_all := lw_g (lw_at lw_m4 40 rfl) rfl
theorem q923 : (Jvm.Cond.fieldLink "PondHouse$Draft" (74 : Nat) "PondHouse$Kind" "fixed" "[I") ∈ lw_all := lw_g (lw_at lw_m4 43 rfl) rfl
theorem q927 : (Jvm.Cond.fieldLink "PondHouse$Draft" (60 : Nat) "PondHouse$Kind" "bodies" "[LPondHouse$Body;") ∈ lw_all := lw_g (lw_at lw_m4 47 rfl) rfl
theorem q2026 : (Jvm.Cond.fieldLink "PondHouse$Draft" (92 : Nat) "PondHouse$Member" "sort" "I") ∈ lw_all := lw_g (lw_at lw_m8 186 rfl) rfl
theorem q2029 : (Jvm.Cond.fieldLink "PondHouse$Draft" (95 : Nat) "PondHouse$Member" "name" "I") ∈ lw_all := lw_g (lw_at lw_m8 189 rfl) rfl
theorem q2031 : (Jvm.Cond.fieldLink "PondHouse$Draft" (100 : Nat) "PondHouse$Member" "value" "I") ∈ lw_all := lw_g (lw_at lw_m8 191 rfl) rfl
theorem q2033 : (Jvm.Cond.fieldLink "PondHouse$Draft" (99 : Nat) "PondHouse$Member" "block" "LPondHouse$Block;") ∈ lw_all := lw_g (lw_at lw_m8 193 rfl) rfl
theorem q3107 : (Jvm.Cond.castable "PondHouse$Draft" "java/lang/Object") ∈ lw_tbl := lw_at lw_m13 67 rfl
theorem in_X8 : ∀ w ∈ wsX80, w ∈ lw_all := lw_in wsX80 [594, 596, 598, 600, 602, 604, 606, 608, 610, 612, 614, 616, 618] (by decide +kernel) (by decide +kernel)

/-! PondHouse$Member -/
set_option maxRecDepth 100000
def RX9 : String := "PondHouse$Member"
def TX9 : u_T := fun k => match k with
  | 0 => ("PondHouse$Member", "sort", "I", true)
  | 1 => ("PondHouse$Member", "name", "I", true)
  | 2 => ("PondHouse$Member", "value", "I", true)
  | _ => ("PondHouse$Member", "block", "LPondHouse$Block;", true)
def tyX9 : Nat → FieldType := fun k => match k with
  | 0 => .int
  | 1 => .int
  | 2 => .int
  | _ => .object "PondHouse$Block"
abbrev wsX90 : List Cond := u_ws RX9 TX9 4
theorem nmX9 : ∀ a, a < 4 → ∀ b, b < 4 → a ≠ b → (TX9 a).2.1 ≠ (TX9 b).2.1 := by decide +kernel
theorem tyX9_ok : ∀ k, k < 4 → parseFieldDescriptor (TX9 k).2.2.1 = some (tyX9 k) := by decide +kernel
abbrev cX9_init : ByteArray := prog_22_method_1_code
def yX9_init : MethodName := ⟨RX9, "<init>", "(IIILPondHouse$Block;)V"⟩
def dkwX9_init_1 : List UInt8 := [181, 0, 19, 177]
abbrev dktX9_init_1 : List UInt8 := dkwX9_init_1 ++ []
def dkwX9_init_0 : List UInt8 := [42, 183, 0, 1, 42, 27, 181, 0, 7, 42, 28, 181, 0, 13, 42, 29, 181, 0, 16, 42, 25, 4]
abbrev dktX9_init_0 : List UInt8 := dkwX9_init_0 ++ dktX9_init_1
theorem dksX9_init_0 : cX9_init.data.toList.drop 0 = dktX9_init_0 := by decide +kernel
theorem dksX9_init_1 : cX9_init.data.toList.drop 22 = dktX9_init_1 := dk_seg dksX9_init_0 22 rfl rfl
theorem dX9_init_0 : decode cX9_init 0 = .ok (.aload_n 0, 1) := dk_42 (dk_at dksX9_init_0 0 rfl rfl)
theorem dX9_init_1 : decode cX9_init 1 = .ok (.invokespecial 1, 3) := dk_183 0 1 (dk_at dksX9_init_0 1 rfl rfl)
theorem dX9_init_4 : decode cX9_init 4 = .ok (.aload_n 0, 1) := dk_42 (dk_at dksX9_init_0 4 rfl rfl)
theorem dX9_init_5 : decode cX9_init 5 = .ok (.iload_n 1, 1) := dk_27 (dk_at dksX9_init_0 5 rfl rfl)
theorem dX9_init_6 : decode cX9_init 6 = .ok (.putfield 7, 3) := dk_181 0 7 (dk_at dksX9_init_0 6 rfl rfl)
theorem dX9_init_9 : decode cX9_init 9 = .ok (.aload_n 0, 1) := dk_42 (dk_at dksX9_init_0 9 rfl rfl)
theorem dX9_init_10 : decode cX9_init 10 = .ok (.iload_n 2, 1) := dk_28 (dk_at dksX9_init_0 10 rfl rfl)
theorem dX9_init_11 : decode cX9_init 11 = .ok (.putfield 13, 3) := dk_181 0 13 (dk_at dksX9_init_0 11 rfl rfl)
theorem dX9_init_14 : decode cX9_init 14 = .ok (.aload_n 0, 1) := dk_42 (dk_at dksX9_init_0 14 rfl rfl)
theorem dX9_init_15 : decode cX9_init 15 = .ok (.iload_n 3, 1) := dk_29 (dk_at dksX9_init_0 15 rfl rfl)
theorem dX9_init_16 : decode cX9_init 16 = .ok (.putfield 16, 3) := dk_181 0 16 (dk_at dksX9_init_0 16 rfl rfl)
theorem dX9_init_19 : decode cX9_init 19 = .ok (.aload_n 0, 1) := dk_42 (dk_at dksX9_init_0 19 rfl rfl)
theorem dX9_init_20 : decode cX9_init 20 = .ok (.aload 4, 2) := dk_25 4 (dk_at dksX9_init_0 20 rfl rfl)
theorem dX9_init_22 : decode cX9_init 22 = .ok (.putfield 19, 3) := dk_181 0 19 (dk_at dksX9_init_1 0 rfl rfl)
theorem dX9_init_25 : decode cX9_init 25 = .ok (.return_, 1) := dk_177 (dk_at dksX9_init_1 3 rfl rfl)
theorem q187 : (Jvm.Cond.initialized "PondHouse$Member") ∈ lw_all := lw_g (lw_at lw_m1 27 rfl) rfl
theorem q680 : (Jvm.Cond.selects "PondHouse$Member" ({ cls := "java/lang/Object", name := "getClass", desc := "()Ljava/lang/Class;" } : Jvm.MethodName) ({ cls := "java/lang/Object", name := "getClass", desc := "()Ljava/lang/Class;" } : Jvm.MethodName)) ∈ lw_all := lw_g (lw_at lw_m3 40 rfl) rfl
theorem q1757 : (Jvm.Cond.instantiable "PondHouse$Member" (4 : Nat)) ∈ lw_all := lw_g (lw_at lw_m7 157 rfl) rfl
theorem q2021 : (Jvm.Cond.instanceMethod ({ cls := "PondHouse$Member", name := "<init>", desc := "(IIILPondHouse$Block;)V" } : Jvm.MethodName)) ∈ lw_all := lw_g (lw_at lw_m8 181 rfl) rfl
theorem q2022 : (Jvm.Cond.code ({ cls := "PondHouse$Member", name := "<init>", desc := "(IIILPondHouse$Block;)V" } : Jvm.MethodName) prog_22_method_1_code (5 : Nat) (Option.none : Option Jvm.ClassFile.FieldType)) ∈ lw_all := lw_g (lw_at lw_m8 182 rfl) rfl
theorem q2023 : (Jvm.Cond.methodLink "PondHouse$Member" (1 : Nat) ({ cls := "java/lang/Object", name := "<init>", desc := "()V" } : Jvm.MethodName)) ∈ lw_all := lw_g (lw_at lw_m8 183 rfl) rfl
theorem q2024 : (Jvm.Cond.fieldLink "PondHouse$Member" (7 : Nat) "PondHouse$Member" "sort" "I") ∈ lw_all := lw_g (lw_at lw_m8 184 rfl) rfl
theorem q2027 : (Jvm.Cond.fieldLink "PondHouse$Member" (13 : Nat) "PondHouse$Member" "name" "I") ∈ lw_all := lw_g (lw_at lw_m8 187 rfl) rfl
theorem q2030 : (Jvm.Cond.fieldLink "PondHouse$Member" (16 : Nat) "PondHouse$Member" "value" "I") ∈ lw_all := lw_g (lw_at lw_m8 190 rfl) rfl
theorem q2032 : (Jvm.Cond.fieldLink "PondHouse$Member" (19 : Nat) "PondHouse$Member" "block" "LPondHouse$Block;") ∈ lw_all := lw_g (lw_at lw_m8 192 rfl) rfl
theorem q2034 : (Jvm.Cond.laysFinal "PondHouse$Member" "PondHouse$Member" "sort" "I") ∈ lw_all := lw_g (lw_at lw_m8 194 rfl) rfl
theorem q2035 : (Jvm.Cond.soleField "PondHouse$Member" "sort") ∈ lw_all := lw_g (lw_at lw_m8 195 rfl) rfl
theorem q2036 : (Jvm.Cond.laysFinal "PondHouse$Member" "PondHouse$Member" "name" "I") ∈ lw_all := lw_g (lw_at lw_m8 196 rfl) rfl
theorem q2037 : (Jvm.Cond.soleField "PondHouse$Member" "name") ∈ lw_all := lw_g (lw_at lw_m8 197 rfl) rfl
theorem q2038 : (Jvm.Cond.laysFinal "PondHouse$Member" "PondHouse$Member" "value" "I") ∈ lw_all := lw_g (lw_at lw_m8 198 rfl) rfl
theorem q2039 : (Jvm.Cond.soleField "PondHouse$Member" "value") ∈ lw_all := lw_g (lw_at lw_m8 199 rfl) rfl
theorem q2040 : (Jvm.Cond.laysFinal "PondHouse$Member" "PondHouse$Member" "block" "LPondHouse$Block;") ∈ lw_all := lw_g (lw_at lw_m8 200 rfl) rfl
theorem q2041 : (Jvm.Cond.soleField "PondHouse$Member" "block") ∈ lw_all := lw_g (lw_at lw_m8 201 rfl) rfl
theorem q2042 : (Jvm.Cond.superclass "PondHouse$Member" "java/lang/Object") ∈ lw_all := lw_g (lw_at lw_m8 202 rfl) rfl
theorem q3108 : (Jvm.Cond.castable "PondHouse$Member" "java/lang/Object") ∈ lw_tbl := lw_at lw_m13 68 rfl
theorem in_X9 : ∀ w ∈ wsX90, w ∈ lw_all := lw_in wsX90 [2034, 2036, 2038, 2040] (by decide +kernel) (by decide +kernel)
