/-! PondHouse -/
set_option maxRecDepth 100000
def RX0 : String := "PondHouse"
def TX0 : u_T := fun k => match k with
  | 0 => ("PondHouse", "names", "[Ljava/lang/String;", true)
  | 1 => ("PondHouse", "named", "I", false)
  | 2 => ("PondHouse", "words", "[Ljava/lang/String;", true)
  | 3 => ("PondHouse", "kinds", "[LPondHouse$Kind;", false)
  | 4 => ("PondHouse", "fixed", "[LPondHouse$Fixed;", false)
  | 5 => ("PondHouse", "creatures", "[LPondHouse$Creature;", true)
  | 6 => ("PondHouse", "made", "I", false)
  | 7 => ("PondHouse", "frames", "[LPondHouse$Frame;", true)
  | 8 => ("PondHouse", "asked", "LPondHouse$Frame;", true)
  | 9 => ("PondHouse", "failure", "LPondHouse$Failure;", true)
  | 10 => ("PondHouse", "fuel", "I", false)
  | 11 => ("PondHouse", "calls", "I", false)
  | 12 => ("PondHouse", "inBeat", "Z", false)
  | 13 => ("PondHouse", "ran", "[I", true)
  | 14 => ("PondHouse", "rans", "I", false)
  | 15 => ("PondHouse", "gave", "I", false)
  | 16 => ("PondHouse", "code", "I", false)
  | 17 => ("PondHouse", "tape", "[B", true)
  | 18 => ("PondHouse", "taped", "I", false)
  | 19 => ("PondHouse", "faultKind", "I", false)
  | 20 => ("PondHouse", "faultPlace", "I", false)
  | 21 => ("PondHouse", "refusedText", "LPondHouse$Fault;", true)
  | 22 => ("PondHouse", "reader", "LPondHouse$Reader;", true)
  | 23 => ("PondHouse", "refusal", "LPondHouse$Refusal;", true)
  | 24 => ("PondHouse", "patches", "[LPondHouse$Patch;", true)
  | 25 => ("PondHouse", "patched", "I", false)
  | 26 => ("PondHouse", "greatest", "I", false)
  | 27 => ("PondHouse", "waiting", "LPondHouse$Patch;", false)
  | 28 => ("PondHouse", "wasLost", "[[I", true)
  | 29 => ("PondHouse", "hadLost", "[[Z", true)
  | 30 => ("PondHouse", "kindOf", "[LPondHouse$Kind;", true)
  | 31 => ("PondHouse", "valuesOf", "[[I", true)
  | 32 => ("PondHouse", "formerKinds", "[LPondHouse$Kind;", false)
  | 33 => ("PondHouse", "formerFixed", "[LPondHouse$Fixed;", false)
  | 34 => ("PondHouse", "latest", "LPondHouse$Patch;", false)
  | 35 => ("PondHouse", "acts", "[LPondHouse$LongAct;", true)
  | 36 => ("PondHouse", "beats", "I", false)
  | 37 => ("PondHouse", "wakes", "I", false)
  | 38 => ("PondHouse", "outcomes", "[I", true)
  | 39 => ("PondHouse", "why", "I", false)
  | 40 => ("PondHouse", "whyChange", "I", false)
  | 41 => ("PondHouse", "whyCreature", "I", false)
  | 42 => ("PondHouse", "toldGave", "I", false)
  | 43 => ("PondHouse", "toldCode", "I", false)
  | _ => ("PondHouse", "toldSteps", "I", false)
def tyX0 : Nat → FieldType := fun k => match k with
  | 0 => .array (.object "java/lang/String")
  | 1 => .int
  | 2 => .array (.object "java/lang/String")
  | 3 => .array (.object "PondHouse$Kind")
  | 4 => .array (.object "PondHouse$Fixed")
  | 5 => .array (.object "PondHouse$Creature")
  | 6 => .int
  | 7 => .array (.object "PondHouse$Frame")
  | 8 => .object "PondHouse$Frame"
  | 9 => .object "PondHouse$Failure"
  | 10 => .int
  | 11 => .int
  | 12 => .boolean
  | 13 => .array .int
  | 14 => .int
  | 15 => .int
  | 16 => .int
  | 17 => .array .byte
  | 18 => .int
  | 19 => .int
  | 20 => .int
  | 21 => .object "PondHouse$Fault"
  | 22 => .object "PondHouse$Reader"
  | 23 => .object "PondHouse$Refusal"
  | 24 => .array (.object "PondHouse$Patch")
  | 25 => .int
  | 26 => .int
  | 27 => .object "PondHouse$Patch"
  | 28 => .array (.array .int)
  | 29 => .array (.array .boolean)
  | 30 => .array (.object "PondHouse$Kind")
  | 31 => .array (.array .int)
  | 32 => .array (.object "PondHouse$Kind")
  | 33 => .array (.object "PondHouse$Fixed")
  | 34 => .object "PondHouse$Patch"
  | 35 => .array (.object "PondHouse$LongAct")
  | 36 => .int
  | 37 => .int
  | 38 => .array .int
  | 39 => .int
  | 40 => .int
  | 41 => .int
  | 42 => .int
  | 43 => .int
  | _ => .int
abbrev wsX00 : List Cond := u_ws RX0 TX0 45
set_option maxRecDepth 100000 in
theorem nmX0 : ∀ a, a < 45 → ∀ b, b < 45 → a ≠ b → (TX0 a).2.1 ≠ (TX0 b).2.1 := by decide +kernel
set_option maxRecDepth 100000 in
theorem tyX0_ok : ∀ k, k < 45 → parseFieldDescriptor (TX0 k).2.2.1 = some (tyX0 k) := by decide +kernel
abbrev cX0_back : ByteArray := prog_1_method_33_code
def yX0_back : MethodName := ⟨RX0, "back", "()Z"⟩
def dkwX0_back_8 : List UInt8 := [181, 1, 16, 4, 172]
abbrev dktX0_back_8 : List UInt8 := dkwX0_back_8 ++ []
def dkwX0_back_7 : List UInt8 := [42, 43, 181, 0, 28, 42, 42, 180, 1, 10, 181, 0, 213, 42, 180, 1, 16, 8, 181, 1, 138, 42, 1]
abbrev dktX0_back_7 : List UInt8 := dkwX0_back_7 ++ dktX0_back_8
def dkwX0_back_6 : List UInt8 := [78, 43, 28, 45, 199, 0, 12, 42, 180, 1, 13, 28, 50, 167, 0, 4, 45, 83, 132, 2, 1, 167, 255, 204]
abbrev dktX0_back_6 : List UInt8 := dkwX0_back_6 ++ dktX0_back_7
def dkwX0_back_5 : List UInt8 := [180, 0, 28, 42, 180, 1, 13, 28, 50, 180, 0, 22, 42, 180, 1, 13, 28, 50, 180, 0, 27, 184, 0, 32]
abbrev dktX0_back_5 : List UInt8 := dkwX0_back_5 ++ dktX0_back_6
def dkwX0_back_4 : List UInt8 := [132, 1, 1, 167, 255, 176, 42, 180, 1, 13, 190, 189, 0, 23, 76, 3, 61, 28, 43, 190, 162, 0, 52, 42]
abbrev dktX0_back_4 : List UInt8 := dkwX0_back_4 ++ dktX0_back_5
def dkwX0_back_3 : List UInt8 := [42, 180, 1, 10, 29, 50, 44, 180, 0, 47, 165, 0, 14, 42, 44, 42, 180, 1, 10, 29, 50, 182, 1, 134]
abbrev dktX0_back_3 : List UInt8 := dkwX0_back_3 ++ dktX0_back_4
def dkwX0_back_2 : List UInt8 := [44, 180, 0, 47, 180, 0, 17, 184, 0, 180, 62, 29, 2, 160, 0, 11, 42, 44, 182, 1, 131, 167, 0, 27]
abbrev dktX0_back_2 : List UInt8 := dkwX0_back_2 ++ dktX0_back_3
def dkwX0_back_1 : List UInt8 := [162, 0, 78, 42, 180, 0, 43, 27, 50, 77, 44, 180, 0, 47, 199, 0, 6, 167, 0, 55, 42, 180, 1, 10]
abbrev dktX0_back_1 : List UInt8 := dkwX0_back_1 ++ dktX0_back_2
def dkwX0_back_0 : List UInt8 := [42, 180, 1, 16, 198, 0, 10, 42, 180, 1, 128, 198, 0, 5, 3, 172, 3, 60, 27, 42, 180, 0, 40]
abbrev dktX0_back_0 : List UInt8 := dkwX0_back_0 ++ dktX0_back_1
theorem dksX0_back_0 : cX0_back.data.toList.drop 0 = dktX0_back_0 := by decide +kernel
theorem dksX0_back_1 : cX0_back.data.toList.drop 23 = dktX0_back_1 := dk_seg dksX0_back_0 23 rfl rfl
theorem dksX0_back_2 : cX0_back.data.toList.drop 47 = dktX0_back_2 := dk_seg dksX0_back_1 24 rfl rfl
theorem dksX0_back_3 : cX0_back.data.toList.drop 71 = dktX0_back_3 := dk_seg dksX0_back_2 24 rfl rfl
theorem dksX0_back_4 : cX0_back.data.toList.drop 95 = dktX0_back_4 := dk_seg dksX0_back_3 24 rfl rfl
theorem dksX0_back_5 : cX0_back.data.toList.drop 119 = dktX0_back_5 := dk_seg dksX0_back_4 24 rfl rfl
theorem dksX0_back_6 : cX0_back.data.toList.drop 143 = dktX0_back_6 := dk_seg dksX0_back_5 24 rfl rfl
theorem dksX0_back_7 : cX0_back.data.toList.drop 167 = dktX0_back_7 := dk_seg dksX0_back_6 24 rfl rfl
theorem dksX0_back_8 : cX0_back.data.toList.drop 190 = dktX0_back_8 := dk_seg dksX0_back_7 23 rfl rfl
theorem dX0_back_0 : decode cX0_back 0 = .ok (.aload_n 0, 1) := dk_42 (dk_at dksX0_back_0 0 rfl rfl)
theorem dX0_back_1 : decode cX0_back 1 = .ok (.getfield 272, 3) := dk_180 1 16 (dk_at dksX0_back_0 1 rfl rfl)
theorem dX0_back_4 : decode cX0_back 4 = .ok (.ifnull 10, 3) := dk_198 0 10 (dk_at dksX0_back_0 4 rfl rfl)
theorem dX0_back_7 : decode cX0_back 7 = .ok (.aload_n 0, 1) := dk_42 (dk_at dksX0_back_0 7 rfl rfl)
theorem dX0_back_8 : decode cX0_back 8 = .ok (.getfield 384, 3) := dk_180 1 128 (dk_at dksX0_back_0 8 rfl rfl)
theorem dX0_back_11 : decode cX0_back 11 = .ok (.ifnull 5, 3) := dk_198 0 5 (dk_at dksX0_back_0 11 rfl rfl)
theorem dX0_back_14 : decode cX0_back 14 = .ok (.iconst 0, 1) := dk_3 (dk_at dksX0_back_0 14 rfl rfl)
theorem dX0_back_15 : decode cX0_back 15 = .ok (.ireturn, 1) := dk_172 (dk_at dksX0_back_0 15 rfl rfl)
theorem dX0_back_16 : decode cX0_back 16 = .ok (.iconst 0, 1) := dk_3 (dk_at dksX0_back_0 16 rfl rfl)
theorem dX0_back_17 : decode cX0_back 17 = .ok (.istore_n 1, 1) := dk_60 (dk_at dksX0_back_0 17 rfl rfl)
theorem dX0_back_18 : decode cX0_back 18 = .ok (.iload_n 1, 1) := dk_27 (dk_at dksX0_back_0 18 rfl rfl)
theorem dX0_back_19 : decode cX0_back 19 = .ok (.aload_n 0, 1) := dk_42 (dk_at dksX0_back_0 19 rfl rfl)
theorem dX0_back_20 : decode cX0_back 20 = .ok (.getfield 40, 3) := dk_180 0 40 (dk_at dksX0_back_0 20 rfl rfl)
theorem dX0_back_23 : decode cX0_back 23 = .ok (.if_icmp .ge 78, 3) := dk_162 0 78 (dk_at dksX0_back_1 0 rfl rfl)
theorem dX0_back_26 : decode cX0_back 26 = .ok (.aload_n 0, 1) := dk_42 (dk_at dksX0_back_1 3 rfl rfl)
theorem dX0_back_27 : decode cX0_back 27 = .ok (.getfield 43, 3) := dk_180 0 43 (dk_at dksX0_back_1 4 rfl rfl)
theorem dX0_back_30 : decode cX0_back 30 = .ok (.iload_n 1, 1) := dk_27 (dk_at dksX0_back_1 7 rfl rfl)
theorem dX0_back_31 : decode cX0_back 31 = .ok (.aaload, 1) := dk_50 (dk_at dksX0_back_1 8 rfl rfl)
theorem dX0_back_32 : decode cX0_back 32 = .ok (.astore_n 2, 1) := dk_77 (dk_at dksX0_back_1 9 rfl rfl)
theorem dX0_back_33 : decode cX0_back 33 = .ok (.aload_n 2, 1) := dk_44 (dk_at dksX0_back_1 10 rfl rfl)
theorem dX0_back_34 : decode cX0_back 34 = .ok (.getfield 47, 3) := dk_180 0 47 (dk_at dksX0_back_1 11 rfl rfl)
theorem dX0_back_37 : decode cX0_back 37 = .ok (.ifnonnull 6, 3) := dk_199 0 6 (dk_at dksX0_back_1 14 rfl rfl)
theorem dX0_back_40 : decode cX0_back 40 = .ok (.goto 55, 3) := dk_167 0 55 (dk_at dksX0_back_1 17 rfl rfl)
theorem dX0_back_43 : decode cX0_back 43 = .ok (.aload_n 0, 1) := dk_42 (dk_at dksX0_back_1 20 rfl rfl)
theorem dX0_back_44 : decode cX0_back 44 = .ok (.getfield 266, 3) := dk_180 1 10 (dk_at dksX0_back_1 21 rfl rfl)
theorem dX0_back_47 : decode cX0_back 47 = .ok (.aload_n 2, 1) := dk_44 (dk_at dksX0_back_2 0 rfl rfl)
theorem dX0_back_48 : decode cX0_back 48 = .ok (.getfield 47, 3) := dk_180 0 47 (dk_at dksX0_back_2 1 rfl rfl)
theorem dX0_back_51 : decode cX0_back 51 = .ok (.getfield 17, 3) := dk_180 0 17 (dk_at dksX0_back_2 4 rfl rfl)
theorem dX0_back_54 : decode cX0_back 54 = .ok (.invokestatic 180, 3) := dk_184 0 180 (dk_at dksX0_back_2 7 rfl rfl)
theorem dX0_back_57 : decode cX0_back 57 = .ok (.istore_n 3, 1) := dk_62 (dk_at dksX0_back_2 10 rfl rfl)
theorem dX0_back_58 : decode cX0_back 58 = .ok (.iload_n 3, 1) := dk_29 (dk_at dksX0_back_2 11 rfl rfl)
theorem dX0_back_59 : decode cX0_back 59 = .ok (.iconst (-1), 1) := dk_2 (dk_at dksX0_back_2 12 rfl rfl)
theorem dX0_back_60 : decode cX0_back 60 = .ok (.if_icmp .ne 11, 3) := dk_160 0 11 (dk_at dksX0_back_2 13 rfl rfl)
theorem dX0_back_63 : decode cX0_back 63 = .ok (.aload_n 0, 1) := dk_42 (dk_at dksX0_back_2 16 rfl rfl)
theorem dX0_back_64 : decode cX0_back 64 = .ok (.aload_n 2, 1) := dk_44 (dk_at dksX0_back_2 17 rfl rfl)
theorem dX0_back_65 : decode cX0_back 65 = .ok (.invokevirtual 387, 3) := dk_182 1 131 (dk_at dksX0_back_2 18 rfl rfl)
theorem dX0_back_68 : decode cX0_back 68 = .ok (.goto 27, 3) := dk_167 0 27 (dk_at dksX0_back_2 21 rfl rfl)
theorem dX0_back_71 : decode cX0_back 71 = .ok (.aload_n 0, 1) := dk_42 (dk_at dksX0_back_3 0 rfl rfl)
theorem dX0_back_72 : decode cX0_back 72 = .ok (.getfield 266, 3) := dk_180 1 10 (dk_at dksX0_back_3 1 rfl rfl)
theorem dX0_back_75 : decode cX0_back 75 = .ok (.iload_n 3, 1) := dk_29 (dk_at dksX0_back_3 4 rfl rfl)
theorem dX0_back_76 : decode cX0_back 76 = .ok (.aaload, 1) := dk_50 (dk_at dksX0_back_3 5 rfl rfl)
theorem dX0_back_77 : decode cX0_back 77 = .ok (.aload_n 2, 1) := dk_44 (dk_at dksX0_back_3 6 rfl rfl)
theorem dX0_back_78 : decode cX0_back 78 = .ok (.getfield 47, 3) := dk_180 0 47 (dk_at dksX0_back_3 7 rfl rfl)
theorem dX0_back_81 : decode cX0_back 81 = .ok (.if_acmp .eq 14, 3) := dk_165 0 14 (dk_at dksX0_back_3 10 rfl rfl)
theorem dX0_back_84 : decode cX0_back 84 = .ok (.aload_n 0, 1) := dk_42 (dk_at dksX0_back_3 13 rfl rfl)
theorem dX0_back_85 : decode cX0_back 85 = .ok (.aload_n 2, 1) := dk_44 (dk_at dksX0_back_3 14 rfl rfl)
theorem dX0_back_86 : decode cX0_back 86 = .ok (.aload_n 0, 1) := dk_42 (dk_at dksX0_back_3 15 rfl rfl)
theorem dX0_back_87 : decode cX0_back 87 = .ok (.getfield 266, 3) := dk_180 1 10 (dk_at dksX0_back_3 16 rfl rfl)
theorem dX0_back_90 : decode cX0_back 90 = .ok (.iload_n 3, 1) := dk_29 (dk_at dksX0_back_3 19 rfl rfl)
theorem dX0_back_91 : decode cX0_back 91 = .ok (.aaload, 1) := dk_50 (dk_at dksX0_back_3 20 rfl rfl)
theorem dX0_back_92 : decode cX0_back 92 = .ok (.invokevirtual 390, 3) := dk_182 1 134 (dk_at dksX0_back_3 21 rfl rfl)
theorem dX0_back_95 : decode cX0_back 95 = .ok (.iinc 1 1, 3) := dk_132 1 1 (dk_at dksX0_back_4 0 rfl rfl)
theorem dX0_back_98 : decode cX0_back 98 = .ok (.goto (-80), 3) := dk_167 255 176 (dk_at dksX0_back_4 3 rfl rfl)
theorem dX0_back_101 : decode cX0_back 101 = .ok (.aload_n 0, 1) := dk_42 (dk_at dksX0_back_4 6 rfl rfl)
theorem dX0_back_102 : decode cX0_back 102 = .ok (.getfield 269, 3) := dk_180 1 13 (dk_at dksX0_back_4 7 rfl rfl)
theorem dX0_back_105 : decode cX0_back 105 = .ok (.arraylength, 1) := dk_190 (dk_at dksX0_back_4 10 rfl rfl)
theorem dX0_back_106 : decode cX0_back 106 = .ok (.anewarray 23, 3) := dk_189 0 23 (dk_at dksX0_back_4 11 rfl rfl)
theorem dX0_back_109 : decode cX0_back 109 = .ok (.astore_n 1, 1) := dk_76 (dk_at dksX0_back_4 14 rfl rfl)
theorem dX0_back_110 : decode cX0_back 110 = .ok (.iconst 0, 1) := dk_3 (dk_at dksX0_back_4 15 rfl rfl)
theorem dX0_back_111 : decode cX0_back 111 = .ok (.istore_n 2, 1) := dk_61 (dk_at dksX0_back_4 16 rfl rfl)
theorem dX0_back_112 : decode cX0_back 112 = .ok (.iload_n 2, 1) := dk_28 (dk_at dksX0_back_4 17 rfl rfl)
theorem dX0_back_113 : decode cX0_back 113 = .ok (.aload_n 1, 1) := dk_43 (dk_at dksX0_back_4 18 rfl rfl)
theorem dX0_back_114 : decode cX0_back 114 = .ok (.arraylength, 1) := dk_190 (dk_at dksX0_back_4 19 rfl rfl)
theorem dX0_back_115 : decode cX0_back 115 = .ok (.if_icmp .ge 52, 3) := dk_162 0 52 (dk_at dksX0_back_4 20 rfl rfl)
theorem dX0_back_118 : decode cX0_back 118 = .ok (.aload_n 0, 1) := dk_42 (dk_at dksX0_back_4 23 rfl rfl)
theorem dX0_back_119 : decode cX0_back 119 = .ok (.getfield 28, 3) := dk_180 0 28 (dk_at dksX0_back_5 0 rfl rfl)
theorem dX0_back_122 : decode cX0_back 122 = .ok (.aload_n 0, 1) := dk_42 (dk_at dksX0_back_5 3 rfl rfl)
theorem dX0_back_123 : decode cX0_back 123 = .ok (.getfield 269, 3) := dk_180 1 13 (dk_at dksX0_back_5 4 rfl rfl)
theorem dX0_back_126 : decode cX0_back 126 = .ok (.iload_n 2, 1) := dk_28 (dk_at dksX0_back_5 7 rfl rfl)
theorem dX0_back_127 : decode cX0_back 127 = .ok (.aaload, 1) := dk_50 (dk_at dksX0_back_5 8 rfl rfl)
theorem dX0_back_128 : decode cX0_back 128 = .ok (.getfield 22, 3) := dk_180 0 22 (dk_at dksX0_back_5 9 rfl rfl)
theorem dX0_back_131 : decode cX0_back 131 = .ok (.aload_n 0, 1) := dk_42 (dk_at dksX0_back_5 12 rfl rfl)
theorem dX0_back_132 : decode cX0_back 132 = .ok (.getfield 269, 3) := dk_180 1 13 (dk_at dksX0_back_5 13 rfl rfl)
theorem dX0_back_135 : decode cX0_back 135 = .ok (.iload_n 2, 1) := dk_28 (dk_at dksX0_back_5 16 rfl rfl)
theorem dX0_back_136 : decode cX0_back 136 = .ok (.aaload, 1) := dk_50 (dk_at dksX0_back_5 17 rfl rfl)
theorem dX0_back_137 : decode cX0_back 137 = .ok (.getfield 27, 3) := dk_180 0 27 (dk_at dksX0_back_5 18 rfl rfl)
theorem dX0_back_140 : decode cX0_back 140 = .ok (.invokestatic 32, 3) := dk_184 0 32 (dk_at dksX0_back_5 21 rfl rfl)
theorem dX0_back_143 : decode cX0_back 143 = .ok (.astore_n 3, 1) := dk_78 (dk_at dksX0_back_6 0 rfl rfl)
theorem dX0_back_144 : decode cX0_back 144 = .ok (.aload_n 1, 1) := dk_43 (dk_at dksX0_back_6 1 rfl rfl)
theorem dX0_back_145 : decode cX0_back 145 = .ok (.iload_n 2, 1) := dk_28 (dk_at dksX0_back_6 2 rfl rfl)
theorem dX0_back_146 : decode cX0_back 146 = .ok (.aload_n 3, 1) := dk_45 (dk_at dksX0_back_6 3 rfl rfl)
theorem dX0_back_147 : decode cX0_back 147 = .ok (.ifnonnull 12, 3) := dk_199 0 12 (dk_at dksX0_back_6 4 rfl rfl)
theorem dX0_back_150 : decode cX0_back 150 = .ok (.aload_n 0, 1) := dk_42 (dk_at dksX0_back_6 7 rfl rfl)
theorem dX0_back_151 : decode cX0_back 151 = .ok (.getfield 269, 3) := dk_180 1 13 (dk_at dksX0_back_6 8 rfl rfl)
theorem dX0_back_154 : decode cX0_back 154 = .ok (.iload_n 2, 1) := dk_28 (dk_at dksX0_back_6 11 rfl rfl)
theorem dX0_back_155 : decode cX0_back 155 = .ok (.aaload, 1) := dk_50 (dk_at dksX0_back_6 12 rfl rfl)
theorem dX0_back_156 : decode cX0_back 156 = .ok (.goto 4, 3) := dk_167 0 4 (dk_at dksX0_back_6 13 rfl rfl)
theorem dX0_back_159 : decode cX0_back 159 = .ok (.aload_n 3, 1) := dk_45 (dk_at dksX0_back_6 16 rfl rfl)
theorem dX0_back_160 : decode cX0_back 160 = .ok (.aastore, 1) := dk_83 (dk_at dksX0_back_6 17 rfl rfl)
theorem dX0_back_161 : decode cX0_back 161 = .ok (.iinc 2 1, 3) := dk_132 2 1 (dk_at dksX0_back_6 18 rfl rfl)
theorem dX0_back_164 : decode cX0_back 164 = .ok (.goto (-52), 3) := dk_167 255 204 (dk_at dksX0_back_6 21 rfl rfl)
theorem dX0_back_167 : decode cX0_back 167 = .ok (.aload_n 0, 1) := dk_42 (dk_at dksX0_back_7 0 rfl rfl)
theorem dX0_back_168 : decode cX0_back 168 = .ok (.aload_n 1, 1) := dk_43 (dk_at dksX0_back_7 1 rfl rfl)
theorem dX0_back_169 : decode cX0_back 169 = .ok (.putfield 28, 3) := dk_181 0 28 (dk_at dksX0_back_7 2 rfl rfl)
theorem dX0_back_172 : decode cX0_back 172 = .ok (.aload_n 0, 1) := dk_42 (dk_at dksX0_back_7 5 rfl rfl)
theorem dX0_back_173 : decode cX0_back 173 = .ok (.aload_n 0, 1) := dk_42 (dk_at dksX0_back_7 6 rfl rfl)
theorem dX0_back_174 : decode cX0_back 174 = .ok (.getfield 266, 3) := dk_180 1 10 (dk_at dksX0_back_7 7 rfl rfl)
theorem dX0_back_177 : decode cX0_back 177 = .ok (.putfield 213, 3) := dk_181 0 213 (dk_at dksX0_back_7 10 rfl rfl)
theorem dX0_back_180 : decode cX0_back 180 = .ok (.aload_n 0, 1) := dk_42 (dk_at dksX0_back_7 13 rfl rfl)
theorem dX0_back_181 : decode cX0_back 181 = .ok (.getfield 272, 3) := dk_180 1 16 (dk_at dksX0_back_7 14 rfl rfl)
theorem dX0_back_184 : decode cX0_back 184 = .ok (.iconst 5, 1) := dk_8 (dk_at dksX0_back_7 17 rfl rfl)
theorem dX0_back_185 : decode cX0_back 185 = .ok (.putfield 394, 3) := dk_181 1 138 (dk_at dksX0_back_7 18 rfl rfl)
theorem dX0_back_188 : decode cX0_back 188 = .ok (.aload_n 0, 1) := dk_42 (dk_at dksX0_back_7 21 rfl rfl)
theorem dX0_back_189 : decode cX0_back 189 = .ok (.aconst_null, 1) := dk_1 (dk_at dksX0_back_7 22 rfl rfl)
theorem dX0_back_190 : decode cX0_back 190 = .ok (.putfield 272, 3) := dk_181 1 16 (dk_at dksX0_back_8 0 rfl rfl)
theorem dX0_back_193 : decode cX0_back 193 = .ok (.iconst 1, 1) := dk_4 (dk_at dksX0_back_8 3 rfl rfl)
theorem dX0_back_194 : decode cX0_back 194 = .ok (.ireturn, 1) := dk_172 (dk_at dksX0_back_8 4 rfl rfl)
abbrev cX0_find : ByteArray := prog_1_method_3_code
def yX0_find : MethodName := ⟨RX0, "find", "([LPondHouse$Kind;I)I"⟩
def dkwX0_find_1 : List UInt8 := [167, 255, 235, 2, 172]
abbrev dktX0_find_1 : List UInt8 := dkwX0_find_1 ++ []
def dkwX0_find_0 : List UInt8 := [3, 61, 28, 42, 190, 162, 0, 21, 42, 28, 50, 180, 0, 17, 27, 160, 0, 5, 28, 172, 132, 2, 1]
abbrev dktX0_find_0 : List UInt8 := dkwX0_find_0 ++ dktX0_find_1
theorem dksX0_find_0 : cX0_find.data.toList.drop 0 = dktX0_find_0 := by decide +kernel
theorem dksX0_find_1 : cX0_find.data.toList.drop 23 = dktX0_find_1 := dk_seg dksX0_find_0 23 rfl rfl
theorem dX0_find_0 : decode cX0_find 0 = .ok (.iconst 0, 1) := dk_3 (dk_at dksX0_find_0 0 rfl rfl)
theorem dX0_find_1 : decode cX0_find 1 = .ok (.istore_n 2, 1) := dk_61 (dk_at dksX0_find_0 1 rfl rfl)
theorem dX0_find_2 : decode cX0_find 2 = .ok (.iload_n 2, 1) := dk_28 (dk_at dksX0_find_0 2 rfl rfl)
theorem dX0_find_3 : decode cX0_find 3 = .ok (.aload_n 0, 1) := dk_42 (dk_at dksX0_find_0 3 rfl rfl)
theorem dX0_find_4 : decode cX0_find 4 = .ok (.arraylength, 1) := dk_190 (dk_at dksX0_find_0 4 rfl rfl)
theorem dX0_find_5 : decode cX0_find 5 = .ok (.if_icmp .ge 21, 3) := dk_162 0 21 (dk_at dksX0_find_0 5 rfl rfl)
theorem dX0_find_8 : decode cX0_find 8 = .ok (.aload_n 0, 1) := dk_42 (dk_at dksX0_find_0 8 rfl rfl)
theorem dX0_find_9 : decode cX0_find 9 = .ok (.iload_n 2, 1) := dk_28 (dk_at dksX0_find_0 9 rfl rfl)
theorem dX0_find_10 : decode cX0_find 10 = .ok (.aaload, 1) := dk_50 (dk_at dksX0_find_0 10 rfl rfl)
theorem dX0_find_11 : decode cX0_find 11 = .ok (.getfield 17, 3) := dk_180 0 17 (dk_at dksX0_find_0 11 rfl rfl)
theorem dX0_find_14 : decode cX0_find 14 = .ok (.iload_n 1, 1) := dk_27 (dk_at dksX0_find_0 14 rfl rfl)
theorem dX0_find_15 : decode cX0_find 15 = .ok (.if_icmp .ne 5, 3) := dk_160 0 5 (dk_at dksX0_find_0 15 rfl rfl)
theorem dX0_find_18 : decode cX0_find 18 = .ok (.iload_n 2, 1) := dk_28 (dk_at dksX0_find_0 18 rfl rfl)
theorem dX0_find_19 : decode cX0_find 19 = .ok (.ireturn, 1) := dk_172 (dk_at dksX0_find_0 19 rfl rfl)
theorem dX0_find_20 : decode cX0_find 20 = .ok (.iinc 2 1, 3) := dk_132 2 1 (dk_at dksX0_find_0 20 rfl rfl)
theorem dX0_find_23 : decode cX0_find 23 = .ok (.goto (-21), 3) := dk_167 255 235 (dk_at dksX0_find_1 0 rfl rfl)
theorem dX0_find_26 : decode cX0_find 26 = .ok (.iconst (-1), 1) := dk_2 (dk_at dksX0_find_1 3 rfl rfl)
theorem dX0_find_27 : decode cX0_find 27 = .ok (.ireturn, 1) := dk_172 (dk_at dksX0_find_1 4 rfl rfl)
abbrev cX0_ends : ByteArray := prog_1_method_35_code
def yX0_ends : MethodName := ⟨RX0, "ends", "(LPondHouse$Creature;)V"⟩
def dkwX0_ends_0 : List UInt8 := [43, 1, 181, 0, 47, 42, 43, 182, 1, 20, 177]
abbrev dktX0_ends_0 : List UInt8 := dkwX0_ends_0 ++ []
theorem dksX0_ends_0 : cX0_ends.data.toList.drop 0 = dktX0_ends_0 := by decide +kernel
theorem dX0_ends_0 : decode cX0_ends 0 = .ok (.aload_n 1, 1) := dk_43 (dk_at dksX0_ends_0 0 rfl rfl)
theorem dX0_ends_1 : decode cX0_ends 1 = .ok (.aconst_null, 1) := dk_1 (dk_at dksX0_ends_0 1 rfl rfl)
theorem dX0_ends_2 : decode cX0_ends 2 = .ok (.putfield 47, 3) := dk_181 0 47 (dk_at dksX0_ends_0 2 rfl rfl)
theorem dX0_ends_5 : decode cX0_ends 5 = .ok (.aload_n 0, 1) := dk_42 (dk_at dksX0_ends_0 5 rfl rfl)
theorem dX0_ends_6 : decode cX0_ends 6 = .ok (.aload_n 1, 1) := dk_43 (dk_at dksX0_ends_0 6 rfl rfl)
theorem dX0_ends_7 : decode cX0_ends 7 = .ok (.invokevirtual 276, 3) := dk_182 1 20 (dk_at dksX0_ends_0 7 rfl rfl)
theorem dX0_ends_10 : decode cX0_ends 10 = .ok (.return_, 1) := dk_177 (dk_at dksX0_ends_0 10 rfl rfl)
abbrev cX0_endsLong : ByteArray := prog_1_method_36_code
def yX0_endsLong : MethodName := ⟨RX0, "endsLong", "(LPondHouse$Creature;)V"⟩
def dkwX0_endsLong_3 : List UInt8 := [177]
abbrev dktX0_endsLong_3 : List UInt8 := dkwX0_endsLong_3 ++ []
def dkwX0_endsLong_2 : List UInt8 := [165, 0, 6, 167, 0, 15, 25, 5, 3, 181, 1, 145, 25, 5, 6, 181, 1, 155, 132, 4, 1, 167, 255, 201]
abbrev dktX0_endsLong_2 : List UInt8 := dkwX0_endsLong_2 ++ dktX0_endsLong_3
def dkwX0_endsLong_1 : List UInt8 := [25, 5, 198, 0, 38, 25, 5, 180, 1, 145, 153, 0, 30, 25, 5, 180, 1, 149, 180, 1, 152, 43]
abbrev dktX0_endsLong_1 : List UInt8 := dkwX0_endsLong_1 ++ dktX0_endsLong_2
def dkwX0_endsLong_0 : List UInt8 := [42, 180, 1, 141, 77, 44, 190, 62, 3, 54, 4, 21, 4, 29, 162, 0, 55, 44, 21, 4, 50, 58, 5]
abbrev dktX0_endsLong_0 : List UInt8 := dkwX0_endsLong_0 ++ dktX0_endsLong_1
theorem dksX0_endsLong_0 : cX0_endsLong.data.toList.drop 0 = dktX0_endsLong_0 := by decide +kernel
theorem dksX0_endsLong_1 : cX0_endsLong.data.toList.drop 23 = dktX0_endsLong_1 := dk_seg dksX0_endsLong_0 23 rfl rfl
theorem dksX0_endsLong_2 : cX0_endsLong.data.toList.drop 45 = dktX0_endsLong_2 := dk_seg dksX0_endsLong_1 22 rfl rfl
theorem dksX0_endsLong_3 : cX0_endsLong.data.toList.drop 69 = dktX0_endsLong_3 := dk_seg dksX0_endsLong_2 24 rfl rfl
theorem dX0_endsLong_0 : decode cX0_endsLong 0 = .ok (.aload_n 0, 1) := dk_42 (dk_at dksX0_endsLong_0 0 rfl rfl)
theorem dX0_endsLong_1 : decode cX0_endsLong 1 = .ok (.getfield 397, 3) := dk_180 1 141 (dk_at dksX0_endsLong_0 1 rfl rfl)
theorem dX0_endsLong_4 : decode cX0_endsLong 4 = .ok (.astore_n 2, 1) := dk_77 (dk_at dksX0_endsLong_0 4 rfl rfl)
theorem dX0_endsLong_5 : decode cX0_endsLong 5 = .ok (.aload_n 2, 1) := dk_44 (dk_at dksX0_endsLong_0 5 rfl rfl)
theorem dX0_endsLong_6 : decode cX0_endsLong 6 = .ok (.arraylength, 1) := dk_190 (dk_at dksX0_endsLong_0 6 rfl rfl)
theorem dX0_endsLong_7 : decode cX0_endsLong 7 = .ok (.istore_n 3, 1) := dk_62 (dk_at dksX0_endsLong_0 7 rfl rfl)
theorem dX0_endsLong_8 : decode cX0_endsLong 8 = .ok (.iconst 0, 1) := dk_3 (dk_at dksX0_endsLong_0 8 rfl rfl)
theorem dX0_endsLong_9 : decode cX0_endsLong 9 = .ok (.istore 4, 2) := dk_54 4 (dk_at dksX0_endsLong_0 9 rfl rfl)
theorem dX0_endsLong_11 : decode cX0_endsLong 11 = .ok (.iload 4, 2) := dk_21 4 (dk_at dksX0_endsLong_0 11 rfl rfl)
theorem dX0_endsLong_13 : decode cX0_endsLong 13 = .ok (.iload_n 3, 1) := dk_29 (dk_at dksX0_endsLong_0 13 rfl rfl)
theorem dX0_endsLong_14 : decode cX0_endsLong 14 = .ok (.if_icmp .ge 55, 3) := dk_162 0 55 (dk_at dksX0_endsLong_0 14 rfl rfl)
theorem dX0_endsLong_17 : decode cX0_endsLong 17 = .ok (.aload_n 2, 1) := dk_44 (dk_at dksX0_endsLong_0 17 rfl rfl)
theorem dX0_endsLong_18 : decode cX0_endsLong 18 = .ok (.iload 4, 2) := dk_21 4 (dk_at dksX0_endsLong_0 18 rfl rfl)
theorem dX0_endsLong_20 : decode cX0_endsLong 20 = .ok (.aaload, 1) := dk_50 (dk_at dksX0_endsLong_0 20 rfl rfl)
theorem dX0_endsLong_21 : decode cX0_endsLong 21 = .ok (.astore 5, 2) := dk_58 5 (dk_at dksX0_endsLong_0 21 rfl rfl)
theorem dX0_endsLong_23 : decode cX0_endsLong 23 = .ok (.aload 5, 2) := dk_25 5 (dk_at dksX0_endsLong_1 0 rfl rfl)
theorem dX0_endsLong_25 : decode cX0_endsLong 25 = .ok (.ifnull 38, 3) := dk_198 0 38 (dk_at dksX0_endsLong_1 2 rfl rfl)
theorem dX0_endsLong_28 : decode cX0_endsLong 28 = .ok (.aload 5, 2) := dk_25 5 (dk_at dksX0_endsLong_1 5 rfl rfl)
theorem dX0_endsLong_30 : decode cX0_endsLong 30 = .ok (.getfield 401, 3) := dk_180 1 145 (dk_at dksX0_endsLong_1 7 rfl rfl)
theorem dX0_endsLong_33 : decode cX0_endsLong 33 = .ok (.ifCond .eq 30, 3) := dk_153 0 30 (dk_at dksX0_endsLong_1 10 rfl rfl)
theorem dX0_endsLong_36 : decode cX0_endsLong 36 = .ok (.aload 5, 2) := dk_25 5 (dk_at dksX0_endsLong_1 13 rfl rfl)
theorem dX0_endsLong_38 : decode cX0_endsLong 38 = .ok (.getfield 405, 3) := dk_180 1 149 (dk_at dksX0_endsLong_1 15 rfl rfl)
theorem dX0_endsLong_41 : decode cX0_endsLong 41 = .ok (.getfield 408, 3) := dk_180 1 152 (dk_at dksX0_endsLong_1 18 rfl rfl)
theorem dX0_endsLong_44 : decode cX0_endsLong 44 = .ok (.aload_n 1, 1) := dk_43 (dk_at dksX0_endsLong_1 21 rfl rfl)
theorem dX0_endsLong_45 : decode cX0_endsLong 45 = .ok (.if_acmp .eq 6, 3) := dk_165 0 6 (dk_at dksX0_endsLong_2 0 rfl rfl)
theorem dX0_endsLong_48 : decode cX0_endsLong 48 = .ok (.goto 15, 3) := dk_167 0 15 (dk_at dksX0_endsLong_2 3 rfl rfl)
theorem dX0_endsLong_51 : decode cX0_endsLong 51 = .ok (.aload 5, 2) := dk_25 5 (dk_at dksX0_endsLong_2 6 rfl rfl)
theorem dX0_endsLong_53 : decode cX0_endsLong 53 = .ok (.iconst 0, 1) := dk_3 (dk_at dksX0_endsLong_2 8 rfl rfl)
theorem dX0_endsLong_54 : decode cX0_endsLong 54 = .ok (.putfield 401, 3) := dk_181 1 145 (dk_at dksX0_endsLong_2 9 rfl rfl)
theorem dX0_endsLong_57 : decode cX0_endsLong 57 = .ok (.aload 5, 2) := dk_25 5 (dk_at dksX0_endsLong_2 12 rfl rfl)
theorem dX0_endsLong_59 : decode cX0_endsLong 59 = .ok (.iconst 3, 1) := dk_6 (dk_at dksX0_endsLong_2 14 rfl rfl)
theorem dX0_endsLong_60 : decode cX0_endsLong 60 = .ok (.putfield 411, 3) := dk_181 1 155 (dk_at dksX0_endsLong_2 15 rfl rfl)
theorem dX0_endsLong_63 : decode cX0_endsLong 63 = .ok (.iinc 4 1, 3) := dk_132 4 1 (dk_at dksX0_endsLong_2 18 rfl rfl)
theorem dX0_endsLong_66 : decode cX0_endsLong 66 = .ok (.goto (-55), 3) := dk_167 255 201 (dk_at dksX0_endsLong_2 21 rfl rfl)
theorem dX0_endsLong_69 : decode cX0_endsLong 69 = .ok (.return_, 1) := dk_177 (dk_at dksX0_endsLong_3 0 rfl rfl)
abbrev cX0_returns : ByteArray := prog_1_method_34_code
def yX0_returns : MethodName := ⟨RX0, "returns", "(LPondHouse$Creature;LPondHouse$Kind;)V"⟩
def dkwX0_returns_6 : List UInt8 := [181, 0, 47, 43, 45, 181, 1, 53, 177]
abbrev dktX0_returns_6 : List UInt8 := dkwX0_returns_6 ++ []
def dkwX0_returns_5 : List UInt8 := [180, 1, 84, 21, 6, 46, 167, 0, 9, 44, 21, 5, 182, 1, 71, 79, 132, 5, 1, 167, 255, 200, 43, 44]
abbrev dktX0_returns_5 : List UInt8 := dkwX0_returns_5 ++ dktX0_returns_6
def dkwX0_returns_4 : List UInt8 := [54, 6, 25, 4, 21, 5, 51, 154, 0, 33, 45, 21, 5, 43, 180, 1, 96, 21, 6, 51, 153, 0, 13, 43]
abbrev dktX0_returns_4 : List UInt8 := dkwX0_returns_4 ++ dktX0_returns_5
def dkwX0_returns_3 : List UInt8 := [4, 84, 132, 5, 1, 167, 255, 197, 3, 54, 5, 21, 5, 45, 190, 162, 0, 55, 44, 21, 5, 182, 0, 194]
abbrev dktX0_returns_3 : List UInt8 := dkwX0_returns_3 ++ dktX0_returns_4
def dkwX0_returns_2 : List UInt8 := [21, 6, 2, 160, 0, 6, 167, 0, 20, 45, 21, 6, 43, 180, 1, 53, 21, 5, 46, 79, 25, 4, 21, 6]
abbrev dktX0_returns_2 : List UInt8 := dkwX0_returns_2 ++ dktX0_returns_3
def dkwX0_returns_1 : List UInt8 := [162, 0, 55, 43, 180, 0, 47, 21, 5, 44, 42, 180, 0, 213, 42, 180, 1, 10, 184, 1, 63, 54, 6]
abbrev dktX0_returns_1 : List UInt8 := dkwX0_returns_1 ++ dktX0_returns_2
def dkwX0_returns_0 : List UInt8 := [44, 182, 1, 56, 188, 10, 78, 45, 190, 188, 4, 58, 4, 3, 54, 5, 21, 5, 43, 180, 1, 53, 190]
abbrev dktX0_returns_0 : List UInt8 := dkwX0_returns_0 ++ dktX0_returns_1
theorem dksX0_returns_0 : cX0_returns.data.toList.drop 0 = dktX0_returns_0 := by decide +kernel
theorem dksX0_returns_1 : cX0_returns.data.toList.drop 23 = dktX0_returns_1 := dk_seg dksX0_returns_0 23 rfl rfl
theorem dksX0_returns_2 : cX0_returns.data.toList.drop 46 = dktX0_returns_2 := dk_seg dksX0_returns_1 23 rfl rfl
theorem dksX0_returns_3 : cX0_returns.data.toList.drop 70 = dktX0_returns_3 := dk_seg dksX0_returns_2 24 rfl rfl
theorem dksX0_returns_4 : cX0_returns.data.toList.drop 94 = dktX0_returns_4 := dk_seg dksX0_returns_3 24 rfl rfl
theorem dksX0_returns_5 : cX0_returns.data.toList.drop 118 = dktX0_returns_5 := dk_seg dksX0_returns_4 24 rfl rfl
theorem dksX0_returns_6 : cX0_returns.data.toList.drop 142 = dktX0_returns_6 := dk_seg dksX0_returns_5 24 rfl rfl
theorem dX0_returns_0 : decode cX0_returns 0 = .ok (.aload_n 2, 1) := dk_44 (dk_at dksX0_returns_0 0 rfl rfl)
theorem dX0_returns_1 : decode cX0_returns 1 = .ok (.invokevirtual 312, 3) := dk_182 1 56 (dk_at dksX0_returns_0 1 rfl rfl)
theorem dX0_returns_4 : decode cX0_returns 4 = .ok (.newarray .int, 2) := dk_188_10 (dk_at dksX0_returns_0 4 rfl rfl)
theorem dX0_returns_6 : decode cX0_returns 6 = .ok (.astore_n 3, 1) := dk_78 (dk_at dksX0_returns_0 6 rfl rfl)
theorem dX0_returns_7 : decode cX0_returns 7 = .ok (.aload_n 3, 1) := dk_45 (dk_at dksX0_returns_0 7 rfl rfl)
theorem dX0_returns_8 : decode cX0_returns 8 = .ok (.arraylength, 1) := dk_190 (dk_at dksX0_returns_0 8 rfl rfl)
theorem dX0_returns_9 : decode cX0_returns 9 = .ok (.newarray .boolean, 2) := dk_188_4 (dk_at dksX0_returns_0 9 rfl rfl)
theorem dX0_returns_11 : decode cX0_returns 11 = .ok (.astore 4, 2) := dk_58 4 (dk_at dksX0_returns_0 11 rfl rfl)
theorem dX0_returns_13 : decode cX0_returns 13 = .ok (.iconst 0, 1) := dk_3 (dk_at dksX0_returns_0 13 rfl rfl)
theorem dX0_returns_14 : decode cX0_returns 14 = .ok (.istore 5, 2) := dk_54 5 (dk_at dksX0_returns_0 14 rfl rfl)
theorem dX0_returns_16 : decode cX0_returns 16 = .ok (.iload 5, 2) := dk_21 5 (dk_at dksX0_returns_0 16 rfl rfl)
theorem dX0_returns_18 : decode cX0_returns 18 = .ok (.aload_n 1, 1) := dk_43 (dk_at dksX0_returns_0 18 rfl rfl)
theorem dX0_returns_19 : decode cX0_returns 19 = .ok (.getfield 309, 3) := dk_180 1 53 (dk_at dksX0_returns_0 19 rfl rfl)
theorem dX0_returns_22 : decode cX0_returns 22 = .ok (.arraylength, 1) := dk_190 (dk_at dksX0_returns_0 22 rfl rfl)
theorem dX0_returns_23 : decode cX0_returns 23 = .ok (.if_icmp .ge 55, 3) := dk_162 0 55 (dk_at dksX0_returns_1 0 rfl rfl)
theorem dX0_returns_26 : decode cX0_returns 26 = .ok (.aload_n 1, 1) := dk_43 (dk_at dksX0_returns_1 3 rfl rfl)
theorem dX0_returns_27 : decode cX0_returns 27 = .ok (.getfield 47, 3) := dk_180 0 47 (dk_at dksX0_returns_1 4 rfl rfl)
theorem dX0_returns_30 : decode cX0_returns 30 = .ok (.iload 5, 2) := dk_21 5 (dk_at dksX0_returns_1 7 rfl rfl)
theorem dX0_returns_32 : decode cX0_returns 32 = .ok (.aload_n 2, 1) := dk_44 (dk_at dksX0_returns_1 9 rfl rfl)
theorem dX0_returns_33 : decode cX0_returns 33 = .ok (.aload_n 0, 1) := dk_42 (dk_at dksX0_returns_1 10 rfl rfl)
theorem dX0_returns_34 : decode cX0_returns 34 = .ok (.getfield 213, 3) := dk_180 0 213 (dk_at dksX0_returns_1 11 rfl rfl)
theorem dX0_returns_37 : decode cX0_returns 37 = .ok (.aload_n 0, 1) := dk_42 (dk_at dksX0_returns_1 14 rfl rfl)
theorem dX0_returns_38 : decode cX0_returns 38 = .ok (.getfield 266, 3) := dk_180 1 10 (dk_at dksX0_returns_1 15 rfl rfl)
theorem dX0_returns_41 : decode cX0_returns 41 = .ok (.invokestatic 319, 3) := dk_184 1 63 (dk_at dksX0_returns_1 18 rfl rfl)
theorem dX0_returns_44 : decode cX0_returns 44 = .ok (.istore 6, 2) := dk_54 6 (dk_at dksX0_returns_1 21 rfl rfl)
theorem dX0_returns_46 : decode cX0_returns 46 = .ok (.iload 6, 2) := dk_21 6 (dk_at dksX0_returns_2 0 rfl rfl)
theorem dX0_returns_48 : decode cX0_returns 48 = .ok (.iconst (-1), 1) := dk_2 (dk_at dksX0_returns_2 2 rfl rfl)
theorem dX0_returns_49 : decode cX0_returns 49 = .ok (.if_icmp .ne 6, 3) := dk_160 0 6 (dk_at dksX0_returns_2 3 rfl rfl)
theorem dX0_returns_52 : decode cX0_returns 52 = .ok (.goto 20, 3) := dk_167 0 20 (dk_at dksX0_returns_2 6 rfl rfl)
theorem dX0_returns_55 : decode cX0_returns 55 = .ok (.aload_n 3, 1) := dk_45 (dk_at dksX0_returns_2 9 rfl rfl)
theorem dX0_returns_56 : decode cX0_returns 56 = .ok (.iload 6, 2) := dk_21 6 (dk_at dksX0_returns_2 10 rfl rfl)
theorem dX0_returns_58 : decode cX0_returns 58 = .ok (.aload_n 1, 1) := dk_43 (dk_at dksX0_returns_2 12 rfl rfl)
theorem dX0_returns_59 : decode cX0_returns 59 = .ok (.getfield 309, 3) := dk_180 1 53 (dk_at dksX0_returns_2 13 rfl rfl)
theorem dX0_returns_62 : decode cX0_returns 62 = .ok (.iload 5, 2) := dk_21 5 (dk_at dksX0_returns_2 16 rfl rfl)
theorem dX0_returns_64 : decode cX0_returns 64 = .ok (.iaload, 1) := dk_46 (dk_at dksX0_returns_2 18 rfl rfl)
theorem dX0_returns_65 : decode cX0_returns 65 = .ok (.iastore, 1) := dk_79 (dk_at dksX0_returns_2 19 rfl rfl)
theorem dX0_returns_66 : decode cX0_returns 66 = .ok (.aload 4, 2) := dk_25 4 (dk_at dksX0_returns_2 20 rfl rfl)
theorem dX0_returns_68 : decode cX0_returns 68 = .ok (.iload 6, 2) := dk_21 6 (dk_at dksX0_returns_2 22 rfl rfl)
theorem dX0_returns_70 : decode cX0_returns 70 = .ok (.iconst 1, 1) := dk_4 (dk_at dksX0_returns_3 0 rfl rfl)
theorem dX0_returns_71 : decode cX0_returns 71 = .ok (.bastore, 1) := dk_84 (dk_at dksX0_returns_3 1 rfl rfl)
theorem dX0_returns_72 : decode cX0_returns 72 = .ok (.iinc 5 1, 3) := dk_132 5 1 (dk_at dksX0_returns_3 2 rfl rfl)
theorem dX0_returns_75 : decode cX0_returns 75 = .ok (.goto (-59), 3) := dk_167 255 197 (dk_at dksX0_returns_3 5 rfl rfl)
theorem dX0_returns_78 : decode cX0_returns 78 = .ok (.iconst 0, 1) := dk_3 (dk_at dksX0_returns_3 8 rfl rfl)
theorem dX0_returns_79 : decode cX0_returns 79 = .ok (.istore 5, 2) := dk_54 5 (dk_at dksX0_returns_3 9 rfl rfl)
theorem dX0_returns_81 : decode cX0_returns 81 = .ok (.iload 5, 2) := dk_21 5 (dk_at dksX0_returns_3 11 rfl rfl)
theorem dX0_returns_83 : decode cX0_returns 83 = .ok (.aload_n 3, 1) := dk_45 (dk_at dksX0_returns_3 13 rfl rfl)
theorem dX0_returns_84 : decode cX0_returns 84 = .ok (.arraylength, 1) := dk_190 (dk_at dksX0_returns_3 14 rfl rfl)
theorem dX0_returns_85 : decode cX0_returns 85 = .ok (.if_icmp .ge 55, 3) := dk_162 0 55 (dk_at dksX0_returns_3 15 rfl rfl)
theorem dX0_returns_88 : decode cX0_returns 88 = .ok (.aload_n 2, 1) := dk_44 (dk_at dksX0_returns_3 18 rfl rfl)
theorem dX0_returns_89 : decode cX0_returns 89 = .ok (.iload 5, 2) := dk_21 5 (dk_at dksX0_returns_3 19 rfl rfl)
theorem dX0_returns_91 : decode cX0_returns 91 = .ok (.invokevirtual 194, 3) := dk_182 0 194 (dk_at dksX0_returns_3 21 rfl rfl)
theorem dX0_returns_94 : decode cX0_returns 94 = .ok (.istore 6, 2) := dk_54 6 (dk_at dksX0_returns_4 0 rfl rfl)
theorem dX0_returns_96 : decode cX0_returns 96 = .ok (.aload 4, 2) := dk_25 4 (dk_at dksX0_returns_4 2 rfl rfl)
theorem dX0_returns_98 : decode cX0_returns 98 = .ok (.iload 5, 2) := dk_21 5 (dk_at dksX0_returns_4 4 rfl rfl)
theorem dX0_returns_100 : decode cX0_returns 100 = .ok (.baload, 1) := dk_51 (dk_at dksX0_returns_4 6 rfl rfl)
theorem dX0_returns_101 : decode cX0_returns 101 = .ok (.ifCond .ne 33, 3) := dk_154 0 33 (dk_at dksX0_returns_4 7 rfl rfl)
theorem dX0_returns_104 : decode cX0_returns 104 = .ok (.aload_n 3, 1) := dk_45 (dk_at dksX0_returns_4 10 rfl rfl)
theorem dX0_returns_105 : decode cX0_returns 105 = .ok (.iload 5, 2) := dk_21 5 (dk_at dksX0_returns_4 11 rfl rfl)
theorem dX0_returns_107 : decode cX0_returns 107 = .ok (.aload_n 1, 1) := dk_43 (dk_at dksX0_returns_4 13 rfl rfl)
theorem dX0_returns_108 : decode cX0_returns 108 = .ok (.getfield 352, 3) := dk_180 1 96 (dk_at dksX0_returns_4 14 rfl rfl)
theorem dX0_returns_111 : decode cX0_returns 111 = .ok (.iload 6, 2) := dk_21 6 (dk_at dksX0_returns_4 17 rfl rfl)
theorem dX0_returns_113 : decode cX0_returns 113 = .ok (.baload, 1) := dk_51 (dk_at dksX0_returns_4 19 rfl rfl)
theorem dX0_returns_114 : decode cX0_returns 114 = .ok (.ifCond .eq 13, 3) := dk_153 0 13 (dk_at dksX0_returns_4 20 rfl rfl)
theorem dX0_returns_117 : decode cX0_returns 117 = .ok (.aload_n 1, 1) := dk_43 (dk_at dksX0_returns_4 23 rfl rfl)
theorem dX0_returns_118 : decode cX0_returns 118 = .ok (.getfield 340, 3) := dk_180 1 84 (dk_at dksX0_returns_5 0 rfl rfl)
theorem dX0_returns_121 : decode cX0_returns 121 = .ok (.iload 6, 2) := dk_21 6 (dk_at dksX0_returns_5 3 rfl rfl)
theorem dX0_returns_123 : decode cX0_returns 123 = .ok (.iaload, 1) := dk_46 (dk_at dksX0_returns_5 5 rfl rfl)
theorem dX0_returns_124 : decode cX0_returns 124 = .ok (.goto 9, 3) := dk_167 0 9 (dk_at dksX0_returns_5 6 rfl rfl)
theorem dX0_returns_127 : decode cX0_returns 127 = .ok (.aload_n 2, 1) := dk_44 (dk_at dksX0_returns_5 9 rfl rfl)
theorem dX0_returns_128 : decode cX0_returns 128 = .ok (.iload 5, 2) := dk_21 5 (dk_at dksX0_returns_5 10 rfl rfl)
theorem dX0_returns_130 : decode cX0_returns 130 = .ok (.invokevirtual 327, 3) := dk_182 1 71 (dk_at dksX0_returns_5 12 rfl rfl)
theorem dX0_returns_133 : decode cX0_returns 133 = .ok (.iastore, 1) := dk_79 (dk_at dksX0_returns_5 15 rfl rfl)
theorem dX0_returns_134 : decode cX0_returns 134 = .ok (.iinc 5 1, 3) := dk_132 5 1 (dk_at dksX0_returns_5 16 rfl rfl)
theorem dX0_returns_137 : decode cX0_returns 137 = .ok (.goto (-56), 3) := dk_167 255 200 (dk_at dksX0_returns_5 19 rfl rfl)
theorem dX0_returns_140 : decode cX0_returns 140 = .ok (.aload_n 1, 1) := dk_43 (dk_at dksX0_returns_5 22 rfl rfl)
theorem dX0_returns_141 : decode cX0_returns 141 = .ok (.aload_n 2, 1) := dk_44 (dk_at dksX0_returns_5 23 rfl rfl)
theorem dX0_returns_142 : decode cX0_returns 142 = .ok (.putfield 47, 3) := dk_181 0 47 (dk_at dksX0_returns_6 0 rfl rfl)
theorem dX0_returns_145 : decode cX0_returns 145 = .ok (.aload_n 1, 1) := dk_43 (dk_at dksX0_returns_6 3 rfl rfl)
theorem dX0_returns_146 : decode cX0_returns 146 = .ok (.aload_n 3, 1) := dk_45 (dk_at dksX0_returns_6 4 rfl rfl)
theorem dX0_returns_147 : decode cX0_returns 147 = .ok (.putfield 309, 3) := dk_181 1 53 (dk_at dksX0_returns_6 5 rfl rfl)
theorem dX0_returns_150 : decode cX0_returns 150 = .ok (.return_, 1) := dk_177 (dk_at dksX0_returns_6 8 rfl rfl)
abbrev cX0_comes : ByteArray := prog_1_method_21_code
def yX0_comes : MethodName := ⟨RX0, "comes", "(LPondHouse$Kind;ILPondHouse$Kind;[LPondHouse$Kind;[LPondHouse$Kind;)I"⟩
def dkwX0_comes_7 : List UInt8 := [154, 0, 15, 45, 21, 9, 50, 21, 6, 182, 0, 207, 153, 0, 8, 21, 7, 167, 0, 4, 2, 172]
abbrev dktX0_comes_7 : List UInt8 := dkwX0_comes_7 ++ []
def dkwX0_comes_6 : List UInt8 := [184, 0, 180, 54, 9, 21, 9, 2, 160, 0, 5, 2, 172, 25, 4, 45, 21, 9, 50, 184, 0, 200]
abbrev dktX0_comes_6 : List UInt8 := dkwX0_comes_6 ++ dktX0_comes_7
def dkwX0_comes_5 : List UInt8 := [180, 0, 17, 25, 5, 180, 0, 17, 160, 0, 5, 2, 172, 45, 44, 21, 7, 182, 0, 190, 180, 0, 17]
abbrev dktX0_comes_5 : List UInt8 := dkwX0_comes_5 ++ dktX0_comes_6
def dkwX0_comes_4 : List UInt8 := [25, 5, 180, 0, 17, 160, 0, 6, 21, 9, 172, 21, 7, 2, 159, 0, 20, 44, 21, 7, 182, 0, 190]
abbrev dktX0_comes_4 : List UInt8 := dkwX0_comes_4 ++ dktX0_comes_5
def dkwX0_comes_3 : List UInt8 := [27, 182, 0, 204, 182, 0, 198, 54, 9, 21, 9, 2, 159, 0, 23, 44, 21, 9, 182, 0, 190, 180, 0, 17]
abbrev dktX0_comes_3 : List UInt8 := dkwX0_comes_3 ++ dktX0_comes_4
def dkwX0_comes_2 : List UInt8 := [25, 5, 166, 0, 6, 21, 7, 172, 21, 8, 154, 0, 49, 42, 27, 182, 0, 204, 2, 159, 0, 40, 44, 42]
abbrev dktX0_comes_2 : List UInt8 := dkwX0_comes_2 ++ dktX0_comes_3
def dkwX0_comes_1 : List UInt8 := [25, 5, 184, 0, 200, 54, 8, 21, 8, 153, 0, 23, 21, 7, 2, 159, 0, 17, 44, 21, 7, 182, 0, 190]
abbrev dktX0_comes_1 : List UInt8 := dkwX0_comes_1 ++ dktX0_comes_2
def dkwX0_comes_0 : List UInt8 := [42, 27, 182, 0, 190, 58, 5, 42, 27, 182, 0, 194, 54, 6, 44, 21, 6, 182, 0, 198, 54, 7, 25, 4]
abbrev dktX0_comes_0 : List UInt8 := dkwX0_comes_0 ++ dktX0_comes_1
theorem dksX0_comes_0 : cX0_comes.data.toList.drop 0 = dktX0_comes_0 := by decide +kernel
theorem dksX0_comes_1 : cX0_comes.data.toList.drop 24 = dktX0_comes_1 := dk_seg dksX0_comes_0 24 rfl rfl
theorem dksX0_comes_2 : cX0_comes.data.toList.drop 48 = dktX0_comes_2 := dk_seg dksX0_comes_1 24 rfl rfl
theorem dksX0_comes_3 : cX0_comes.data.toList.drop 72 = dktX0_comes_3 := dk_seg dksX0_comes_2 24 rfl rfl
theorem dksX0_comes_4 : cX0_comes.data.toList.drop 96 = dktX0_comes_4 := dk_seg dksX0_comes_3 24 rfl rfl
theorem dksX0_comes_5 : cX0_comes.data.toList.drop 119 = dktX0_comes_5 := dk_seg dksX0_comes_4 23 rfl rfl
theorem dksX0_comes_6 : cX0_comes.data.toList.drop 142 = dktX0_comes_6 := dk_seg dksX0_comes_5 23 rfl rfl
theorem dksX0_comes_7 : cX0_comes.data.toList.drop 164 = dktX0_comes_7 := dk_seg dksX0_comes_6 22 rfl rfl
theorem dX0_comes_0 : decode cX0_comes 0 = .ok (.aload_n 0, 1) := dk_42 (dk_at dksX0_comes_0 0 rfl rfl)
theorem dX0_comes_1 : decode cX0_comes 1 = .ok (.iload_n 1, 1) := dk_27 (dk_at dksX0_comes_0 1 rfl rfl)
theorem dX0_comes_2 : decode cX0_comes 2 = .ok (.invokevirtual 190, 3) := dk_182 0 190 (dk_at dksX0_comes_0 2 rfl rfl)
theorem dX0_comes_5 : decode cX0_comes 5 = .ok (.astore 5, 2) := dk_58 5 (dk_at dksX0_comes_0 5 rfl rfl)
theorem dX0_comes_7 : decode cX0_comes 7 = .ok (.aload_n 0, 1) := dk_42 (dk_at dksX0_comes_0 7 rfl rfl)
theorem dX0_comes_8 : decode cX0_comes 8 = .ok (.iload_n 1, 1) := dk_27 (dk_at dksX0_comes_0 8 rfl rfl)
theorem dX0_comes_9 : decode cX0_comes 9 = .ok (.invokevirtual 194, 3) := dk_182 0 194 (dk_at dksX0_comes_0 9 rfl rfl)
theorem dX0_comes_12 : decode cX0_comes 12 = .ok (.istore 6, 2) := dk_54 6 (dk_at dksX0_comes_0 12 rfl rfl)
theorem dX0_comes_14 : decode cX0_comes 14 = .ok (.aload_n 2, 1) := dk_44 (dk_at dksX0_comes_0 14 rfl rfl)
theorem dX0_comes_15 : decode cX0_comes 15 = .ok (.iload 6, 2) := dk_21 6 (dk_at dksX0_comes_0 15 rfl rfl)
theorem dX0_comes_17 : decode cX0_comes 17 = .ok (.invokevirtual 198, 3) := dk_182 0 198 (dk_at dksX0_comes_0 17 rfl rfl)
theorem dX0_comes_20 : decode cX0_comes 20 = .ok (.istore 7, 2) := dk_54 7 (dk_at dksX0_comes_0 20 rfl rfl)
theorem dX0_comes_22 : decode cX0_comes 22 = .ok (.aload 4, 2) := dk_25 4 (dk_at dksX0_comes_0 22 rfl rfl)
theorem dX0_comes_24 : decode cX0_comes 24 = .ok (.aload 5, 2) := dk_25 5 (dk_at dksX0_comes_1 0 rfl rfl)
theorem dX0_comes_26 : decode cX0_comes 26 = .ok (.invokestatic 200, 3) := dk_184 0 200 (dk_at dksX0_comes_1 2 rfl rfl)
theorem dX0_comes_29 : decode cX0_comes 29 = .ok (.istore 8, 2) := dk_54 8 (dk_at dksX0_comes_1 5 rfl rfl)
theorem dX0_comes_31 : decode cX0_comes 31 = .ok (.iload 8, 2) := dk_21 8 (dk_at dksX0_comes_1 7 rfl rfl)
theorem dX0_comes_33 : decode cX0_comes 33 = .ok (.ifCond .eq 23, 3) := dk_153 0 23 (dk_at dksX0_comes_1 9 rfl rfl)
theorem dX0_comes_36 : decode cX0_comes 36 = .ok (.iload 7, 2) := dk_21 7 (dk_at dksX0_comes_1 12 rfl rfl)
theorem dX0_comes_38 : decode cX0_comes 38 = .ok (.iconst (-1), 1) := dk_2 (dk_at dksX0_comes_1 14 rfl rfl)
theorem dX0_comes_39 : decode cX0_comes 39 = .ok (.if_icmp .eq 17, 3) := dk_159 0 17 (dk_at dksX0_comes_1 15 rfl rfl)
theorem dX0_comes_42 : decode cX0_comes 42 = .ok (.aload_n 2, 1) := dk_44 (dk_at dksX0_comes_1 18 rfl rfl)
theorem dX0_comes_43 : decode cX0_comes 43 = .ok (.iload 7, 2) := dk_21 7 (dk_at dksX0_comes_1 19 rfl rfl)
theorem dX0_comes_45 : decode cX0_comes 45 = .ok (.invokevirtual 190, 3) := dk_182 0 190 (dk_at dksX0_comes_1 21 rfl rfl)
theorem dX0_comes_48 : decode cX0_comes 48 = .ok (.aload 5, 2) := dk_25 5 (dk_at dksX0_comes_2 0 rfl rfl)
theorem dX0_comes_50 : decode cX0_comes 50 = .ok (.if_acmp .ne 6, 3) := dk_166 0 6 (dk_at dksX0_comes_2 2 rfl rfl)
theorem dX0_comes_53 : decode cX0_comes 53 = .ok (.iload 7, 2) := dk_21 7 (dk_at dksX0_comes_2 5 rfl rfl)
theorem dX0_comes_55 : decode cX0_comes 55 = .ok (.ireturn, 1) := dk_172 (dk_at dksX0_comes_2 7 rfl rfl)
theorem dX0_comes_56 : decode cX0_comes 56 = .ok (.iload 8, 2) := dk_21 8 (dk_at dksX0_comes_2 8 rfl rfl)
theorem dX0_comes_58 : decode cX0_comes 58 = .ok (.ifCond .ne 49, 3) := dk_154 0 49 (dk_at dksX0_comes_2 10 rfl rfl)
theorem dX0_comes_61 : decode cX0_comes 61 = .ok (.aload_n 0, 1) := dk_42 (dk_at dksX0_comes_2 13 rfl rfl)
theorem dX0_comes_62 : decode cX0_comes 62 = .ok (.iload_n 1, 1) := dk_27 (dk_at dksX0_comes_2 14 rfl rfl)
theorem dX0_comes_63 : decode cX0_comes 63 = .ok (.invokevirtual 204, 3) := dk_182 0 204 (dk_at dksX0_comes_2 15 rfl rfl)
theorem dX0_comes_66 : decode cX0_comes 66 = .ok (.iconst (-1), 1) := dk_2 (dk_at dksX0_comes_2 18 rfl rfl)
theorem dX0_comes_67 : decode cX0_comes 67 = .ok (.if_icmp .eq 40, 3) := dk_159 0 40 (dk_at dksX0_comes_2 19 rfl rfl)
theorem dX0_comes_70 : decode cX0_comes 70 = .ok (.aload_n 2, 1) := dk_44 (dk_at dksX0_comes_2 22 rfl rfl)
theorem dX0_comes_71 : decode cX0_comes 71 = .ok (.aload_n 0, 1) := dk_42 (dk_at dksX0_comes_2 23 rfl rfl)
theorem dX0_comes_72 : decode cX0_comes 72 = .ok (.iload_n 1, 1) := dk_27 (dk_at dksX0_comes_3 0 rfl rfl)
theorem dX0_comes_73 : decode cX0_comes 73 = .ok (.invokevirtual 204, 3) := dk_182 0 204 (dk_at dksX0_comes_3 1 rfl rfl)
theorem dX0_comes_76 : decode cX0_comes 76 = .ok (.invokevirtual 198, 3) := dk_182 0 198 (dk_at dksX0_comes_3 4 rfl rfl)
theorem dX0_comes_79 : decode cX0_comes 79 = .ok (.istore 9, 2) := dk_54 9 (dk_at dksX0_comes_3 7 rfl rfl)
theorem dX0_comes_81 : decode cX0_comes 81 = .ok (.iload 9, 2) := dk_21 9 (dk_at dksX0_comes_3 9 rfl rfl)
theorem dX0_comes_83 : decode cX0_comes 83 = .ok (.iconst (-1), 1) := dk_2 (dk_at dksX0_comes_3 11 rfl rfl)
theorem dX0_comes_84 : decode cX0_comes 84 = .ok (.if_icmp .eq 23, 3) := dk_159 0 23 (dk_at dksX0_comes_3 12 rfl rfl)
theorem dX0_comes_87 : decode cX0_comes 87 = .ok (.aload_n 2, 1) := dk_44 (dk_at dksX0_comes_3 15 rfl rfl)
theorem dX0_comes_88 : decode cX0_comes 88 = .ok (.iload 9, 2) := dk_21 9 (dk_at dksX0_comes_3 16 rfl rfl)
theorem dX0_comes_90 : decode cX0_comes 90 = .ok (.invokevirtual 190, 3) := dk_182 0 190 (dk_at dksX0_comes_3 18 rfl rfl)
theorem dX0_comes_93 : decode cX0_comes 93 = .ok (.getfield 17, 3) := dk_180 0 17 (dk_at dksX0_comes_3 21 rfl rfl)
theorem dX0_comes_96 : decode cX0_comes 96 = .ok (.aload 5, 2) := dk_25 5 (dk_at dksX0_comes_4 0 rfl rfl)
theorem dX0_comes_98 : decode cX0_comes 98 = .ok (.getfield 17, 3) := dk_180 0 17 (dk_at dksX0_comes_4 2 rfl rfl)
theorem dX0_comes_101 : decode cX0_comes 101 = .ok (.if_icmp .ne 6, 3) := dk_160 0 6 (dk_at dksX0_comes_4 5 rfl rfl)
theorem dX0_comes_104 : decode cX0_comes 104 = .ok (.iload 9, 2) := dk_21 9 (dk_at dksX0_comes_4 8 rfl rfl)
theorem dX0_comes_106 : decode cX0_comes 106 = .ok (.ireturn, 1) := dk_172 (dk_at dksX0_comes_4 10 rfl rfl)
theorem dX0_comes_107 : decode cX0_comes 107 = .ok (.iload 7, 2) := dk_21 7 (dk_at dksX0_comes_4 11 rfl rfl)
theorem dX0_comes_109 : decode cX0_comes 109 = .ok (.iconst (-1), 1) := dk_2 (dk_at dksX0_comes_4 13 rfl rfl)
theorem dX0_comes_110 : decode cX0_comes 110 = .ok (.if_icmp .eq 20, 3) := dk_159 0 20 (dk_at dksX0_comes_4 14 rfl rfl)
theorem dX0_comes_113 : decode cX0_comes 113 = .ok (.aload_n 2, 1) := dk_44 (dk_at dksX0_comes_4 17 rfl rfl)
theorem dX0_comes_114 : decode cX0_comes 114 = .ok (.iload 7, 2) := dk_21 7 (dk_at dksX0_comes_4 18 rfl rfl)
theorem dX0_comes_116 : decode cX0_comes 116 = .ok (.invokevirtual 190, 3) := dk_182 0 190 (dk_at dksX0_comes_4 20 rfl rfl)
theorem dX0_comes_119 : decode cX0_comes 119 = .ok (.getfield 17, 3) := dk_180 0 17 (dk_at dksX0_comes_5 0 rfl rfl)
theorem dX0_comes_122 : decode cX0_comes 122 = .ok (.aload 5, 2) := dk_25 5 (dk_at dksX0_comes_5 3 rfl rfl)
theorem dX0_comes_124 : decode cX0_comes 124 = .ok (.getfield 17, 3) := dk_180 0 17 (dk_at dksX0_comes_5 5 rfl rfl)
theorem dX0_comes_127 : decode cX0_comes 127 = .ok (.if_icmp .ne 5, 3) := dk_160 0 5 (dk_at dksX0_comes_5 8 rfl rfl)
theorem dX0_comes_130 : decode cX0_comes 130 = .ok (.iconst (-1), 1) := dk_2 (dk_at dksX0_comes_5 11 rfl rfl)
theorem dX0_comes_131 : decode cX0_comes 131 = .ok (.ireturn, 1) := dk_172 (dk_at dksX0_comes_5 12 rfl rfl)
theorem dX0_comes_132 : decode cX0_comes 132 = .ok (.aload_n 3, 1) := dk_45 (dk_at dksX0_comes_5 13 rfl rfl)
theorem dX0_comes_133 : decode cX0_comes 133 = .ok (.aload_n 2, 1) := dk_44 (dk_at dksX0_comes_5 14 rfl rfl)
theorem dX0_comes_134 : decode cX0_comes 134 = .ok (.iload 7, 2) := dk_21 7 (dk_at dksX0_comes_5 15 rfl rfl)
theorem dX0_comes_136 : decode cX0_comes 136 = .ok (.invokevirtual 190, 3) := dk_182 0 190 (dk_at dksX0_comes_5 17 rfl rfl)
theorem dX0_comes_139 : decode cX0_comes 139 = .ok (.getfield 17, 3) := dk_180 0 17 (dk_at dksX0_comes_5 20 rfl rfl)
theorem dX0_comes_142 : decode cX0_comes 142 = .ok (.invokestatic 180, 3) := dk_184 0 180 (dk_at dksX0_comes_6 0 rfl rfl)
theorem dX0_comes_145 : decode cX0_comes 145 = .ok (.istore 9, 2) := dk_54 9 (dk_at dksX0_comes_6 3 rfl rfl)
theorem dX0_comes_147 : decode cX0_comes 147 = .ok (.iload 9, 2) := dk_21 9 (dk_at dksX0_comes_6 5 rfl rfl)
theorem dX0_comes_149 : decode cX0_comes 149 = .ok (.iconst (-1), 1) := dk_2 (dk_at dksX0_comes_6 7 rfl rfl)
theorem dX0_comes_150 : decode cX0_comes 150 = .ok (.if_icmp .ne 5, 3) := dk_160 0 5 (dk_at dksX0_comes_6 8 rfl rfl)
theorem dX0_comes_153 : decode cX0_comes 153 = .ok (.iconst (-1), 1) := dk_2 (dk_at dksX0_comes_6 11 rfl rfl)
theorem dX0_comes_154 : decode cX0_comes 154 = .ok (.ireturn, 1) := dk_172 (dk_at dksX0_comes_6 12 rfl rfl)
theorem dX0_comes_155 : decode cX0_comes 155 = .ok (.aload 4, 2) := dk_25 4 (dk_at dksX0_comes_6 13 rfl rfl)
theorem dX0_comes_157 : decode cX0_comes 157 = .ok (.aload_n 3, 1) := dk_45 (dk_at dksX0_comes_6 15 rfl rfl)
theorem dX0_comes_158 : decode cX0_comes 158 = .ok (.iload 9, 2) := dk_21 9 (dk_at dksX0_comes_6 16 rfl rfl)
theorem dX0_comes_160 : decode cX0_comes 160 = .ok (.aaload, 1) := dk_50 (dk_at dksX0_comes_6 18 rfl rfl)
theorem dX0_comes_161 : decode cX0_comes 161 = .ok (.invokestatic 200, 3) := dk_184 0 200 (dk_at dksX0_comes_6 19 rfl rfl)
theorem dX0_comes_164 : decode cX0_comes 164 = .ok (.ifCond .ne 15, 3) := dk_154 0 15 (dk_at dksX0_comes_7 0 rfl rfl)
theorem dX0_comes_167 : decode cX0_comes 167 = .ok (.aload_n 3, 1) := dk_45 (dk_at dksX0_comes_7 3 rfl rfl)
theorem dX0_comes_168 : decode cX0_comes 168 = .ok (.iload 9, 2) := dk_21 9 (dk_at dksX0_comes_7 4 rfl rfl)
theorem dX0_comes_170 : decode cX0_comes 170 = .ok (.aaload, 1) := dk_50 (dk_at dksX0_comes_7 6 rfl rfl)
theorem dX0_comes_171 : decode cX0_comes 171 = .ok (.iload 6, 2) := dk_21 6 (dk_at dksX0_comes_7 7 rfl rfl)
theorem dX0_comes_173 : decode cX0_comes 173 = .ok (.invokevirtual 207, 3) := dk_182 0 207 (dk_at dksX0_comes_7 9 rfl rfl)
theorem dX0_comes_176 : decode cX0_comes 176 = .ok (.ifCond .eq 8, 3) := dk_153 0 8 (dk_at dksX0_comes_7 12 rfl rfl)
theorem dX0_comes_179 : decode cX0_comes 179 = .ok (.iload 7, 2) := dk_21 7 (dk_at dksX0_comes_7 15 rfl rfl)
theorem dX0_comes_181 : decode cX0_comes 181 = .ok (.goto 4, 3) := dk_167 0 4 (dk_at dksX0_comes_7 17 rfl rfl)
theorem dX0_comes_184 : decode cX0_comes 184 = .ok (.iconst (-1), 1) := dk_2 (dk_at dksX0_comes_7 20 rfl rfl)
theorem dX0_comes_185 : decode cX0_comes 185 = .ok (.ireturn, 1) := dk_172 (dk_at dksX0_comes_7 21 rfl rfl)
abbrev cX0_has : ByteArray := prog_1_method_20_code
def yX0_has : MethodName := ⟨RX0, "has", "([LPondHouse$Kind;LPondHouse$Kind;)Z"⟩
def dkwX0_has_1 : List UInt8 := [166, 0, 5, 4, 172, 132, 4, 1, 167, 255, 233, 3, 172]
abbrev dktX0_has_1 : List UInt8 := dkwX0_has_1 ++ []
def dkwX0_has_0 : List UInt8 := [42, 77, 44, 190, 62, 3, 54, 4, 21, 4, 29, 162, 0, 23, 44, 21, 4, 50, 58, 5, 25, 5, 43]
abbrev dktX0_has_0 : List UInt8 := dkwX0_has_0 ++ dktX0_has_1
theorem dksX0_has_0 : cX0_has.data.toList.drop 0 = dktX0_has_0 := by decide +kernel
theorem dksX0_has_1 : cX0_has.data.toList.drop 23 = dktX0_has_1 := dk_seg dksX0_has_0 23 rfl rfl
theorem dX0_has_0 : decode cX0_has 0 = .ok (.aload_n 0, 1) := dk_42 (dk_at dksX0_has_0 0 rfl rfl)
theorem dX0_has_1 : decode cX0_has 1 = .ok (.astore_n 2, 1) := dk_77 (dk_at dksX0_has_0 1 rfl rfl)
theorem dX0_has_2 : decode cX0_has 2 = .ok (.aload_n 2, 1) := dk_44 (dk_at dksX0_has_0 2 rfl rfl)
theorem dX0_has_3 : decode cX0_has 3 = .ok (.arraylength, 1) := dk_190 (dk_at dksX0_has_0 3 rfl rfl)
theorem dX0_has_4 : decode cX0_has 4 = .ok (.istore_n 3, 1) := dk_62 (dk_at dksX0_has_0 4 rfl rfl)
theorem dX0_has_5 : decode cX0_has 5 = .ok (.iconst 0, 1) := dk_3 (dk_at dksX0_has_0 5 rfl rfl)
theorem dX0_has_6 : decode cX0_has 6 = .ok (.istore 4, 2) := dk_54 4 (dk_at dksX0_has_0 6 rfl rfl)
theorem dX0_has_8 : decode cX0_has 8 = .ok (.iload 4, 2) := dk_21 4 (dk_at dksX0_has_0 8 rfl rfl)
theorem dX0_has_10 : decode cX0_has 10 = .ok (.iload_n 3, 1) := dk_29 (dk_at dksX0_has_0 10 rfl rfl)
theorem dX0_has_11 : decode cX0_has 11 = .ok (.if_icmp .ge 23, 3) := dk_162 0 23 (dk_at dksX0_has_0 11 rfl rfl)
theorem dX0_has_14 : decode cX0_has 14 = .ok (.aload_n 2, 1) := dk_44 (dk_at dksX0_has_0 14 rfl rfl)
theorem dX0_has_15 : decode cX0_has 15 = .ok (.iload 4, 2) := dk_21 4 (dk_at dksX0_has_0 15 rfl rfl)
theorem dX0_has_17 : decode cX0_has 17 = .ok (.aaload, 1) := dk_50 (dk_at dksX0_has_0 17 rfl rfl)
theorem dX0_has_18 : decode cX0_has 18 = .ok (.astore 5, 2) := dk_58 5 (dk_at dksX0_has_0 18 rfl rfl)
theorem dX0_has_20 : decode cX0_has 20 = .ok (.aload 5, 2) := dk_25 5 (dk_at dksX0_has_0 20 rfl rfl)
theorem dX0_has_22 : decode cX0_has 22 = .ok (.aload_n 1, 1) := dk_43 (dk_at dksX0_has_0 22 rfl rfl)
theorem dX0_has_23 : decode cX0_has 23 = .ok (.if_acmp .ne 5, 3) := dk_166 0 5 (dk_at dksX0_has_1 0 rfl rfl)
theorem dX0_has_26 : decode cX0_has 26 = .ok (.iconst 1, 1) := dk_4 (dk_at dksX0_has_1 3 rfl rfl)
theorem dX0_has_27 : decode cX0_has 27 = .ok (.ireturn, 1) := dk_172 (dk_at dksX0_has_1 4 rfl rfl)
theorem dX0_has_28 : decode cX0_has 28 = .ok (.iinc 4 1, 3) := dk_132 4 1 (dk_at dksX0_has_1 5 rfl rfl)
theorem dX0_has_31 : decode cX0_has 31 = .ok (.goto (-23), 3) := dk_167 255 233 (dk_at dksX0_has_1 8 rfl rfl)
theorem dX0_has_34 : decode cX0_has 34 = .ok (.iconst 0, 1) := dk_3 (dk_at dksX0_has_1 11 rfl rfl)
theorem dX0_has_35 : decode cX0_has 35 = .ok (.ireturn, 1) := dk_172 (dk_at dksX0_has_1 12 rfl rfl)
abbrev cX0_find_2 : ByteArray := prog_1_method_4_code
def yX0_find_2 : MethodName := ⟨RX0, "find", "([LPondHouse$Fixed;II)LPondHouse$Fixed;"⟩
def dkwX0_find_2_2 : List UInt8 := [167, 255, 219, 1, 176]
abbrev dktX0_find_2_2 : List UInt8 := dkwX0_find_2_2 ++ []
def dkwX0_find_2_1 : List UInt8 := [180, 0, 22, 27, 160, 0, 15, 25, 6, 180, 0, 27, 28, 160, 0, 6, 25, 6, 176, 132, 5, 1]
abbrev dktX0_find_2_1 : List UInt8 := dkwX0_find_2_1 ++ dktX0_find_2_2
def dkwX0_find_2_0 : List UInt8 := [42, 78, 45, 190, 54, 4, 3, 54, 5, 21, 5, 21, 4, 162, 0, 36, 45, 21, 5, 50, 58, 6, 25, 6]
abbrev dktX0_find_2_0 : List UInt8 := dkwX0_find_2_0 ++ dktX0_find_2_1
theorem dksX0_find_2_0 : cX0_find_2.data.toList.drop 0 = dktX0_find_2_0 := by decide +kernel
theorem dksX0_find_2_1 : cX0_find_2.data.toList.drop 24 = dktX0_find_2_1 := dk_seg dksX0_find_2_0 24 rfl rfl
theorem dksX0_find_2_2 : cX0_find_2.data.toList.drop 46 = dktX0_find_2_2 := dk_seg dksX0_find_2_1 22 rfl rfl
theorem dX0_find_2_0 : decode cX0_find_2 0 = .ok (.aload_n 0, 1) := dk_42 (dk_at dksX0_find_2_0 0 rfl rfl)
theorem dX0_find_2_1 : decode cX0_find_2 1 = .ok (.astore_n 3, 1) := dk_78 (dk_at dksX0_find_2_0 1 rfl rfl)
theorem dX0_find_2_2 : decode cX0_find_2 2 = .ok (.aload_n 3, 1) := dk_45 (dk_at dksX0_find_2_0 2 rfl rfl)
theorem dX0_find_2_3 : decode cX0_find_2 3 = .ok (.arraylength, 1) := dk_190 (dk_at dksX0_find_2_0 3 rfl rfl)
theorem dX0_find_2_4 : decode cX0_find_2 4 = .ok (.istore 4, 2) := dk_54 4 (dk_at dksX0_find_2_0 4 rfl rfl)
theorem dX0_find_2_6 : decode cX0_find_2 6 = .ok (.iconst 0, 1) := dk_3 (dk_at dksX0_find_2_0 6 rfl rfl)
theorem dX0_find_2_7 : decode cX0_find_2 7 = .ok (.istore 5, 2) := dk_54 5 (dk_at dksX0_find_2_0 7 rfl rfl)
theorem dX0_find_2_9 : decode cX0_find_2 9 = .ok (.iload 5, 2) := dk_21 5 (dk_at dksX0_find_2_0 9 rfl rfl)
theorem dX0_find_2_11 : decode cX0_find_2 11 = .ok (.iload 4, 2) := dk_21 4 (dk_at dksX0_find_2_0 11 rfl rfl)
theorem dX0_find_2_13 : decode cX0_find_2 13 = .ok (.if_icmp .ge 36, 3) := dk_162 0 36 (dk_at dksX0_find_2_0 13 rfl rfl)
theorem dX0_find_2_16 : decode cX0_find_2 16 = .ok (.aload_n 3, 1) := dk_45 (dk_at dksX0_find_2_0 16 rfl rfl)
theorem dX0_find_2_17 : decode cX0_find_2 17 = .ok (.iload 5, 2) := dk_21 5 (dk_at dksX0_find_2_0 17 rfl rfl)
theorem dX0_find_2_19 : decode cX0_find_2 19 = .ok (.aaload, 1) := dk_50 (dk_at dksX0_find_2_0 19 rfl rfl)
theorem dX0_find_2_20 : decode cX0_find_2 20 = .ok (.astore 6, 2) := dk_58 6 (dk_at dksX0_find_2_0 20 rfl rfl)
theorem dX0_find_2_22 : decode cX0_find_2 22 = .ok (.aload 6, 2) := dk_25 6 (dk_at dksX0_find_2_0 22 rfl rfl)
theorem dX0_find_2_24 : decode cX0_find_2 24 = .ok (.getfield 22, 3) := dk_180 0 22 (dk_at dksX0_find_2_1 0 rfl rfl)
theorem dX0_find_2_27 : decode cX0_find_2 27 = .ok (.iload_n 1, 1) := dk_27 (dk_at dksX0_find_2_1 3 rfl rfl)
theorem dX0_find_2_28 : decode cX0_find_2 28 = .ok (.if_icmp .ne 15, 3) := dk_160 0 15 (dk_at dksX0_find_2_1 4 rfl rfl)
theorem dX0_find_2_31 : decode cX0_find_2 31 = .ok (.aload 6, 2) := dk_25 6 (dk_at dksX0_find_2_1 7 rfl rfl)
theorem dX0_find_2_33 : decode cX0_find_2 33 = .ok (.getfield 27, 3) := dk_180 0 27 (dk_at dksX0_find_2_1 9 rfl rfl)
theorem dX0_find_2_36 : decode cX0_find_2 36 = .ok (.iload_n 2, 1) := dk_28 (dk_at dksX0_find_2_1 12 rfl rfl)
theorem dX0_find_2_37 : decode cX0_find_2 37 = .ok (.if_icmp .ne 6, 3) := dk_160 0 6 (dk_at dksX0_find_2_1 13 rfl rfl)
theorem dX0_find_2_40 : decode cX0_find_2 40 = .ok (.aload 6, 2) := dk_25 6 (dk_at dksX0_find_2_1 16 rfl rfl)
theorem dX0_find_2_42 : decode cX0_find_2 42 = .ok (.areturn, 1) := dk_176 (dk_at dksX0_find_2_1 18 rfl rfl)
theorem dX0_find_2_43 : decode cX0_find_2 43 = .ok (.iinc 5 1, 3) := dk_132 5 1 (dk_at dksX0_find_2_1 19 rfl rfl)
theorem dX0_find_2_46 : decode cX0_find_2 46 = .ok (.goto (-37), 3) := dk_167 255 219 (dk_at dksX0_find_2_2 0 rfl rfl)
theorem dX0_find_2_49 : decode cX0_find_2 49 = .ok (.aconst_null, 1) := dk_1 (dk_at dksX0_find_2_2 3 rfl rfl)
theorem dX0_find_2_50 : decode cX0_find_2 50 = .ok (.areturn, 1) := dk_176 (dk_at dksX0_find_2_2 4 rfl rfl)
abbrev cX0_begin : ByteArray := prog_1_method_38_code
def yX0_begin : MethodName := ⟨RX0, "begin", "(III)I"⟩
def dkwX0_begin_4 : List UInt8 := [187, 0, 107, 89, 183, 1, 175, 25, 4, 25, 5, 29, 182, 0, 106, 183, 1, 176, 83, 21, 6, 172]
abbrev dktX0_begin_4 : List UInt8 := dkwX0_begin_4 ++ []
def dkwX0_begin_3 : List UInt8 := [198, 0, 10, 21, 6, 16, 10, 160, 0, 5, 2, 172, 42, 180, 1, 141, 21, 6, 187, 1, 146, 89]
abbrev dktX0_begin_3 : List UInt8 := dkwX0_begin_3 ++ dktX0_begin_4
def dkwX0_begin_2 : List UInt8 := [198, 0, 22, 42, 180, 1, 141, 21, 6, 50, 180, 1, 145, 153, 0, 9, 132, 6, 1, 167, 255, 223, 25, 5]
abbrev dktX0_begin_2 : List UInt8 := dkwX0_begin_2 ++ dktX0_begin_3
def dkwX0_begin_1 : List UInt8 := [182, 0, 130, 58, 5, 3, 54, 6, 21, 6, 16, 10, 162, 0, 32, 42, 180, 1, 141, 21, 6, 50]
abbrev dktX0_begin_1 : List UInt8 := dkwX0_begin_1 ++ dktX0_begin_2
def dkwX0_begin_0 : List UInt8 := [42, 27, 182, 1, 171, 58, 4, 25, 4, 199, 0, 7, 1, 167, 0, 12, 25, 4, 180, 0, 47, 28]
abbrev dktX0_begin_0 : List UInt8 := dkwX0_begin_0 ++ dktX0_begin_1
theorem dksX0_begin_0 : cX0_begin.data.toList.drop 0 = dktX0_begin_0 := by decide +kernel
theorem dksX0_begin_1 : cX0_begin.data.toList.drop 22 = dktX0_begin_1 := dk_seg dksX0_begin_0 22 rfl rfl
theorem dksX0_begin_2 : cX0_begin.data.toList.drop 44 = dktX0_begin_2 := dk_seg dksX0_begin_1 22 rfl rfl
theorem dksX0_begin_3 : cX0_begin.data.toList.drop 68 = dktX0_begin_3 := dk_seg dksX0_begin_2 24 rfl rfl
theorem dksX0_begin_4 : cX0_begin.data.toList.drop 90 = dktX0_begin_4 := dk_seg dksX0_begin_3 22 rfl rfl
theorem dX0_begin_0 : decode cX0_begin 0 = .ok (.aload_n 0, 1) := dk_42 (dk_at dksX0_begin_0 0 rfl rfl)
theorem dX0_begin_1 : decode cX0_begin 1 = .ok (.iload_n 1, 1) := dk_27 (dk_at dksX0_begin_0 1 rfl rfl)
theorem dX0_begin_2 : decode cX0_begin 2 = .ok (.invokevirtual 427, 3) := dk_182 1 171 (dk_at dksX0_begin_0 2 rfl rfl)
theorem dX0_begin_5 : decode cX0_begin 5 = .ok (.astore 4, 2) := dk_58 4 (dk_at dksX0_begin_0 5 rfl rfl)
theorem dX0_begin_7 : decode cX0_begin 7 = .ok (.aload 4, 2) := dk_25 4 (dk_at dksX0_begin_0 7 rfl rfl)
theorem dX0_begin_9 : decode cX0_begin 9 = .ok (.ifnonnull 7, 3) := dk_199 0 7 (dk_at dksX0_begin_0 9 rfl rfl)
theorem dX0_begin_12 : decode cX0_begin 12 = .ok (.aconst_null, 1) := dk_1 (dk_at dksX0_begin_0 12 rfl rfl)
theorem dX0_begin_13 : decode cX0_begin 13 = .ok (.goto 12, 3) := dk_167 0 12 (dk_at dksX0_begin_0 13 rfl rfl)
theorem dX0_begin_16 : decode cX0_begin 16 = .ok (.aload 4, 2) := dk_25 4 (dk_at dksX0_begin_0 16 rfl rfl)
theorem dX0_begin_18 : decode cX0_begin 18 = .ok (.getfield 47, 3) := dk_180 0 47 (dk_at dksX0_begin_0 18 rfl rfl)
theorem dX0_begin_21 : decode cX0_begin 21 = .ok (.iload_n 2, 1) := dk_28 (dk_at dksX0_begin_0 21 rfl rfl)
theorem dX0_begin_22 : decode cX0_begin 22 = .ok (.invokevirtual 130, 3) := dk_182 0 130 (dk_at dksX0_begin_1 0 rfl rfl)
theorem dX0_begin_25 : decode cX0_begin 25 = .ok (.astore 5, 2) := dk_58 5 (dk_at dksX0_begin_1 3 rfl rfl)
theorem dX0_begin_27 : decode cX0_begin 27 = .ok (.iconst 0, 1) := dk_3 (dk_at dksX0_begin_1 5 rfl rfl)
theorem dX0_begin_28 : decode cX0_begin 28 = .ok (.istore 6, 2) := dk_54 6 (dk_at dksX0_begin_1 6 rfl rfl)
theorem dX0_begin_30 : decode cX0_begin 30 = .ok (.iload 6, 2) := dk_21 6 (dk_at dksX0_begin_1 8 rfl rfl)
theorem dX0_begin_32 : decode cX0_begin 32 = .ok (.bipush 10, 2) := dk_16 10 (dk_at dksX0_begin_1 10 rfl rfl)
theorem dX0_begin_34 : decode cX0_begin 34 = .ok (.if_icmp .ge 32, 3) := dk_162 0 32 (dk_at dksX0_begin_1 12 rfl rfl)
theorem dX0_begin_37 : decode cX0_begin 37 = .ok (.aload_n 0, 1) := dk_42 (dk_at dksX0_begin_1 15 rfl rfl)
theorem dX0_begin_38 : decode cX0_begin 38 = .ok (.getfield 397, 3) := dk_180 1 141 (dk_at dksX0_begin_1 16 rfl rfl)
theorem dX0_begin_41 : decode cX0_begin 41 = .ok (.iload 6, 2) := dk_21 6 (dk_at dksX0_begin_1 19 rfl rfl)
theorem dX0_begin_43 : decode cX0_begin 43 = .ok (.aaload, 1) := dk_50 (dk_at dksX0_begin_1 21 rfl rfl)
theorem dX0_begin_44 : decode cX0_begin 44 = .ok (.ifnull 22, 3) := dk_198 0 22 (dk_at dksX0_begin_2 0 rfl rfl)
theorem dX0_begin_47 : decode cX0_begin 47 = .ok (.aload_n 0, 1) := dk_42 (dk_at dksX0_begin_2 3 rfl rfl)
theorem dX0_begin_48 : decode cX0_begin 48 = .ok (.getfield 397, 3) := dk_180 1 141 (dk_at dksX0_begin_2 4 rfl rfl)
theorem dX0_begin_51 : decode cX0_begin 51 = .ok (.iload 6, 2) := dk_21 6 (dk_at dksX0_begin_2 7 rfl rfl)
theorem dX0_begin_53 : decode cX0_begin 53 = .ok (.aaload, 1) := dk_50 (dk_at dksX0_begin_2 9 rfl rfl)
theorem dX0_begin_54 : decode cX0_begin 54 = .ok (.getfield 401, 3) := dk_180 1 145 (dk_at dksX0_begin_2 10 rfl rfl)
theorem dX0_begin_57 : decode cX0_begin 57 = .ok (.ifCond .eq 9, 3) := dk_153 0 9 (dk_at dksX0_begin_2 13 rfl rfl)
theorem dX0_begin_60 : decode cX0_begin 60 = .ok (.iinc 6 1, 3) := dk_132 6 1 (dk_at dksX0_begin_2 16 rfl rfl)
theorem dX0_begin_63 : decode cX0_begin 63 = .ok (.goto (-33), 3) := dk_167 255 223 (dk_at dksX0_begin_2 19 rfl rfl)
theorem dX0_begin_66 : decode cX0_begin 66 = .ok (.aload 5, 2) := dk_25 5 (dk_at dksX0_begin_2 22 rfl rfl)
theorem dX0_begin_68 : decode cX0_begin 68 = .ok (.ifnull 10, 3) := dk_198 0 10 (dk_at dksX0_begin_3 0 rfl rfl)
theorem dX0_begin_71 : decode cX0_begin 71 = .ok (.iload 6, 2) := dk_21 6 (dk_at dksX0_begin_3 3 rfl rfl)
theorem dX0_begin_73 : decode cX0_begin 73 = .ok (.bipush 10, 2) := dk_16 10 (dk_at dksX0_begin_3 5 rfl rfl)
theorem dX0_begin_75 : decode cX0_begin 75 = .ok (.if_icmp .ne 5, 3) := dk_160 0 5 (dk_at dksX0_begin_3 7 rfl rfl)
theorem dX0_begin_78 : decode cX0_begin 78 = .ok (.iconst (-1), 1) := dk_2 (dk_at dksX0_begin_3 10 rfl rfl)
theorem dX0_begin_79 : decode cX0_begin 79 = .ok (.ireturn, 1) := dk_172 (dk_at dksX0_begin_3 11 rfl rfl)
theorem dX0_begin_80 : decode cX0_begin 80 = .ok (.aload_n 0, 1) := dk_42 (dk_at dksX0_begin_3 12 rfl rfl)
theorem dX0_begin_81 : decode cX0_begin 81 = .ok (.getfield 397, 3) := dk_180 1 141 (dk_at dksX0_begin_3 13 rfl rfl)
theorem dX0_begin_84 : decode cX0_begin 84 = .ok (.iload 6, 2) := dk_21 6 (dk_at dksX0_begin_3 16 rfl rfl)
theorem dX0_begin_86 : decode cX0_begin 86 = .ok (.new 402, 3) := dk_187 1 146 (dk_at dksX0_begin_3 18 rfl rfl)
theorem dX0_begin_89 : decode cX0_begin 89 = .ok (.dup, 1) := dk_89 (dk_at dksX0_begin_3 21 rfl rfl)
theorem dX0_begin_90 : decode cX0_begin 90 = .ok (.new 107, 3) := dk_187 0 107 (dk_at dksX0_begin_4 0 rfl rfl)
theorem dX0_begin_93 : decode cX0_begin 93 = .ok (.dup, 1) := dk_89 (dk_at dksX0_begin_4 3 rfl rfl)
theorem dX0_begin_94 : decode cX0_begin 94 = .ok (.invokespecial 431, 3) := dk_183 1 175 (dk_at dksX0_begin_4 4 rfl rfl)
theorem dX0_begin_97 : decode cX0_begin 97 = .ok (.aload 4, 2) := dk_25 4 (dk_at dksX0_begin_4 7 rfl rfl)
theorem dX0_begin_99 : decode cX0_begin 99 = .ok (.aload 5, 2) := dk_25 5 (dk_at dksX0_begin_4 9 rfl rfl)
theorem dX0_begin_101 : decode cX0_begin 101 = .ok (.iload_n 3, 1) := dk_29 (dk_at dksX0_begin_4 11 rfl rfl)
theorem dX0_begin_102 : decode cX0_begin 102 = .ok (.invokevirtual 106, 3) := dk_182 0 106 (dk_at dksX0_begin_4 12 rfl rfl)
theorem dX0_begin_105 : decode cX0_begin 105 = .ok (.invokespecial 432, 3) := dk_183 1 176 (dk_at dksX0_begin_4 15 rfl rfl)
theorem dX0_begin_108 : decode cX0_begin 108 = .ok (.aastore, 1) := dk_83 (dk_at dksX0_begin_4 18 rfl rfl)
theorem dX0_begin_109 : decode cX0_begin 109 = .ok (.iload 6, 2) := dk_21 6 (dk_at dksX0_begin_4 19 rfl rfl)
theorem dX0_begin_111 : decode cX0_begin 111 = .ok (.ireturn, 1) := dk_172 (dk_at dksX0_begin_4 21 rfl rfl)
abbrev cX0_living : ByteArray := prog_1_method_6_code
def yX0_living : MethodName := ⟨RX0, "living", "(I)LPondHouse$Creature;"⟩
def dkwX0_living_1 : List UInt8 := [42, 180, 0, 43, 27, 50, 167, 0, 4, 1, 176]
abbrev dktX0_living_1 : List UInt8 := dkwX0_living_1 ++ []
def dkwX0_living_0 : List UInt8 := [27, 155, 0, 32, 27, 42, 180, 0, 40, 162, 0, 24, 42, 180, 0, 43, 27, 50, 180, 0, 47, 198, 0, 12]
abbrev dktX0_living_0 : List UInt8 := dkwX0_living_0 ++ dktX0_living_1
theorem dksX0_living_0 : cX0_living.data.toList.drop 0 = dktX0_living_0 := by decide +kernel
theorem dksX0_living_1 : cX0_living.data.toList.drop 24 = dktX0_living_1 := dk_seg dksX0_living_0 24 rfl rfl
theorem dX0_living_0 : decode cX0_living 0 = .ok (.iload_n 1, 1) := dk_27 (dk_at dksX0_living_0 0 rfl rfl)
theorem dX0_living_1 : decode cX0_living 1 = .ok (.ifCond .lt 32, 3) := dk_155 0 32 (dk_at dksX0_living_0 1 rfl rfl)
theorem dX0_living_4 : decode cX0_living 4 = .ok (.iload_n 1, 1) := dk_27 (dk_at dksX0_living_0 4 rfl rfl)
theorem dX0_living_5 : decode cX0_living 5 = .ok (.aload_n 0, 1) := dk_42 (dk_at dksX0_living_0 5 rfl rfl)
theorem dX0_living_6 : decode cX0_living 6 = .ok (.getfield 40, 3) := dk_180 0 40 (dk_at dksX0_living_0 6 rfl rfl)
theorem dX0_living_9 : decode cX0_living 9 = .ok (.if_icmp .ge 24, 3) := dk_162 0 24 (dk_at dksX0_living_0 9 rfl rfl)
theorem dX0_living_12 : decode cX0_living 12 = .ok (.aload_n 0, 1) := dk_42 (dk_at dksX0_living_0 12 rfl rfl)
theorem dX0_living_13 : decode cX0_living 13 = .ok (.getfield 43, 3) := dk_180 0 43 (dk_at dksX0_living_0 13 rfl rfl)
theorem dX0_living_16 : decode cX0_living 16 = .ok (.iload_n 1, 1) := dk_27 (dk_at dksX0_living_0 16 rfl rfl)
theorem dX0_living_17 : decode cX0_living 17 = .ok (.aaload, 1) := dk_50 (dk_at dksX0_living_0 17 rfl rfl)
theorem dX0_living_18 : decode cX0_living 18 = .ok (.getfield 47, 3) := dk_180 0 47 (dk_at dksX0_living_0 18 rfl rfl)
theorem dX0_living_21 : decode cX0_living 21 = .ok (.ifnull 12, 3) := dk_198 0 12 (dk_at dksX0_living_0 21 rfl rfl)
theorem dX0_living_24 : decode cX0_living 24 = .ok (.aload_n 0, 1) := dk_42 (dk_at dksX0_living_1 0 rfl rfl)
theorem dX0_living_25 : decode cX0_living 25 = .ok (.getfield 43, 3) := dk_180 0 43 (dk_at dksX0_living_1 1 rfl rfl)
theorem dX0_living_28 : decode cX0_living 28 = .ok (.iload_n 1, 1) := dk_27 (dk_at dksX0_living_1 4 rfl rfl)
theorem dX0_living_29 : decode cX0_living 29 = .ok (.aaload, 1) := dk_50 (dk_at dksX0_living_1 5 rfl rfl)
theorem dX0_living_30 : decode cX0_living 30 = .ok (.goto 4, 3) := dk_167 0 4 (dk_at dksX0_living_1 6 rfl rfl)
theorem dX0_living_33 : decode cX0_living 33 = .ok (.aconst_null, 1) := dk_1 (dk_at dksX0_living_1 9 rfl rfl)
theorem dX0_living_34 : decode cX0_living 34 = .ok (.areturn, 1) := dk_176 (dk_at dksX0_living_1 10 rfl rfl)
abbrev cX0_under : ByteArray := prog_1_method_40_code
def yX0_under : MethodName := ⟨RX0, "under", "(II)I"⟩
def dkwX0_under_4 : List UInt8 := [3, 172, 45, 180, 1, 170, 172, 2, 172]
abbrev dktX0_under_4 : List UInt8 := dkwX0_under_4 ++ []
def dkwX0_under_3 : List UInt8 := [180, 1, 149, 180, 1, 161, 180, 0, 83, 180, 0, 84, 172, 45, 180, 1, 183, 153, 0, 7, 4, 167, 0, 4]
abbrev dktX0_under_3 : List UInt8 := dkwX0_under_3 ++ dktX0_under_4
def dkwX0_under_2 : List UInt8 := [45, 180, 1, 145, 153, 0, 7, 4, 167, 0, 4, 3, 172, 45, 180, 1, 158, 172, 45, 180, 1, 155, 172, 45]
abbrev dktX0_under_2 : List UInt8 := dkwX0_under_2 ++ dktX0_under_3
def dkwX0_under_1 : List UInt8 := [170, 0, 0, 0, 0, 0, 94, 0, 0, 0, 0, 0, 0, 0, 5, 0, 0, 0, 39, 0, 0, 0, 52, 0, 0, 0, 57, 0, 0, 0, 62, 0, 0, 0, 76, 0, 0, 0, 89]
abbrev dktX0_under_1 : List UInt8 := dkwX0_under_1 ++ dktX0_under_2
def dkwX0_under_0 : List UInt8 := [42, 27, 182, 1, 179, 78, 45, 199, 0, 5, 2, 172, 28]
abbrev dktX0_under_0 : List UInt8 := dkwX0_under_0 ++ dktX0_under_1
theorem dksX0_under_0 : cX0_under.data.toList.drop 0 = dktX0_under_0 := by decide +kernel
theorem dksX0_under_1 : cX0_under.data.toList.drop 13 = dktX0_under_1 := dk_seg dksX0_under_0 13 rfl rfl
theorem dksX0_under_2 : cX0_under.data.toList.drop 52 = dktX0_under_2 := dk_seg dksX0_under_1 39 rfl rfl
theorem dksX0_under_3 : cX0_under.data.toList.drop 76 = dktX0_under_3 := dk_seg dksX0_under_2 24 rfl rfl
theorem dksX0_under_4 : cX0_under.data.toList.drop 100 = dktX0_under_4 := dk_seg dksX0_under_3 24 rfl rfl
theorem dX0_under_0 : decode cX0_under 0 = .ok (.aload_n 0, 1) := dk_42 (dk_at dksX0_under_0 0 rfl rfl)
theorem dX0_under_1 : decode cX0_under 1 = .ok (.iload_n 1, 1) := dk_27 (dk_at dksX0_under_0 1 rfl rfl)
theorem dX0_under_2 : decode cX0_under 2 = .ok (.invokevirtual 435, 3) := dk_182 1 179 (dk_at dksX0_under_0 2 rfl rfl)
theorem dX0_under_5 : decode cX0_under 5 = .ok (.astore_n 3, 1) := dk_78 (dk_at dksX0_under_0 5 rfl rfl)
theorem dX0_under_6 : decode cX0_under 6 = .ok (.aload_n 3, 1) := dk_45 (dk_at dksX0_under_0 6 rfl rfl)
theorem dX0_under_7 : decode cX0_under 7 = .ok (.ifnonnull 5, 3) := dk_199 0 5 (dk_at dksX0_under_0 7 rfl rfl)
theorem dX0_under_10 : decode cX0_under 10 = .ok (.iconst (-1), 1) := dk_2 (dk_at dksX0_under_0 10 rfl rfl)
theorem dX0_under_11 : decode cX0_under 11 = .ok (.ireturn, 1) := dk_172 (dk_at dksX0_under_0 11 rfl rfl)
theorem dX0_under_12 : decode cX0_under 12 = .ok (.iload_n 2, 1) := dk_28 (dk_at dksX0_under_0 12 rfl rfl)
theorem dX0_under_13 : decode cX0_under 13 = .ok (.tableswitch 94 0 5 #[39, 52, 57, 62, 76, 89], 39) := by decide +kernel
theorem dX0_under_52 : decode cX0_under 52 = .ok (.aload_n 3, 1) := dk_45 (dk_at dksX0_under_2 0 rfl rfl)
theorem dX0_under_53 : decode cX0_under 53 = .ok (.getfield 401, 3) := dk_180 1 145 (dk_at dksX0_under_2 1 rfl rfl)
theorem dX0_under_56 : decode cX0_under 56 = .ok (.ifCond .eq 7, 3) := dk_153 0 7 (dk_at dksX0_under_2 4 rfl rfl)
theorem dX0_under_59 : decode cX0_under 59 = .ok (.iconst 1, 1) := dk_4 (dk_at dksX0_under_2 7 rfl rfl)
theorem dX0_under_60 : decode cX0_under 60 = .ok (.goto 4, 3) := dk_167 0 4 (dk_at dksX0_under_2 8 rfl rfl)
theorem dX0_under_63 : decode cX0_under 63 = .ok (.iconst 0, 1) := dk_3 (dk_at dksX0_under_2 11 rfl rfl)
theorem dX0_under_64 : decode cX0_under 64 = .ok (.ireturn, 1) := dk_172 (dk_at dksX0_under_2 12 rfl rfl)
theorem dX0_under_65 : decode cX0_under 65 = .ok (.aload_n 3, 1) := dk_45 (dk_at dksX0_under_2 13 rfl rfl)
theorem dX0_under_66 : decode cX0_under 66 = .ok (.getfield 414, 3) := dk_180 1 158 (dk_at dksX0_under_2 14 rfl rfl)
theorem dX0_under_69 : decode cX0_under 69 = .ok (.ireturn, 1) := dk_172 (dk_at dksX0_under_2 17 rfl rfl)
theorem dX0_under_70 : decode cX0_under 70 = .ok (.aload_n 3, 1) := dk_45 (dk_at dksX0_under_2 18 rfl rfl)
theorem dX0_under_71 : decode cX0_under 71 = .ok (.getfield 411, 3) := dk_180 1 155 (dk_at dksX0_under_2 19 rfl rfl)
theorem dX0_under_74 : decode cX0_under 74 = .ok (.ireturn, 1) := dk_172 (dk_at dksX0_under_2 22 rfl rfl)
theorem dX0_under_75 : decode cX0_under 75 = .ok (.aload_n 3, 1) := dk_45 (dk_at dksX0_under_2 23 rfl rfl)
theorem dX0_under_76 : decode cX0_under 76 = .ok (.getfield 405, 3) := dk_180 1 149 (dk_at dksX0_under_3 0 rfl rfl)
theorem dX0_under_79 : decode cX0_under 79 = .ok (.getfield 417, 3) := dk_180 1 161 (dk_at dksX0_under_3 3 rfl rfl)
theorem dX0_under_82 : decode cX0_under 82 = .ok (.getfield 83, 3) := dk_180 0 83 (dk_at dksX0_under_3 6 rfl rfl)
theorem dX0_under_85 : decode cX0_under 85 = .ok (.getfield 84, 3) := dk_180 0 84 (dk_at dksX0_under_3 9 rfl rfl)
theorem dX0_under_88 : decode cX0_under 88 = .ok (.ireturn, 1) := dk_172 (dk_at dksX0_under_3 12 rfl rfl)
theorem dX0_under_89 : decode cX0_under 89 = .ok (.aload_n 3, 1) := dk_45 (dk_at dksX0_under_3 13 rfl rfl)
theorem dX0_under_90 : decode cX0_under 90 = .ok (.getfield 439, 3) := dk_180 1 183 (dk_at dksX0_under_3 14 rfl rfl)
theorem dX0_under_93 : decode cX0_under 93 = .ok (.ifCond .eq 7, 3) := dk_153 0 7 (dk_at dksX0_under_3 17 rfl rfl)
theorem dX0_under_96 : decode cX0_under 96 = .ok (.iconst 1, 1) := dk_4 (dk_at dksX0_under_3 20 rfl rfl)
theorem dX0_under_97 : decode cX0_under 97 = .ok (.goto 4, 3) := dk_167 0 4 (dk_at dksX0_under_3 21 rfl rfl)
theorem dX0_under_100 : decode cX0_under 100 = .ok (.iconst 0, 1) := dk_3 (dk_at dksX0_under_4 0 rfl rfl)
theorem dX0_under_101 : decode cX0_under 101 = .ok (.ireturn, 1) := dk_172 (dk_at dksX0_under_4 1 rfl rfl)
theorem dX0_under_102 : decode cX0_under 102 = .ok (.aload_n 3, 1) := dk_45 (dk_at dksX0_under_4 2 rfl rfl)
theorem dX0_under_103 : decode cX0_under 103 = .ok (.getfield 426, 3) := dk_180 1 170 (dk_at dksX0_under_4 3 rfl rfl)
theorem dX0_under_106 : decode cX0_under 106 = .ok (.ireturn, 1) := dk_172 (dk_at dksX0_under_4 6 rfl rfl)
theorem dX0_under_107 : decode cX0_under 107 = .ok (.iconst (-1), 1) := dk_2 (dk_at dksX0_under_4 7 rfl rfl)
theorem dX0_under_108 : decode cX0_under 108 = .ok (.ireturn, 1) := dk_172 (dk_at dksX0_under_4 8 rfl rfl)
abbrev cX0_longAct : ByteArray := prog_1_method_39_code
def yX0_longAct : MethodName := ⟨RX0, "longAct", "(I)LPondHouse$LongAct;"⟩
def dkwX0_longAct_0 : List UInt8 := [27, 155, 0, 18, 27, 16, 10, 162, 0, 12, 42, 180, 1, 141, 27, 50, 167, 0, 4, 1, 176]
abbrev dktX0_longAct_0 : List UInt8 := dkwX0_longAct_0 ++ []
theorem dksX0_longAct_0 : cX0_longAct.data.toList.drop 0 = dktX0_longAct_0 := by decide +kernel
theorem dX0_longAct_0 : decode cX0_longAct 0 = .ok (.iload_n 1, 1) := dk_27 (dk_at dksX0_longAct_0 0 rfl rfl)
theorem dX0_longAct_1 : decode cX0_longAct 1 = .ok (.ifCond .lt 18, 3) := dk_155 0 18 (dk_at dksX0_longAct_0 1 rfl rfl)
theorem dX0_longAct_4 : decode cX0_longAct 4 = .ok (.iload_n 1, 1) := dk_27 (dk_at dksX0_longAct_0 4 rfl rfl)
theorem dX0_longAct_5 : decode cX0_longAct 5 = .ok (.bipush 10, 2) := dk_16 10 (dk_at dksX0_longAct_0 5 rfl rfl)
theorem dX0_longAct_7 : decode cX0_longAct 7 = .ok (.if_icmp .ge 12, 3) := dk_162 0 12 (dk_at dksX0_longAct_0 7 rfl rfl)
theorem dX0_longAct_10 : decode cX0_longAct 10 = .ok (.aload_n 0, 1) := dk_42 (dk_at dksX0_longAct_0 10 rfl rfl)
theorem dX0_longAct_11 : decode cX0_longAct 11 = .ok (.getfield 397, 3) := dk_180 1 141 (dk_at dksX0_longAct_0 11 rfl rfl)
theorem dX0_longAct_14 : decode cX0_longAct 14 = .ok (.iload_n 1, 1) := dk_27 (dk_at dksX0_longAct_0 14 rfl rfl)
theorem dX0_longAct_15 : decode cX0_longAct 15 = .ok (.aaload, 1) := dk_50 (dk_at dksX0_longAct_0 15 rfl rfl)
theorem dX0_longAct_16 : decode cX0_longAct 16 = .ok (.goto 4, 3) := dk_167 0 4 (dk_at dksX0_longAct_0 16 rfl rfl)
theorem dX0_longAct_19 : decode cX0_longAct 19 = .ok (.aconst_null, 1) := dk_1 (dk_at dksX0_longAct_0 19 rfl rfl)
theorem dX0_longAct_20 : decode cX0_longAct 20 = .ok (.areturn, 1) := dk_176 (dk_at dksX0_longAct_0 20 rfl rfl)
abbrev cX0_forbid : ByteArray := prog_1_method_41_code
def yX0_forbid : MethodName := ⟨RX0, "forbid", "(IZ)Z"⟩
def dkwX0_forbid_1 : List UInt8 := [4, 172]
abbrev dktX0_forbid_1 : List UInt8 := dkwX0_forbid_1 ++ []
def dkwX0_forbid_0 : List UInt8 := [42, 27, 182, 1, 179, 78, 45, 198, 0, 10, 45, 180, 1, 145, 154, 0, 5, 3, 172, 45, 28, 181, 1, 183]
abbrev dktX0_forbid_0 : List UInt8 := dkwX0_forbid_0 ++ dktX0_forbid_1
theorem dksX0_forbid_0 : cX0_forbid.data.toList.drop 0 = dktX0_forbid_0 := by decide +kernel
theorem dksX0_forbid_1 : cX0_forbid.data.toList.drop 24 = dktX0_forbid_1 := dk_seg dksX0_forbid_0 24 rfl rfl
theorem dX0_forbid_0 : decode cX0_forbid 0 = .ok (.aload_n 0, 1) := dk_42 (dk_at dksX0_forbid_0 0 rfl rfl)
theorem dX0_forbid_1 : decode cX0_forbid 1 = .ok (.iload_n 1, 1) := dk_27 (dk_at dksX0_forbid_0 1 rfl rfl)
theorem dX0_forbid_2 : decode cX0_forbid 2 = .ok (.invokevirtual 435, 3) := dk_182 1 179 (dk_at dksX0_forbid_0 2 rfl rfl)
theorem dX0_forbid_5 : decode cX0_forbid 5 = .ok (.astore_n 3, 1) := dk_78 (dk_at dksX0_forbid_0 5 rfl rfl)
theorem dX0_forbid_6 : decode cX0_forbid 6 = .ok (.aload_n 3, 1) := dk_45 (dk_at dksX0_forbid_0 6 rfl rfl)
theorem dX0_forbid_7 : decode cX0_forbid 7 = .ok (.ifnull 10, 3) := dk_198 0 10 (dk_at dksX0_forbid_0 7 rfl rfl)
theorem dX0_forbid_10 : decode cX0_forbid 10 = .ok (.aload_n 3, 1) := dk_45 (dk_at dksX0_forbid_0 10 rfl rfl)
theorem dX0_forbid_11 : decode cX0_forbid 11 = .ok (.getfield 401, 3) := dk_180 1 145 (dk_at dksX0_forbid_0 11 rfl rfl)
theorem dX0_forbid_14 : decode cX0_forbid 14 = .ok (.ifCond .ne 5, 3) := dk_154 0 5 (dk_at dksX0_forbid_0 14 rfl rfl)
theorem dX0_forbid_17 : decode cX0_forbid 17 = .ok (.iconst 0, 1) := dk_3 (dk_at dksX0_forbid_0 17 rfl rfl)
theorem dX0_forbid_18 : decode cX0_forbid 18 = .ok (.ireturn, 1) := dk_172 (dk_at dksX0_forbid_0 18 rfl rfl)
theorem dX0_forbid_19 : decode cX0_forbid 19 = .ok (.aload_n 3, 1) := dk_45 (dk_at dksX0_forbid_0 19 rfl rfl)
theorem dX0_forbid_20 : decode cX0_forbid 20 = .ok (.iload_n 2, 1) := dk_28 (dk_at dksX0_forbid_0 20 rfl rfl)
theorem dX0_forbid_21 : decode cX0_forbid 21 = .ok (.putfield 439, 3) := dk_181 1 183 (dk_at dksX0_forbid_0 21 rfl rfl)
theorem dX0_forbid_24 : decode cX0_forbid 24 = .ok (.iconst 1, 1) := dk_4 (dk_at dksX0_forbid_1 0 rfl rfl)
theorem dX0_forbid_25 : decode cX0_forbid 25 = .ok (.ireturn, 1) := dk_172 (dk_at dksX0_forbid_1 1 rfl rfl)
abbrev cX0_wake : ByteArray := prog_1_method_42_code
def yX0_wake : MethodName := ⟨RX0, "wake", "(I)Z"⟩
def dkwX0_wake_0 : List UInt8 := [27, 2, 161, 0, 11, 27, 42, 180, 0, 7, 161, 0, 5, 3, 172, 42, 27, 181, 1, 186, 4, 172]
abbrev dktX0_wake_0 : List UInt8 := dkwX0_wake_0 ++ []
theorem dksX0_wake_0 : cX0_wake.data.toList.drop 0 = dktX0_wake_0 := by decide +kernel
theorem dX0_wake_0 : decode cX0_wake 0 = .ok (.iload_n 1, 1) := dk_27 (dk_at dksX0_wake_0 0 rfl rfl)
theorem dX0_wake_1 : decode cX0_wake 1 = .ok (.iconst (-1), 1) := dk_2 (dk_at dksX0_wake_0 1 rfl rfl)
theorem dX0_wake_2 : decode cX0_wake 2 = .ok (.if_icmp .lt 11, 3) := dk_161 0 11 (dk_at dksX0_wake_0 2 rfl rfl)
theorem dX0_wake_5 : decode cX0_wake 5 = .ok (.iload_n 1, 1) := dk_27 (dk_at dksX0_wake_0 5 rfl rfl)
theorem dX0_wake_6 : decode cX0_wake 6 = .ok (.aload_n 0, 1) := dk_42 (dk_at dksX0_wake_0 6 rfl rfl)
theorem dX0_wake_7 : decode cX0_wake 7 = .ok (.getfield 7, 3) := dk_180 0 7 (dk_at dksX0_wake_0 7 rfl rfl)
theorem dX0_wake_10 : decode cX0_wake 10 = .ok (.if_icmp .lt 5, 3) := dk_161 0 5 (dk_at dksX0_wake_0 10 rfl rfl)
theorem dX0_wake_13 : decode cX0_wake 13 = .ok (.iconst 0, 1) := dk_3 (dk_at dksX0_wake_0 13 rfl rfl)
theorem dX0_wake_14 : decode cX0_wake 14 = .ok (.ireturn, 1) := dk_172 (dk_at dksX0_wake_0 14 rfl rfl)
theorem dX0_wake_15 : decode cX0_wake 15 = .ok (.aload_n 0, 1) := dk_42 (dk_at dksX0_wake_0 15 rfl rfl)
theorem dX0_wake_16 : decode cX0_wake 16 = .ok (.iload_n 1, 1) := dk_27 (dk_at dksX0_wake_0 16 rfl rfl)
theorem dX0_wake_17 : decode cX0_wake 17 = .ok (.putfield 442, 3) := dk_181 1 186 (dk_at dksX0_wake_0 17 rfl rfl)
theorem dX0_wake_20 : decode cX0_wake 20 = .ok (.iconst 1, 1) := dk_4 (dk_at dksX0_wake_0 20 rfl rfl)
theorem dX0_wake_21 : decode cX0_wake 21 = .ok (.ireturn, 1) := dk_172 (dk_at dksX0_wake_0 21 rfl rfl)
abbrev cX0_beat : ByteArray := prog_1_method_43_code
def yX0_beat : MethodName := ⟨RX0, "beat", "()I"⟩
def dkwX0_beat_7 : List UInt8 := [180, 1, 128, 182, 1, 209, 42, 180, 1, 189, 172]
abbrev dktX0_beat_7 : List UInt8 := dkwX0_beat_7 ++ []
def dkwX0_beat_6 : List UInt8 := [182, 1, 205, 132, 3, 1, 167, 255, 224, 42, 3, 181, 0, 67, 42, 180, 1, 128, 198, 0, 11, 42, 42]
abbrev dktX0_beat_6 : List UInt8 := dkwX0_beat_6 ++ dktX0_beat_7
def dkwX0_beat_5 : List UInt8 := [162, 0, 33, 43, 29, 50, 58, 4, 25, 4, 198, 0, 17, 25, 4, 180, 1, 145, 153, 0, 9, 42, 25, 4]
abbrev dktX0_beat_5 : List UInt8 := dkwX0_beat_5 ++ dktX0_beat_6
def dkwX0_beat_4 : List UInt8 := [182, 1, 201, 79, 132, 1, 1, 167, 255, 197, 42, 180, 1, 141, 76, 43, 190, 61, 3, 62, 29, 28]
abbrev dktX0_beat_4 : List UInt8 := dkwX0_beat_4 ++ dktX0_beat_5
def dkwX0_beat_3 : List UInt8 := [2, 160, 0, 7, 5, 167, 0, 21, 42, 42, 180, 0, 43, 27, 50, 42, 180, 1, 186, 42, 180, 1, 189]
abbrev dktX0_beat_3 : List UInt8 := dkwX0_beat_3 ++ dktX0_beat_4
def dkwX0_beat_2 : List UInt8 := [162, 0, 57, 42, 180, 0, 43, 27, 50, 180, 0, 47, 198, 0, 39, 42, 180, 1, 192, 27, 42, 180, 1, 186]
abbrev dktX0_beat_2 : List UInt8 := dkwX0_beat_2 ++ dktX0_beat_3
def dkwX0_beat_1 : List UInt8 := [181, 0, 70, 42, 4, 181, 0, 67, 42, 180, 1, 192, 6, 184, 1, 195, 3, 60, 27, 42, 180, 0, 40]
abbrev dktX0_beat_1 : List UInt8 := dkwX0_beat_1 ++ dktX0_beat_2
def dkwX0_beat_0 : List UInt8 := [42, 180, 1, 189, 17, 3, 232, 160, 0, 5, 2, 172, 42, 89, 180, 1, 189, 4, 96, 181, 1, 189, 42, 3]
abbrev dktX0_beat_0 : List UInt8 := dkwX0_beat_0 ++ dktX0_beat_1
theorem dksX0_beat_0 : cX0_beat.data.toList.drop 0 = dktX0_beat_0 := by decide +kernel
theorem dksX0_beat_1 : cX0_beat.data.toList.drop 24 = dktX0_beat_1 := dk_seg dksX0_beat_0 24 rfl rfl
theorem dksX0_beat_2 : cX0_beat.data.toList.drop 47 = dktX0_beat_2 := dk_seg dksX0_beat_1 23 rfl rfl
theorem dksX0_beat_3 : cX0_beat.data.toList.drop 71 = dktX0_beat_3 := dk_seg dksX0_beat_2 24 rfl rfl
theorem dksX0_beat_4 : cX0_beat.data.toList.drop 94 = dktX0_beat_4 := dk_seg dksX0_beat_3 23 rfl rfl
theorem dksX0_beat_5 : cX0_beat.data.toList.drop 116 = dktX0_beat_5 := dk_seg dksX0_beat_4 22 rfl rfl
theorem dksX0_beat_6 : cX0_beat.data.toList.drop 140 = dktX0_beat_6 := dk_seg dksX0_beat_5 24 rfl rfl
theorem dksX0_beat_7 : cX0_beat.data.toList.drop 163 = dktX0_beat_7 := dk_seg dksX0_beat_6 23 rfl rfl
theorem dX0_beat_0 : decode cX0_beat 0 = .ok (.aload_n 0, 1) := dk_42 (dk_at dksX0_beat_0 0 rfl rfl)
theorem dX0_beat_1 : decode cX0_beat 1 = .ok (.getfield 445, 3) := dk_180 1 189 (dk_at dksX0_beat_0 1 rfl rfl)
theorem dX0_beat_4 : decode cX0_beat 4 = .ok (.sipush 1000, 3) := dk_17 3 232 (dk_at dksX0_beat_0 4 rfl rfl)
theorem dX0_beat_7 : decode cX0_beat 7 = .ok (.if_icmp .ne 5, 3) := dk_160 0 5 (dk_at dksX0_beat_0 7 rfl rfl)
theorem dX0_beat_10 : decode cX0_beat 10 = .ok (.iconst (-1), 1) := dk_2 (dk_at dksX0_beat_0 10 rfl rfl)
theorem dX0_beat_11 : decode cX0_beat 11 = .ok (.ireturn, 1) := dk_172 (dk_at dksX0_beat_0 11 rfl rfl)
theorem dX0_beat_12 : decode cX0_beat 12 = .ok (.aload_n 0, 1) := dk_42 (dk_at dksX0_beat_0 12 rfl rfl)
theorem dX0_beat_13 : decode cX0_beat 13 = .ok (.dup, 1) := dk_89 (dk_at dksX0_beat_0 13 rfl rfl)
theorem dX0_beat_14 : decode cX0_beat 14 = .ok (.getfield 445, 3) := dk_180 1 189 (dk_at dksX0_beat_0 14 rfl rfl)
theorem dX0_beat_17 : decode cX0_beat 17 = .ok (.iconst 1, 1) := dk_4 (dk_at dksX0_beat_0 17 rfl rfl)
theorem dX0_beat_18 : decode cX0_beat 18 = .ok (.iadd, 1) := dk_96 (dk_at dksX0_beat_0 18 rfl rfl)
theorem dX0_beat_19 : decode cX0_beat 19 = .ok (.putfield 445, 3) := dk_181 1 189 (dk_at dksX0_beat_0 19 rfl rfl)
theorem dX0_beat_22 : decode cX0_beat 22 = .ok (.aload_n 0, 1) := dk_42 (dk_at dksX0_beat_0 22 rfl rfl)
theorem dX0_beat_23 : decode cX0_beat 23 = .ok (.iconst 0, 1) := dk_3 (dk_at dksX0_beat_0 23 rfl rfl)
theorem dX0_beat_24 : decode cX0_beat 24 = .ok (.putfield 70, 3) := dk_181 0 70 (dk_at dksX0_beat_1 0 rfl rfl)
theorem dX0_beat_27 : decode cX0_beat 27 = .ok (.aload_n 0, 1) := dk_42 (dk_at dksX0_beat_1 3 rfl rfl)
theorem dX0_beat_28 : decode cX0_beat 28 = .ok (.iconst 1, 1) := dk_4 (dk_at dksX0_beat_1 4 rfl rfl)
theorem dX0_beat_29 : decode cX0_beat 29 = .ok (.putfield 67, 3) := dk_181 0 67 (dk_at dksX0_beat_1 5 rfl rfl)
theorem dX0_beat_32 : decode cX0_beat 32 = .ok (.aload_n 0, 1) := dk_42 (dk_at dksX0_beat_1 8 rfl rfl)
theorem dX0_beat_33 : decode cX0_beat 33 = .ok (.getfield 448, 3) := dk_180 1 192 (dk_at dksX0_beat_1 9 rfl rfl)
theorem dX0_beat_36 : decode cX0_beat 36 = .ok (.iconst 3, 1) := dk_6 (dk_at dksX0_beat_1 12 rfl rfl)
theorem dX0_beat_37 : decode cX0_beat 37 = .ok (.invokestatic 451, 3) := dk_184 1 195 (dk_at dksX0_beat_1 13 rfl rfl)
theorem dX0_beat_40 : decode cX0_beat 40 = .ok (.iconst 0, 1) := dk_3 (dk_at dksX0_beat_1 16 rfl rfl)
theorem dX0_beat_41 : decode cX0_beat 41 = .ok (.istore_n 1, 1) := dk_60 (dk_at dksX0_beat_1 17 rfl rfl)
theorem dX0_beat_42 : decode cX0_beat 42 = .ok (.iload_n 1, 1) := dk_27 (dk_at dksX0_beat_1 18 rfl rfl)
theorem dX0_beat_43 : decode cX0_beat 43 = .ok (.aload_n 0, 1) := dk_42 (dk_at dksX0_beat_1 19 rfl rfl)
theorem dX0_beat_44 : decode cX0_beat 44 = .ok (.getfield 40, 3) := dk_180 0 40 (dk_at dksX0_beat_1 20 rfl rfl)
theorem dX0_beat_47 : decode cX0_beat 47 = .ok (.if_icmp .ge 57, 3) := dk_162 0 57 (dk_at dksX0_beat_2 0 rfl rfl)
theorem dX0_beat_50 : decode cX0_beat 50 = .ok (.aload_n 0, 1) := dk_42 (dk_at dksX0_beat_2 3 rfl rfl)
theorem dX0_beat_51 : decode cX0_beat 51 = .ok (.getfield 43, 3) := dk_180 0 43 (dk_at dksX0_beat_2 4 rfl rfl)
theorem dX0_beat_54 : decode cX0_beat 54 = .ok (.iload_n 1, 1) := dk_27 (dk_at dksX0_beat_2 7 rfl rfl)
theorem dX0_beat_55 : decode cX0_beat 55 = .ok (.aaload, 1) := dk_50 (dk_at dksX0_beat_2 8 rfl rfl)
theorem dX0_beat_56 : decode cX0_beat 56 = .ok (.getfield 47, 3) := dk_180 0 47 (dk_at dksX0_beat_2 9 rfl rfl)
theorem dX0_beat_59 : decode cX0_beat 59 = .ok (.ifnull 39, 3) := dk_198 0 39 (dk_at dksX0_beat_2 12 rfl rfl)
theorem dX0_beat_62 : decode cX0_beat 62 = .ok (.aload_n 0, 1) := dk_42 (dk_at dksX0_beat_2 15 rfl rfl)
theorem dX0_beat_63 : decode cX0_beat 63 = .ok (.getfield 448, 3) := dk_180 1 192 (dk_at dksX0_beat_2 16 rfl rfl)
theorem dX0_beat_66 : decode cX0_beat 66 = .ok (.iload_n 1, 1) := dk_27 (dk_at dksX0_beat_2 19 rfl rfl)
theorem dX0_beat_67 : decode cX0_beat 67 = .ok (.aload_n 0, 1) := dk_42 (dk_at dksX0_beat_2 20 rfl rfl)
theorem dX0_beat_68 : decode cX0_beat 68 = .ok (.getfield 442, 3) := dk_180 1 186 (dk_at dksX0_beat_2 21 rfl rfl)
theorem dX0_beat_71 : decode cX0_beat 71 = .ok (.iconst (-1), 1) := dk_2 (dk_at dksX0_beat_3 0 rfl rfl)
theorem dX0_beat_72 : decode cX0_beat 72 = .ok (.if_icmp .ne 7, 3) := dk_160 0 7 (dk_at dksX0_beat_3 1 rfl rfl)
theorem dX0_beat_75 : decode cX0_beat 75 = .ok (.iconst 2, 1) := dk_5 (dk_at dksX0_beat_3 4 rfl rfl)
theorem dX0_beat_76 : decode cX0_beat 76 = .ok (.goto 21, 3) := dk_167 0 21 (dk_at dksX0_beat_3 5 rfl rfl)
theorem dX0_beat_79 : decode cX0_beat 79 = .ok (.aload_n 0, 1) := dk_42 (dk_at dksX0_beat_3 8 rfl rfl)
theorem dX0_beat_80 : decode cX0_beat 80 = .ok (.aload_n 0, 1) := dk_42 (dk_at dksX0_beat_3 9 rfl rfl)
theorem dX0_beat_81 : decode cX0_beat 81 = .ok (.getfield 43, 3) := dk_180 0 43 (dk_at dksX0_beat_3 10 rfl rfl)
theorem dX0_beat_84 : decode cX0_beat 84 = .ok (.iload_n 1, 1) := dk_27 (dk_at dksX0_beat_3 13 rfl rfl)
theorem dX0_beat_85 : decode cX0_beat 85 = .ok (.aaload, 1) := dk_50 (dk_at dksX0_beat_3 14 rfl rfl)
theorem dX0_beat_86 : decode cX0_beat 86 = .ok (.aload_n 0, 1) := dk_42 (dk_at dksX0_beat_3 15 rfl rfl)
theorem dX0_beat_87 : decode cX0_beat 87 = .ok (.getfield 442, 3) := dk_180 1 186 (dk_at dksX0_beat_3 16 rfl rfl)
theorem dX0_beat_90 : decode cX0_beat 90 = .ok (.aload_n 0, 1) := dk_42 (dk_at dksX0_beat_3 19 rfl rfl)
theorem dX0_beat_91 : decode cX0_beat 91 = .ok (.getfield 445, 3) := dk_180 1 189 (dk_at dksX0_beat_3 20 rfl rfl)
theorem dX0_beat_94 : decode cX0_beat 94 = .ok (.invokevirtual 457, 3) := dk_182 1 201 (dk_at dksX0_beat_4 0 rfl rfl)
theorem dX0_beat_97 : decode cX0_beat 97 = .ok (.iastore, 1) := dk_79 (dk_at dksX0_beat_4 3 rfl rfl)
theorem dX0_beat_98 : decode cX0_beat 98 = .ok (.iinc 1 1, 3) := dk_132 1 1 (dk_at dksX0_beat_4 4 rfl rfl)
theorem dX0_beat_101 : decode cX0_beat 101 = .ok (.goto (-59), 3) := dk_167 255 197 (dk_at dksX0_beat_4 7 rfl rfl)
theorem dX0_beat_104 : decode cX0_beat 104 = .ok (.aload_n 0, 1) := dk_42 (dk_at dksX0_beat_4 10 rfl rfl)
theorem dX0_beat_105 : decode cX0_beat 105 = .ok (.getfield 397, 3) := dk_180 1 141 (dk_at dksX0_beat_4 11 rfl rfl)
theorem dX0_beat_108 : decode cX0_beat 108 = .ok (.astore_n 1, 1) := dk_76 (dk_at dksX0_beat_4 14 rfl rfl)
theorem dX0_beat_109 : decode cX0_beat 109 = .ok (.aload_n 1, 1) := dk_43 (dk_at dksX0_beat_4 15 rfl rfl)
theorem dX0_beat_110 : decode cX0_beat 110 = .ok (.arraylength, 1) := dk_190 (dk_at dksX0_beat_4 16 rfl rfl)
theorem dX0_beat_111 : decode cX0_beat 111 = .ok (.istore_n 2, 1) := dk_61 (dk_at dksX0_beat_4 17 rfl rfl)
theorem dX0_beat_112 : decode cX0_beat 112 = .ok (.iconst 0, 1) := dk_3 (dk_at dksX0_beat_4 18 rfl rfl)
theorem dX0_beat_113 : decode cX0_beat 113 = .ok (.istore_n 3, 1) := dk_62 (dk_at dksX0_beat_4 19 rfl rfl)
theorem dX0_beat_114 : decode cX0_beat 114 = .ok (.iload_n 3, 1) := dk_29 (dk_at dksX0_beat_4 20 rfl rfl)
theorem dX0_beat_115 : decode cX0_beat 115 = .ok (.iload_n 2, 1) := dk_28 (dk_at dksX0_beat_4 21 rfl rfl)
theorem dX0_beat_116 : decode cX0_beat 116 = .ok (.if_icmp .ge 33, 3) := dk_162 0 33 (dk_at dksX0_beat_5 0 rfl rfl)
theorem dX0_beat_119 : decode cX0_beat 119 = .ok (.aload_n 1, 1) := dk_43 (dk_at dksX0_beat_5 3 rfl rfl)
theorem dX0_beat_120 : decode cX0_beat 120 = .ok (.iload_n 3, 1) := dk_29 (dk_at dksX0_beat_5 4 rfl rfl)
theorem dX0_beat_121 : decode cX0_beat 121 = .ok (.aaload, 1) := dk_50 (dk_at dksX0_beat_5 5 rfl rfl)
theorem dX0_beat_122 : decode cX0_beat 122 = .ok (.astore 4, 2) := dk_58 4 (dk_at dksX0_beat_5 6 rfl rfl)
theorem dX0_beat_124 : decode cX0_beat 124 = .ok (.aload 4, 2) := dk_25 4 (dk_at dksX0_beat_5 8 rfl rfl)
theorem dX0_beat_126 : decode cX0_beat 126 = .ok (.ifnull 17, 3) := dk_198 0 17 (dk_at dksX0_beat_5 10 rfl rfl)
theorem dX0_beat_129 : decode cX0_beat 129 = .ok (.aload 4, 2) := dk_25 4 (dk_at dksX0_beat_5 13 rfl rfl)
theorem dX0_beat_131 : decode cX0_beat 131 = .ok (.getfield 401, 3) := dk_180 1 145 (dk_at dksX0_beat_5 15 rfl rfl)
theorem dX0_beat_134 : decode cX0_beat 134 = .ok (.ifCond .eq 9, 3) := dk_153 0 9 (dk_at dksX0_beat_5 18 rfl rfl)
theorem dX0_beat_137 : decode cX0_beat 137 = .ok (.aload_n 0, 1) := dk_42 (dk_at dksX0_beat_5 21 rfl rfl)
theorem dX0_beat_138 : decode cX0_beat 138 = .ok (.aload 4, 2) := dk_25 4 (dk_at dksX0_beat_5 22 rfl rfl)
theorem dX0_beat_140 : decode cX0_beat 140 = .ok (.invokevirtual 461, 3) := dk_182 1 205 (dk_at dksX0_beat_6 0 rfl rfl)
theorem dX0_beat_143 : decode cX0_beat 143 = .ok (.iinc 3 1, 3) := dk_132 3 1 (dk_at dksX0_beat_6 3 rfl rfl)
theorem dX0_beat_146 : decode cX0_beat 146 = .ok (.goto (-32), 3) := dk_167 255 224 (dk_at dksX0_beat_6 6 rfl rfl)
theorem dX0_beat_149 : decode cX0_beat 149 = .ok (.aload_n 0, 1) := dk_42 (dk_at dksX0_beat_6 9 rfl rfl)
theorem dX0_beat_150 : decode cX0_beat 150 = .ok (.iconst 0, 1) := dk_3 (dk_at dksX0_beat_6 10 rfl rfl)
theorem dX0_beat_151 : decode cX0_beat 151 = .ok (.putfield 67, 3) := dk_181 0 67 (dk_at dksX0_beat_6 11 rfl rfl)
theorem dX0_beat_154 : decode cX0_beat 154 = .ok (.aload_n 0, 1) := dk_42 (dk_at dksX0_beat_6 14 rfl rfl)
theorem dX0_beat_155 : decode cX0_beat 155 = .ok (.getfield 384, 3) := dk_180 1 128 (dk_at dksX0_beat_6 15 rfl rfl)
theorem dX0_beat_158 : decode cX0_beat 158 = .ok (.ifnull 11, 3) := dk_198 0 11 (dk_at dksX0_beat_6 18 rfl rfl)
theorem dX0_beat_161 : decode cX0_beat 161 = .ok (.aload_n 0, 1) := dk_42 (dk_at dksX0_beat_6 21 rfl rfl)
theorem dX0_beat_162 : decode cX0_beat 162 = .ok (.aload_n 0, 1) := dk_42 (dk_at dksX0_beat_6 22 rfl rfl)
theorem dX0_beat_163 : decode cX0_beat 163 = .ok (.getfield 384, 3) := dk_180 1 128 (dk_at dksX0_beat_7 0 rfl rfl)
theorem dX0_beat_166 : decode cX0_beat 166 = .ok (.invokevirtual 465, 3) := dk_182 1 209 (dk_at dksX0_beat_7 3 rfl rfl)
theorem dX0_beat_169 : decode cX0_beat 169 = .ok (.aload_n 0, 1) := dk_42 (dk_at dksX0_beat_7 6 rfl rfl)
theorem dX0_beat_170 : decode cX0_beat 170 = .ok (.getfield 445, 3) := dk_180 1 189 (dk_at dksX0_beat_7 7 rfl rfl)
theorem dX0_beat_173 : decode cX0_beat 173 = .ok (.ireturn, 1) := dk_172 (dk_at dksX0_beat_7 10 rfl rfl)
abbrev cX0_run : ByteArray := prog_1_method_14_code
def yX0_run : MethodName := ⟨RX0, "run", "(LPondHouse$Creature;II)I"⟩
def dkwX0_run_1 : List UInt8 := [25, 4, 29, 182, 0, 94, 181, 0, 125, 3, 172, 58, 5, 42, 25, 5, 182, 0, 133, 172]
abbrev dktX0_run_1 : List UInt8 := dkwX0_run_1 ++ []
def dkwX0_run_0 : List UInt8 := [42, 182, 0, 127, 43, 180, 0, 47, 28, 182, 0, 130, 58, 4, 25, 4, 199, 0, 5, 5, 172, 42, 42, 43]
abbrev dktX0_run_0 : List UInt8 := dkwX0_run_0 ++ dktX0_run_1
theorem dksX0_run_0 : cX0_run.data.toList.drop 0 = dktX0_run_0 := by decide +kernel
theorem dksX0_run_1 : cX0_run.data.toList.drop 24 = dktX0_run_1 := dk_seg dksX0_run_0 24 rfl rfl
theorem dX0_run_0 : decode cX0_run 0 = .ok (.aload_n 0, 1) := dk_42 (dk_at dksX0_run_0 0 rfl rfl)
theorem dX0_run_1 : decode cX0_run 1 = .ok (.invokevirtual 127, 3) := dk_182 0 127 (dk_at dksX0_run_0 1 rfl rfl)
theorem dX0_run_4 : decode cX0_run 4 = .ok (.aload_n 1, 1) := dk_43 (dk_at dksX0_run_0 4 rfl rfl)
theorem dX0_run_5 : decode cX0_run 5 = .ok (.getfield 47, 3) := dk_180 0 47 (dk_at dksX0_run_0 5 rfl rfl)
theorem dX0_run_8 : decode cX0_run 8 = .ok (.iload_n 2, 1) := dk_28 (dk_at dksX0_run_0 8 rfl rfl)
theorem dX0_run_9 : decode cX0_run 9 = .ok (.invokevirtual 130, 3) := dk_182 0 130 (dk_at dksX0_run_0 9 rfl rfl)
theorem dX0_run_12 : decode cX0_run 12 = .ok (.astore 4, 2) := dk_58 4 (dk_at dksX0_run_0 12 rfl rfl)
theorem dX0_run_14 : decode cX0_run 14 = .ok (.aload 4, 2) := dk_25 4 (dk_at dksX0_run_0 14 rfl rfl)
theorem dX0_run_16 : decode cX0_run 16 = .ok (.ifnonnull 5, 3) := dk_199 0 5 (dk_at dksX0_run_0 16 rfl rfl)
theorem dX0_run_19 : decode cX0_run 19 = .ok (.iconst 2, 1) := dk_5 (dk_at dksX0_run_0 19 rfl rfl)
theorem dX0_run_20 : decode cX0_run 20 = .ok (.ireturn, 1) := dk_172 (dk_at dksX0_run_0 20 rfl rfl)
theorem dX0_run_21 : decode cX0_run 21 = .ok (.aload_n 0, 1) := dk_42 (dk_at dksX0_run_0 21 rfl rfl)
theorem dX0_run_22 : decode cX0_run 22 = .ok (.aload_n 0, 1) := dk_42 (dk_at dksX0_run_0 22 rfl rfl)
theorem dX0_run_23 : decode cX0_run 23 = .ok (.aload_n 1, 1) := dk_43 (dk_at dksX0_run_0 23 rfl rfl)
theorem dX0_run_24 : decode cX0_run 24 = .ok (.aload 4, 2) := dk_25 4 (dk_at dksX0_run_1 0 rfl rfl)
theorem dX0_run_26 : decode cX0_run 26 = .ok (.iload_n 3, 1) := dk_29 (dk_at dksX0_run_1 2 rfl rfl)
theorem dX0_run_27 : decode cX0_run 27 = .ok (.invokevirtual 94, 3) := dk_182 0 94 (dk_at dksX0_run_1 3 rfl rfl)
theorem dX0_run_30 : decode cX0_run 30 = .ok (.putfield 125, 3) := dk_181 0 125 (dk_at dksX0_run_1 6 rfl rfl)
theorem dX0_run_33 : decode cX0_run 33 = .ok (.iconst 0, 1) := dk_3 (dk_at dksX0_run_1 9 rfl rfl)
theorem dX0_run_34 : decode cX0_run 34 = .ok (.ireturn, 1) := dk_172 (dk_at dksX0_run_1 10 rfl rfl)
theorem dX0_run_35 : decode cX0_run 35 = .ok (.astore 5, 2) := dk_58 5 (dk_at dksX0_run_1 11 rfl rfl)
theorem dX0_run_37 : decode cX0_run 37 = .ok (.aload_n 0, 1) := dk_42 (dk_at dksX0_run_1 13 rfl rfl)
theorem dX0_run_38 : decode cX0_run 38 = .ok (.aload 5, 2) := dk_25 5 (dk_at dksX0_run_1 14 rfl rfl)
theorem dX0_run_40 : decode cX0_run 40 = .ok (.invokevirtual 133, 3) := dk_182 0 133 (dk_at dksX0_run_1 16 rfl rfl)
theorem dX0_run_43 : decode cX0_run 43 = .ok (.ireturn, 1) := dk_172 (dk_at dksX0_run_1 19 rfl rfl)
abbrev cX0_begins : ByteArray := prog_1_method_12_code
def yX0_begins : MethodName := ⟨RX0, "begins", "()V"⟩
def dkwX0_begins_0 : List UInt8 := [42, 17, 1, 244, 181, 0, 64, 42, 3, 181, 0, 87, 42, 3, 181, 0, 125, 42, 3, 181, 0, 126, 177]
abbrev dktX0_begins_0 : List UInt8 := dkwX0_begins_0 ++ []
theorem dksX0_begins_0 : cX0_begins.data.toList.drop 0 = dktX0_begins_0 := by decide +kernel
theorem dX0_begins_0 : decode cX0_begins 0 = .ok (.aload_n 0, 1) := dk_42 (dk_at dksX0_begins_0 0 rfl rfl)
theorem dX0_begins_1 : decode cX0_begins 1 = .ok (.sipush 500, 3) := dk_17 1 244 (dk_at dksX0_begins_0 1 rfl rfl)
theorem dX0_begins_4 : decode cX0_begins 4 = .ok (.putfield 64, 3) := dk_181 0 64 (dk_at dksX0_begins_0 4 rfl rfl)
theorem dX0_begins_7 : decode cX0_begins 7 = .ok (.aload_n 0, 1) := dk_42 (dk_at dksX0_begins_0 7 rfl rfl)
theorem dX0_begins_8 : decode cX0_begins 8 = .ok (.iconst 0, 1) := dk_3 (dk_at dksX0_begins_0 8 rfl rfl)
theorem dX0_begins_9 : decode cX0_begins 9 = .ok (.putfield 87, 3) := dk_181 0 87 (dk_at dksX0_begins_0 9 rfl rfl)
theorem dX0_begins_12 : decode cX0_begins 12 = .ok (.aload_n 0, 1) := dk_42 (dk_at dksX0_begins_0 12 rfl rfl)
theorem dX0_begins_13 : decode cX0_begins 13 = .ok (.iconst 0, 1) := dk_3 (dk_at dksX0_begins_0 13 rfl rfl)
theorem dX0_begins_14 : decode cX0_begins 14 = .ok (.putfield 125, 3) := dk_181 0 125 (dk_at dksX0_begins_0 14 rfl rfl)
theorem dX0_begins_17 : decode cX0_begins 17 = .ok (.aload_n 0, 1) := dk_42 (dk_at dksX0_begins_0 17 rfl rfl)
theorem dX0_begins_18 : decode cX0_begins 18 = .ok (.iconst 0, 1) := dk_3 (dk_at dksX0_begins_0 18 rfl rfl)
theorem dX0_begins_19 : decode cX0_begins 19 = .ok (.putfield 126, 3) := dk_181 0 126 (dk_at dksX0_begins_0 19 rfl rfl)
theorem dX0_begins_22 : decode cX0_begins 22 = .ok (.return_, 1) := dk_177 (dk_at dksX0_begins_0 22 rfl rfl)
abbrev cX0_body : ByteArray := prog_1_method_11_code
def yX0_body : MethodName := ⟨RX0, "body", "(LPondHouse$Creature;LPondHouse$Body;I)I"⟩
def dkwX0_body_1 : List UInt8 := [180, 0, 112, 25, 4, 3, 3, 182, 0, 116, 87, 25, 4, 180, 0, 122, 172]
abbrev dktX0_body_1 : List UInt8 := dkwX0_body_1 ++ []
def dkwX0_body_0 : List UInt8 := [42, 43, 44, 182, 0, 98, 42, 180, 0, 102, 42, 180, 0, 87, 50, 43, 44, 29, 182, 0, 106, 58, 4, 44]
abbrev dktX0_body_0 : List UInt8 := dkwX0_body_0 ++ dktX0_body_1
theorem dksX0_body_0 : cX0_body.data.toList.drop 0 = dktX0_body_0 := by decide +kernel
theorem dksX0_body_1 : cX0_body.data.toList.drop 24 = dktX0_body_1 := dk_seg dksX0_body_0 24 rfl rfl
theorem dX0_body_0 : decode cX0_body 0 = .ok (.aload_n 0, 1) := dk_42 (dk_at dksX0_body_0 0 rfl rfl)
theorem dX0_body_1 : decode cX0_body 1 = .ok (.aload_n 1, 1) := dk_43 (dk_at dksX0_body_0 1 rfl rfl)
theorem dX0_body_2 : decode cX0_body 2 = .ok (.aload_n 2, 1) := dk_44 (dk_at dksX0_body_0 2 rfl rfl)
theorem dX0_body_3 : decode cX0_body 3 = .ok (.invokevirtual 98, 3) := dk_182 0 98 (dk_at dksX0_body_0 3 rfl rfl)
theorem dX0_body_6 : decode cX0_body 6 = .ok (.aload_n 0, 1) := dk_42 (dk_at dksX0_body_0 6 rfl rfl)
theorem dX0_body_7 : decode cX0_body 7 = .ok (.getfield 102, 3) := dk_180 0 102 (dk_at dksX0_body_0 7 rfl rfl)
theorem dX0_body_10 : decode cX0_body 10 = .ok (.aload_n 0, 1) := dk_42 (dk_at dksX0_body_0 10 rfl rfl)
theorem dX0_body_11 : decode cX0_body 11 = .ok (.getfield 87, 3) := dk_180 0 87 (dk_at dksX0_body_0 11 rfl rfl)
theorem dX0_body_14 : decode cX0_body 14 = .ok (.aaload, 1) := dk_50 (dk_at dksX0_body_0 14 rfl rfl)
theorem dX0_body_15 : decode cX0_body 15 = .ok (.aload_n 1, 1) := dk_43 (dk_at dksX0_body_0 15 rfl rfl)
theorem dX0_body_16 : decode cX0_body 16 = .ok (.aload_n 2, 1) := dk_44 (dk_at dksX0_body_0 16 rfl rfl)
theorem dX0_body_17 : decode cX0_body 17 = .ok (.iload_n 3, 1) := dk_29 (dk_at dksX0_body_0 17 rfl rfl)
theorem dX0_body_18 : decode cX0_body 18 = .ok (.invokevirtual 106, 3) := dk_182 0 106 (dk_at dksX0_body_0 18 rfl rfl)
theorem dX0_body_21 : decode cX0_body 21 = .ok (.astore 4, 2) := dk_58 4 (dk_at dksX0_body_0 21 rfl rfl)
theorem dX0_body_23 : decode cX0_body 23 = .ok (.aload_n 2, 1) := dk_44 (dk_at dksX0_body_0 23 rfl rfl)
theorem dX0_body_24 : decode cX0_body 24 = .ok (.getfield 112, 3) := dk_180 0 112 (dk_at dksX0_body_1 0 rfl rfl)
theorem dX0_body_27 : decode cX0_body 27 = .ok (.aload 4, 2) := dk_25 4 (dk_at dksX0_body_1 3 rfl rfl)
theorem dX0_body_29 : decode cX0_body 29 = .ok (.iconst 0, 1) := dk_3 (dk_at dksX0_body_1 5 rfl rfl)
theorem dX0_body_30 : decode cX0_body 30 = .ok (.iconst 0, 1) := dk_3 (dk_at dksX0_body_1 6 rfl rfl)
theorem dX0_body_31 : decode cX0_body 31 = .ok (.invokevirtual 116, 3) := dk_182 0 116 (dk_at dksX0_body_1 7 rfl rfl)
theorem dX0_body_34 : decode cX0_body 34 = .ok (.pop, 1) := dk_87 (dk_at dksX0_body_1 10 rfl rfl)
theorem dX0_body_35 : decode cX0_body 35 = .ok (.aload 4, 2) := dk_25 4 (dk_at dksX0_body_1 11 rfl rfl)
theorem dX0_body_37 : decode cX0_body 37 = .ok (.getfield 122, 3) := dk_180 0 122 (dk_at dksX0_body_1 13 rfl rfl)
theorem dX0_body_40 : decode cX0_body 40 = .ok (.ireturn, 1) := dk_172 (dk_at dksX0_body_1 16 rfl rfl)
abbrev cX0_notes : ByteArray := prog_1_method_9_code
def yX0_notes : MethodName := ⟨RX0, "notes", "(LPondHouse$Creature;LPondHouse$Body;)V"⟩
def dkwX0_notes_4 : List UInt8 := [180, 0, 70, 4, 96, 181, 0, 70, 177]
abbrev dktX0_notes_4 : List UInt8 := dkwX0_notes_4 ++ []
def dkwX0_notes_3 : List UInt8 := [42, 180, 0, 73, 7, 42, 180, 0, 70, 104, 6, 96, 44, 180, 0, 83, 180, 0, 84, 79, 42, 89]
abbrev dktX0_notes_3 : List UInt8 := dkwX0_notes_3 ++ dktX0_notes_4
def dkwX0_notes_2 : List UInt8 := [180, 0, 80, 79, 42, 180, 0, 73, 7, 42, 180, 0, 70, 104, 5, 96, 44, 180, 0, 83, 180, 0, 17, 79]
abbrev dktX0_notes_2 : List UInt8 := dkwX0_notes_2 ++ dktX0_notes_3
def dkwX0_notes_1 : List UInt8 := [180, 0, 70, 104, 43, 180, 0, 77, 79, 42, 180, 0, 73, 7, 42, 180, 0, 70, 104, 4, 96, 44]
abbrev dktX0_notes_1 : List UInt8 := dkwX0_notes_1 ++ dktX0_notes_2
def dkwX0_notes_0 : List UInt8 := [42, 180, 0, 67, 153, 0, 12, 42, 180, 0, 70, 16, 50, 160, 0, 4, 177, 42, 180, 0, 73, 7, 42]
abbrev dktX0_notes_0 : List UInt8 := dkwX0_notes_0 ++ dktX0_notes_1
theorem dksX0_notes_0 : cX0_notes.data.toList.drop 0 = dktX0_notes_0 := by decide +kernel
theorem dksX0_notes_1 : cX0_notes.data.toList.drop 23 = dktX0_notes_1 := dk_seg dksX0_notes_0 23 rfl rfl
theorem dksX0_notes_2 : cX0_notes.data.toList.drop 45 = dktX0_notes_2 := dk_seg dksX0_notes_1 22 rfl rfl
theorem dksX0_notes_3 : cX0_notes.data.toList.drop 69 = dktX0_notes_3 := dk_seg dksX0_notes_2 24 rfl rfl
theorem dksX0_notes_4 : cX0_notes.data.toList.drop 91 = dktX0_notes_4 := dk_seg dksX0_notes_3 22 rfl rfl
theorem dX0_notes_0 : decode cX0_notes 0 = .ok (.aload_n 0, 1) := dk_42 (dk_at dksX0_notes_0 0 rfl rfl)
theorem dX0_notes_1 : decode cX0_notes 1 = .ok (.getfield 67, 3) := dk_180 0 67 (dk_at dksX0_notes_0 1 rfl rfl)
theorem dX0_notes_4 : decode cX0_notes 4 = .ok (.ifCond .eq 12, 3) := dk_153 0 12 (dk_at dksX0_notes_0 4 rfl rfl)
theorem dX0_notes_7 : decode cX0_notes 7 = .ok (.aload_n 0, 1) := dk_42 (dk_at dksX0_notes_0 7 rfl rfl)
theorem dX0_notes_8 : decode cX0_notes 8 = .ok (.getfield 70, 3) := dk_180 0 70 (dk_at dksX0_notes_0 8 rfl rfl)
theorem dX0_notes_11 : decode cX0_notes 11 = .ok (.bipush 50, 2) := dk_16 50 (dk_at dksX0_notes_0 11 rfl rfl)
theorem dX0_notes_13 : decode cX0_notes 13 = .ok (.if_icmp .ne 4, 3) := dk_160 0 4 (dk_at dksX0_notes_0 13 rfl rfl)
theorem dX0_notes_16 : decode cX0_notes 16 = .ok (.return_, 1) := dk_177 (dk_at dksX0_notes_0 16 rfl rfl)
theorem dX0_notes_17 : decode cX0_notes 17 = .ok (.aload_n 0, 1) := dk_42 (dk_at dksX0_notes_0 17 rfl rfl)
theorem dX0_notes_18 : decode cX0_notes 18 = .ok (.getfield 73, 3) := dk_180 0 73 (dk_at dksX0_notes_0 18 rfl rfl)
theorem dX0_notes_21 : decode cX0_notes 21 = .ok (.iconst 4, 1) := dk_7 (dk_at dksX0_notes_0 21 rfl rfl)
theorem dX0_notes_22 : decode cX0_notes 22 = .ok (.aload_n 0, 1) := dk_42 (dk_at dksX0_notes_0 22 rfl rfl)
theorem dX0_notes_23 : decode cX0_notes 23 = .ok (.getfield 70, 3) := dk_180 0 70 (dk_at dksX0_notes_1 0 rfl rfl)
theorem dX0_notes_26 : decode cX0_notes 26 = .ok (.imul, 1) := dk_104 (dk_at dksX0_notes_1 3 rfl rfl)
theorem dX0_notes_27 : decode cX0_notes 27 = .ok (.aload_n 1, 1) := dk_43 (dk_at dksX0_notes_1 4 rfl rfl)
theorem dX0_notes_28 : decode cX0_notes 28 = .ok (.getfield 77, 3) := dk_180 0 77 (dk_at dksX0_notes_1 5 rfl rfl)
theorem dX0_notes_31 : decode cX0_notes 31 = .ok (.iastore, 1) := dk_79 (dk_at dksX0_notes_1 8 rfl rfl)
theorem dX0_notes_32 : decode cX0_notes 32 = .ok (.aload_n 0, 1) := dk_42 (dk_at dksX0_notes_1 9 rfl rfl)
theorem dX0_notes_33 : decode cX0_notes 33 = .ok (.getfield 73, 3) := dk_180 0 73 (dk_at dksX0_notes_1 10 rfl rfl)
theorem dX0_notes_36 : decode cX0_notes 36 = .ok (.iconst 4, 1) := dk_7 (dk_at dksX0_notes_1 13 rfl rfl)
theorem dX0_notes_37 : decode cX0_notes 37 = .ok (.aload_n 0, 1) := dk_42 (dk_at dksX0_notes_1 14 rfl rfl)
theorem dX0_notes_38 : decode cX0_notes 38 = .ok (.getfield 70, 3) := dk_180 0 70 (dk_at dksX0_notes_1 15 rfl rfl)
theorem dX0_notes_41 : decode cX0_notes 41 = .ok (.imul, 1) := dk_104 (dk_at dksX0_notes_1 18 rfl rfl)
theorem dX0_notes_42 : decode cX0_notes 42 = .ok (.iconst 1, 1) := dk_4 (dk_at dksX0_notes_1 19 rfl rfl)
theorem dX0_notes_43 : decode cX0_notes 43 = .ok (.iadd, 1) := dk_96 (dk_at dksX0_notes_1 20 rfl rfl)
theorem dX0_notes_44 : decode cX0_notes 44 = .ok (.aload_n 2, 1) := dk_44 (dk_at dksX0_notes_1 21 rfl rfl)
theorem dX0_notes_45 : decode cX0_notes 45 = .ok (.getfield 80, 3) := dk_180 0 80 (dk_at dksX0_notes_2 0 rfl rfl)
theorem dX0_notes_48 : decode cX0_notes 48 = .ok (.iastore, 1) := dk_79 (dk_at dksX0_notes_2 3 rfl rfl)
theorem dX0_notes_49 : decode cX0_notes 49 = .ok (.aload_n 0, 1) := dk_42 (dk_at dksX0_notes_2 4 rfl rfl)
theorem dX0_notes_50 : decode cX0_notes 50 = .ok (.getfield 73, 3) := dk_180 0 73 (dk_at dksX0_notes_2 5 rfl rfl)
theorem dX0_notes_53 : decode cX0_notes 53 = .ok (.iconst 4, 1) := dk_7 (dk_at dksX0_notes_2 8 rfl rfl)
theorem dX0_notes_54 : decode cX0_notes 54 = .ok (.aload_n 0, 1) := dk_42 (dk_at dksX0_notes_2 9 rfl rfl)
theorem dX0_notes_55 : decode cX0_notes 55 = .ok (.getfield 70, 3) := dk_180 0 70 (dk_at dksX0_notes_2 10 rfl rfl)
theorem dX0_notes_58 : decode cX0_notes 58 = .ok (.imul, 1) := dk_104 (dk_at dksX0_notes_2 13 rfl rfl)
theorem dX0_notes_59 : decode cX0_notes 59 = .ok (.iconst 2, 1) := dk_5 (dk_at dksX0_notes_2 14 rfl rfl)
theorem dX0_notes_60 : decode cX0_notes 60 = .ok (.iadd, 1) := dk_96 (dk_at dksX0_notes_2 15 rfl rfl)
theorem dX0_notes_61 : decode cX0_notes 61 = .ok (.aload_n 2, 1) := dk_44 (dk_at dksX0_notes_2 16 rfl rfl)
theorem dX0_notes_62 : decode cX0_notes 62 = .ok (.getfield 83, 3) := dk_180 0 83 (dk_at dksX0_notes_2 17 rfl rfl)
theorem dX0_notes_65 : decode cX0_notes 65 = .ok (.getfield 17, 3) := dk_180 0 17 (dk_at dksX0_notes_2 20 rfl rfl)
theorem dX0_notes_68 : decode cX0_notes 68 = .ok (.iastore, 1) := dk_79 (dk_at dksX0_notes_2 23 rfl rfl)
theorem dX0_notes_69 : decode cX0_notes 69 = .ok (.aload_n 0, 1) := dk_42 (dk_at dksX0_notes_3 0 rfl rfl)
theorem dX0_notes_70 : decode cX0_notes 70 = .ok (.getfield 73, 3) := dk_180 0 73 (dk_at dksX0_notes_3 1 rfl rfl)
theorem dX0_notes_73 : decode cX0_notes 73 = .ok (.iconst 4, 1) := dk_7 (dk_at dksX0_notes_3 4 rfl rfl)
theorem dX0_notes_74 : decode cX0_notes 74 = .ok (.aload_n 0, 1) := dk_42 (dk_at dksX0_notes_3 5 rfl rfl)
theorem dX0_notes_75 : decode cX0_notes 75 = .ok (.getfield 70, 3) := dk_180 0 70 (dk_at dksX0_notes_3 6 rfl rfl)
theorem dX0_notes_78 : decode cX0_notes 78 = .ok (.imul, 1) := dk_104 (dk_at dksX0_notes_3 9 rfl rfl)
theorem dX0_notes_79 : decode cX0_notes 79 = .ok (.iconst 3, 1) := dk_6 (dk_at dksX0_notes_3 10 rfl rfl)
theorem dX0_notes_80 : decode cX0_notes 80 = .ok (.iadd, 1) := dk_96 (dk_at dksX0_notes_3 11 rfl rfl)
theorem dX0_notes_81 : decode cX0_notes 81 = .ok (.aload_n 2, 1) := dk_44 (dk_at dksX0_notes_3 12 rfl rfl)
theorem dX0_notes_82 : decode cX0_notes 82 = .ok (.getfield 83, 3) := dk_180 0 83 (dk_at dksX0_notes_3 13 rfl rfl)
theorem dX0_notes_85 : decode cX0_notes 85 = .ok (.getfield 84, 3) := dk_180 0 84 (dk_at dksX0_notes_3 16 rfl rfl)
theorem dX0_notes_88 : decode cX0_notes 88 = .ok (.iastore, 1) := dk_79 (dk_at dksX0_notes_3 19 rfl rfl)
theorem dX0_notes_89 : decode cX0_notes 89 = .ok (.aload_n 0, 1) := dk_42 (dk_at dksX0_notes_3 20 rfl rfl)
theorem dX0_notes_90 : decode cX0_notes 90 = .ok (.dup, 1) := dk_89 (dk_at dksX0_notes_3 21 rfl rfl)
theorem dX0_notes_91 : decode cX0_notes 91 = .ok (.getfield 70, 3) := dk_180 0 70 (dk_at dksX0_notes_4 0 rfl rfl)
theorem dX0_notes_94 : decode cX0_notes 94 = .ok (.iconst 1, 1) := dk_4 (dk_at dksX0_notes_4 3 rfl rfl)
theorem dX0_notes_95 : decode cX0_notes 95 = .ok (.iadd, 1) := dk_96 (dk_at dksX0_notes_4 4 rfl rfl)
theorem dX0_notes_96 : decode cX0_notes 96 = .ok (.putfield 70, 3) := dk_181 0 70 (dk_at dksX0_notes_4 5 rfl rfl)
theorem dX0_notes_99 : decode cX0_notes 99 = .ok (.return_, 1) := dk_177 (dk_at dksX0_notes_4 8 rfl rfl)
abbrev cX0_spends : ByteArray := prog_1_method_8_code
def yX0_spends : MethodName := ⟨RX0, "spends", "()V"⟩
def dkwX0_spends_1 : List UInt8 := [180, 0, 64, 4, 100, 181, 0, 64, 177]
abbrev dktX0_spends_1 : List UInt8 := dkwX0_spends_1 ++ []
def dkwX0_spends_0 : List UInt8 := [42, 180, 0, 64, 154, 0, 16, 42, 180, 0, 51, 4, 181, 0, 60, 42, 180, 0, 51, 191, 42, 89]
abbrev dktX0_spends_0 : List UInt8 := dkwX0_spends_0 ++ dktX0_spends_1
theorem dksX0_spends_0 : cX0_spends.data.toList.drop 0 = dktX0_spends_0 := by decide +kernel
theorem dksX0_spends_1 : cX0_spends.data.toList.drop 22 = dktX0_spends_1 := dk_seg dksX0_spends_0 22 rfl rfl
theorem dX0_spends_0 : decode cX0_spends 0 = .ok (.aload_n 0, 1) := dk_42 (dk_at dksX0_spends_0 0 rfl rfl)
theorem dX0_spends_1 : decode cX0_spends 1 = .ok (.getfield 64, 3) := dk_180 0 64 (dk_at dksX0_spends_0 1 rfl rfl)
theorem dX0_spends_4 : decode cX0_spends 4 = .ok (.ifCond .ne 16, 3) := dk_154 0 16 (dk_at dksX0_spends_0 4 rfl rfl)
theorem dX0_spends_7 : decode cX0_spends 7 = .ok (.aload_n 0, 1) := dk_42 (dk_at dksX0_spends_0 7 rfl rfl)
theorem dX0_spends_8 : decode cX0_spends 8 = .ok (.getfield 51, 3) := dk_180 0 51 (dk_at dksX0_spends_0 8 rfl rfl)
theorem dX0_spends_11 : decode cX0_spends 11 = .ok (.iconst 1, 1) := dk_4 (dk_at dksX0_spends_0 11 rfl rfl)
theorem dX0_spends_12 : decode cX0_spends 12 = .ok (.putfield 60, 3) := dk_181 0 60 (dk_at dksX0_spends_0 12 rfl rfl)
theorem dX0_spends_15 : decode cX0_spends 15 = .ok (.aload_n 0, 1) := dk_42 (dk_at dksX0_spends_0 15 rfl rfl)
theorem dX0_spends_16 : decode cX0_spends 16 = .ok (.getfield 51, 3) := dk_180 0 51 (dk_at dksX0_spends_0 16 rfl rfl)
theorem dX0_spends_19 : decode cX0_spends 19 = .ok (.athrow, 1) := dk_191 (dk_at dksX0_spends_0 19 rfl rfl)
theorem dX0_spends_20 : decode cX0_spends 20 = .ok (.aload_n 0, 1) := dk_42 (dk_at dksX0_spends_0 20 rfl rfl)
theorem dX0_spends_21 : decode cX0_spends 21 = .ok (.dup, 1) := dk_89 (dk_at dksX0_spends_0 21 rfl rfl)
theorem dX0_spends_22 : decode cX0_spends 22 = .ok (.getfield 64, 3) := dk_180 0 64 (dk_at dksX0_spends_1 0 rfl rfl)
theorem dX0_spends_25 : decode cX0_spends 25 = .ok (.iconst 1, 1) := dk_4 (dk_at dksX0_spends_1 3 rfl rfl)
theorem dX0_spends_26 : decode cX0_spends 26 = .ok (.isub, 1) := dk_100 (dk_at dksX0_spends_1 4 rfl rfl)
theorem dX0_spends_27 : decode cX0_spends 27 = .ok (.putfield 64, 3) := dk_181 0 64 (dk_at dksX0_spends_1 5 rfl rfl)
theorem dX0_spends_30 : decode cX0_spends 30 = .ok (.return_, 1) := dk_177 (dk_at dksX0_spends_1 8 rfl rfl)
abbrev cX0_called : ByteArray := prog_1_method_10_code
def yX0_called : MethodName := ⟨RX0, "called", "(LPondHouse$Creature;LPondHouse$Body;I)I"⟩
def dkwX0_called_2 : List UInt8 := [172]
abbrev dktX0_called_2 : List UInt8 := dkwX0_called_2 ++ []
def dkwX0_called_1 : List UInt8 := [181, 0, 87, 42, 43, 44, 29, 182, 0, 94, 54, 4, 42, 89, 180, 0, 87, 4, 100, 181, 0, 87, 21, 4]
abbrev dktX0_called_1 : List UInt8 := dkwX0_called_1 ++ dktX0_called_2
def dkwX0_called_0 : List UInt8 := [42, 180, 0, 87, 16, 20, 160, 0, 11, 42, 17, 3, 237, 182, 0, 90, 191, 42, 89, 180, 0, 87, 4, 96]
abbrev dktX0_called_0 : List UInt8 := dkwX0_called_0 ++ dktX0_called_1
theorem dksX0_called_0 : cX0_called.data.toList.drop 0 = dktX0_called_0 := by decide +kernel
theorem dksX0_called_1 : cX0_called.data.toList.drop 24 = dktX0_called_1 := dk_seg dksX0_called_0 24 rfl rfl
theorem dksX0_called_2 : cX0_called.data.toList.drop 48 = dktX0_called_2 := dk_seg dksX0_called_1 24 rfl rfl
theorem dX0_called_0 : decode cX0_called 0 = .ok (.aload_n 0, 1) := dk_42 (dk_at dksX0_called_0 0 rfl rfl)
theorem dX0_called_1 : decode cX0_called 1 = .ok (.getfield 87, 3) := dk_180 0 87 (dk_at dksX0_called_0 1 rfl rfl)
theorem dX0_called_4 : decode cX0_called 4 = .ok (.bipush 20, 2) := dk_16 20 (dk_at dksX0_called_0 4 rfl rfl)
theorem dX0_called_6 : decode cX0_called 6 = .ok (.if_icmp .ne 11, 3) := dk_160 0 11 (dk_at dksX0_called_0 6 rfl rfl)
theorem dX0_called_9 : decode cX0_called 9 = .ok (.aload_n 0, 1) := dk_42 (dk_at dksX0_called_0 9 rfl rfl)
theorem dX0_called_10 : decode cX0_called 10 = .ok (.sipush 1005, 3) := dk_17 3 237 (dk_at dksX0_called_0 10 rfl rfl)
theorem dX0_called_13 : decode cX0_called 13 = .ok (.invokevirtual 90, 3) := dk_182 0 90 (dk_at dksX0_called_0 13 rfl rfl)
theorem dX0_called_16 : decode cX0_called 16 = .ok (.athrow, 1) := dk_191 (dk_at dksX0_called_0 16 rfl rfl)
theorem dX0_called_17 : decode cX0_called 17 = .ok (.aload_n 0, 1) := dk_42 (dk_at dksX0_called_0 17 rfl rfl)
theorem dX0_called_18 : decode cX0_called 18 = .ok (.dup, 1) := dk_89 (dk_at dksX0_called_0 18 rfl rfl)
theorem dX0_called_19 : decode cX0_called 19 = .ok (.getfield 87, 3) := dk_180 0 87 (dk_at dksX0_called_0 19 rfl rfl)
theorem dX0_called_22 : decode cX0_called 22 = .ok (.iconst 1, 1) := dk_4 (dk_at dksX0_called_0 22 rfl rfl)
theorem dX0_called_23 : decode cX0_called 23 = .ok (.iadd, 1) := dk_96 (dk_at dksX0_called_0 23 rfl rfl)
theorem dX0_called_24 : decode cX0_called 24 = .ok (.putfield 87, 3) := dk_181 0 87 (dk_at dksX0_called_1 0 rfl rfl)
theorem dX0_called_27 : decode cX0_called 27 = .ok (.aload_n 0, 1) := dk_42 (dk_at dksX0_called_1 3 rfl rfl)
theorem dX0_called_28 : decode cX0_called 28 = .ok (.aload_n 1, 1) := dk_43 (dk_at dksX0_called_1 4 rfl rfl)
theorem dX0_called_29 : decode cX0_called 29 = .ok (.aload_n 2, 1) := dk_44 (dk_at dksX0_called_1 5 rfl rfl)
theorem dX0_called_30 : decode cX0_called 30 = .ok (.iload_n 3, 1) := dk_29 (dk_at dksX0_called_1 6 rfl rfl)
theorem dX0_called_31 : decode cX0_called 31 = .ok (.invokevirtual 94, 3) := dk_182 0 94 (dk_at dksX0_called_1 7 rfl rfl)
theorem dX0_called_34 : decode cX0_called 34 = .ok (.istore 4, 2) := dk_54 4 (dk_at dksX0_called_1 10 rfl rfl)
theorem dX0_called_36 : decode cX0_called 36 = .ok (.aload_n 0, 1) := dk_42 (dk_at dksX0_called_1 12 rfl rfl)
theorem dX0_called_37 : decode cX0_called 37 = .ok (.dup, 1) := dk_89 (dk_at dksX0_called_1 13 rfl rfl)
theorem dX0_called_38 : decode cX0_called 38 = .ok (.getfield 87, 3) := dk_180 0 87 (dk_at dksX0_called_1 14 rfl rfl)
theorem dX0_called_41 : decode cX0_called 41 = .ok (.iconst 1, 1) := dk_4 (dk_at dksX0_called_1 17 rfl rfl)
theorem dX0_called_42 : decode cX0_called 42 = .ok (.isub, 1) := dk_100 (dk_at dksX0_called_1 18 rfl rfl)
theorem dX0_called_43 : decode cX0_called 43 = .ok (.putfield 87, 3) := dk_181 0 87 (dk_at dksX0_called_1 19 rfl rfl)
theorem dX0_called_46 : decode cX0_called 46 = .ok (.iload 4, 2) := dk_21 4 (dk_at dksX0_called_1 22 rfl rfl)
theorem dX0_called_48 : decode cX0_called 48 = .ok (.ireturn, 1) := dk_172 (dk_at dksX0_called_2 0 rfl rfl)
abbrev cX0_fails : ByteArray := prog_1_method_7_code
def yX0_fails : MethodName := ⟨RX0, "fails", "(I)LPondHouse$Failure;"⟩
def dkwX0_fails_0 : List UInt8 := [42, 180, 0, 51, 27, 181, 0, 55, 42, 180, 0, 51, 3, 181, 0, 60, 42, 180, 0, 51, 176]
abbrev dktX0_fails_0 : List UInt8 := dkwX0_fails_0 ++ []
theorem dksX0_fails_0 : cX0_fails.data.toList.drop 0 = dktX0_fails_0 := by decide +kernel
theorem dX0_fails_0 : decode cX0_fails 0 = .ok (.aload_n 0, 1) := dk_42 (dk_at dksX0_fails_0 0 rfl rfl)
theorem dX0_fails_1 : decode cX0_fails 1 = .ok (.getfield 51, 3) := dk_180 0 51 (dk_at dksX0_fails_0 1 rfl rfl)
theorem dX0_fails_4 : decode cX0_fails 4 = .ok (.iload_n 1, 1) := dk_27 (dk_at dksX0_fails_0 4 rfl rfl)
theorem dX0_fails_5 : decode cX0_fails 5 = .ok (.putfield 55, 3) := dk_181 0 55 (dk_at dksX0_fails_0 5 rfl rfl)
theorem dX0_fails_8 : decode cX0_fails 8 = .ok (.aload_n 0, 1) := dk_42 (dk_at dksX0_fails_0 8 rfl rfl)
theorem dX0_fails_9 : decode cX0_fails 9 = .ok (.getfield 51, 3) := dk_180 0 51 (dk_at dksX0_fails_0 9 rfl rfl)
theorem dX0_fails_12 : decode cX0_fails 12 = .ok (.iconst 0, 1) := dk_3 (dk_at dksX0_fails_0 12 rfl rfl)
theorem dX0_fails_13 : decode cX0_fails 13 = .ok (.putfield 60, 3) := dk_181 0 60 (dk_at dksX0_fails_0 13 rfl rfl)
theorem dX0_fails_16 : decode cX0_fails 16 = .ok (.aload_n 0, 1) := dk_42 (dk_at dksX0_fails_0 16 rfl rfl)
theorem dX0_fails_17 : decode cX0_fails 17 = .ok (.getfield 51, 3) := dk_180 0 51 (dk_at dksX0_fails_0 17 rfl rfl)
theorem dX0_fails_20 : decode cX0_fails 20 = .ok (.areturn, 1) := dk_176 (dk_at dksX0_fails_0 20 rfl rfl)
abbrev cX0_fixedOf : ByteArray := prog_1_method_5_code
def yX0_fixedOf : MethodName := ⟨RX0, "fixedOf", "(LPondHouse$Kind;I)LPondHouse$Fixed;"⟩
def dkwX0_fixedOf_1 : List UInt8 := [198, 0, 6, 25, 4, 176, 45, 180, 0, 36, 78, 167, 255, 225, 1, 176]
abbrev dktX0_fixedOf_1 : List UInt8 := dkwX0_fixedOf_1 ++ []
def dkwX0_fixedOf_0 : List UInt8 := [43, 78, 45, 198, 0, 33, 42, 180, 0, 28, 45, 180, 0, 17, 28, 184, 0, 32, 58, 4, 25, 4]
abbrev dktX0_fixedOf_0 : List UInt8 := dkwX0_fixedOf_0 ++ dktX0_fixedOf_1
theorem dksX0_fixedOf_0 : cX0_fixedOf.data.toList.drop 0 = dktX0_fixedOf_0 := by decide +kernel
theorem dksX0_fixedOf_1 : cX0_fixedOf.data.toList.drop 22 = dktX0_fixedOf_1 := dk_seg dksX0_fixedOf_0 22 rfl rfl
theorem dX0_fixedOf_0 : decode cX0_fixedOf 0 = .ok (.aload_n 1, 1) := dk_43 (dk_at dksX0_fixedOf_0 0 rfl rfl)
theorem dX0_fixedOf_1 : decode cX0_fixedOf 1 = .ok (.astore_n 3, 1) := dk_78 (dk_at dksX0_fixedOf_0 1 rfl rfl)
theorem dX0_fixedOf_2 : decode cX0_fixedOf 2 = .ok (.aload_n 3, 1) := dk_45 (dk_at dksX0_fixedOf_0 2 rfl rfl)
theorem dX0_fixedOf_3 : decode cX0_fixedOf 3 = .ok (.ifnull 33, 3) := dk_198 0 33 (dk_at dksX0_fixedOf_0 3 rfl rfl)
theorem dX0_fixedOf_6 : decode cX0_fixedOf 6 = .ok (.aload_n 0, 1) := dk_42 (dk_at dksX0_fixedOf_0 6 rfl rfl)
theorem dX0_fixedOf_7 : decode cX0_fixedOf 7 = .ok (.getfield 28, 3) := dk_180 0 28 (dk_at dksX0_fixedOf_0 7 rfl rfl)
theorem dX0_fixedOf_10 : decode cX0_fixedOf 10 = .ok (.aload_n 3, 1) := dk_45 (dk_at dksX0_fixedOf_0 10 rfl rfl)
theorem dX0_fixedOf_11 : decode cX0_fixedOf 11 = .ok (.getfield 17, 3) := dk_180 0 17 (dk_at dksX0_fixedOf_0 11 rfl rfl)
theorem dX0_fixedOf_14 : decode cX0_fixedOf 14 = .ok (.iload_n 2, 1) := dk_28 (dk_at dksX0_fixedOf_0 14 rfl rfl)
theorem dX0_fixedOf_15 : decode cX0_fixedOf 15 = .ok (.invokestatic 32, 3) := dk_184 0 32 (dk_at dksX0_fixedOf_0 15 rfl rfl)
theorem dX0_fixedOf_18 : decode cX0_fixedOf 18 = .ok (.astore 4, 2) := dk_58 4 (dk_at dksX0_fixedOf_0 18 rfl rfl)
theorem dX0_fixedOf_20 : decode cX0_fixedOf 20 = .ok (.aload 4, 2) := dk_25 4 (dk_at dksX0_fixedOf_0 20 rfl rfl)
theorem dX0_fixedOf_22 : decode cX0_fixedOf 22 = .ok (.ifnull 6, 3) := dk_198 0 6 (dk_at dksX0_fixedOf_1 0 rfl rfl)
theorem dX0_fixedOf_25 : decode cX0_fixedOf 25 = .ok (.aload 4, 2) := dk_25 4 (dk_at dksX0_fixedOf_1 3 rfl rfl)
theorem dX0_fixedOf_27 : decode cX0_fixedOf 27 = .ok (.areturn, 1) := dk_176 (dk_at dksX0_fixedOf_1 5 rfl rfl)
theorem dX0_fixedOf_28 : decode cX0_fixedOf 28 = .ok (.aload_n 3, 1) := dk_45 (dk_at dksX0_fixedOf_1 6 rfl rfl)
theorem dX0_fixedOf_29 : decode cX0_fixedOf 29 = .ok (.getfield 36, 3) := dk_180 0 36 (dk_at dksX0_fixedOf_1 7 rfl rfl)
theorem dX0_fixedOf_32 : decode cX0_fixedOf 32 = .ok (.astore_n 3, 1) := dk_78 (dk_at dksX0_fixedOf_1 10 rfl rfl)
theorem dX0_fixedOf_33 : decode cX0_fixedOf 33 = .ok (.goto (-31), 3) := dk_167 255 225 (dk_at dksX0_fixedOf_1 11 rfl rfl)
theorem dX0_fixedOf_36 : decode cX0_fixedOf 36 = .ok (.aconst_null, 1) := dk_1 (dk_at dksX0_fixedOf_1 14 rfl rfl)
theorem dX0_fixedOf_37 : decode cX0_fixedOf 37 = .ok (.areturn, 1) := dk_176 (dk_at dksX0_fixedOf_1 15 rfl rfl)
abbrev cX0_ended : ByteArray := prog_1_method_13_code
def yX0_ended : MethodName := ⟨RX0, "ended", "(LPondHouse$Failure;)I"⟩
def dkwX0_ended_0 : List UInt8 := [42, 3, 181, 0, 125, 43, 180, 0, 60, 153, 0, 5, 7, 172, 42, 43, 180, 0, 55, 181, 0, 126, 4, 172]
abbrev dktX0_ended_0 : List UInt8 := dkwX0_ended_0 ++ []
theorem dksX0_ended_0 : cX0_ended.data.toList.drop 0 = dktX0_ended_0 := by decide +kernel
theorem dX0_ended_0 : decode cX0_ended 0 = .ok (.aload_n 0, 1) := dk_42 (dk_at dksX0_ended_0 0 rfl rfl)
theorem dX0_ended_1 : decode cX0_ended 1 = .ok (.iconst 0, 1) := dk_3 (dk_at dksX0_ended_0 1 rfl rfl)
theorem dX0_ended_2 : decode cX0_ended 2 = .ok (.putfield 125, 3) := dk_181 0 125 (dk_at dksX0_ended_0 2 rfl rfl)
theorem dX0_ended_5 : decode cX0_ended 5 = .ok (.aload_n 1, 1) := dk_43 (dk_at dksX0_ended_0 5 rfl rfl)
theorem dX0_ended_6 : decode cX0_ended 6 = .ok (.getfield 60, 3) := dk_180 0 60 (dk_at dksX0_ended_0 6 rfl rfl)
theorem dX0_ended_9 : decode cX0_ended 9 = .ok (.ifCond .eq 5, 3) := dk_153 0 5 (dk_at dksX0_ended_0 9 rfl rfl)
theorem dX0_ended_12 : decode cX0_ended 12 = .ok (.iconst 4, 1) := dk_7 (dk_at dksX0_ended_0 12 rfl rfl)
theorem dX0_ended_13 : decode cX0_ended 13 = .ok (.ireturn, 1) := dk_172 (dk_at dksX0_ended_0 13 rfl rfl)
theorem dX0_ended_14 : decode cX0_ended 14 = .ok (.aload_n 0, 1) := dk_42 (dk_at dksX0_ended_0 14 rfl rfl)
theorem dX0_ended_15 : decode cX0_ended 15 = .ok (.aload_n 1, 1) := dk_43 (dk_at dksX0_ended_0 15 rfl rfl)
theorem dX0_ended_16 : decode cX0_ended 16 = .ok (.getfield 55, 3) := dk_180 0 55 (dk_at dksX0_ended_0 16 rfl rfl)
theorem dX0_ended_19 : decode cX0_ended 19 = .ok (.putfield 126, 3) := dk_181 0 126 (dk_at dksX0_ended_0 19 rfl rfl)
theorem dX0_ended_22 : decode cX0_ended 22 = .ok (.iconst 1, 1) := dk_4 (dk_at dksX0_ended_0 22 rfl rfl)
theorem dX0_ended_23 : decode cX0_ended 23 = .ok (.ireturn, 1) := dk_172 (dk_at dksX0_ended_0 23 rfl rfl)
abbrev cX0_goesOn : ByteArray := prog_1_method_37_code
def yX0_goesOn : MethodName := ⟨RX0, "goesOn", "(LPondHouse$LongAct;)V"⟩
def dkwX0_goesOn_4 : List UInt8 := [181, 1, 155, 43, 3, 181, 1, 145, 177]
abbrev dktX0_goesOn_4 : List UInt8 := dkwX0_goesOn_4 ++ []
def dkwX0_goesOn_3 : List UInt8 := [177, 43, 43, 180, 1, 149, 180, 0, 122, 181, 1, 170, 167, 0, 13, 78, 43, 42, 45, 182, 0, 133]
abbrev dktX0_goesOn_3 : List UInt8 := dkwX0_goesOn_3 ++ dktX0_goesOn_4
def dkwX0_goesOn_2 : List UInt8 := [29, 182, 1, 167, 153, 0, 7, 4, 167, 0, 4, 3, 54, 4, 43, 29, 181, 1, 164, 21, 4, 153, 0, 4]
abbrev dktX0_goesOn_2 : List UInt8 := dkwX0_goesOn_2 ++ dktX0_goesOn_3
def dkwX0_goesOn_1 : List UInt8 := [77, 44, 43, 180, 1, 149, 43, 180, 1, 164, 4, 182, 0, 116, 62, 29, 43, 180, 1, 164, 164, 0, 15, 44]
abbrev dktX0_goesOn_1 : List UInt8 := dkwX0_goesOn_1 ++ dktX0_goesOn_2
def dkwX0_goesOn_0 : List UInt8 := [42, 182, 0, 127, 43, 89, 180, 1, 158, 4, 96, 181, 1, 158, 43, 180, 1, 149, 180, 1, 161, 180, 0, 112]
abbrev dktX0_goesOn_0 : List UInt8 := dkwX0_goesOn_0 ++ dktX0_goesOn_1
theorem dksX0_goesOn_0 : cX0_goesOn.data.toList.drop 0 = dktX0_goesOn_0 := by decide +kernel
theorem dksX0_goesOn_1 : cX0_goesOn.data.toList.drop 24 = dktX0_goesOn_1 := dk_seg dksX0_goesOn_0 24 rfl rfl
theorem dksX0_goesOn_2 : cX0_goesOn.data.toList.drop 48 = dktX0_goesOn_2 := dk_seg dksX0_goesOn_1 24 rfl rfl
theorem dksX0_goesOn_3 : cX0_goesOn.data.toList.drop 72 = dktX0_goesOn_3 := dk_seg dksX0_goesOn_2 24 rfl rfl
theorem dksX0_goesOn_4 : cX0_goesOn.data.toList.drop 94 = dktX0_goesOn_4 := dk_seg dksX0_goesOn_3 22 rfl rfl
theorem dX0_goesOn_0 : decode cX0_goesOn 0 = .ok (.aload_n 0, 1) := dk_42 (dk_at dksX0_goesOn_0 0 rfl rfl)
theorem dX0_goesOn_1 : decode cX0_goesOn 1 = .ok (.invokevirtual 127, 3) := dk_182 0 127 (dk_at dksX0_goesOn_0 1 rfl rfl)
theorem dX0_goesOn_4 : decode cX0_goesOn 4 = .ok (.aload_n 1, 1) := dk_43 (dk_at dksX0_goesOn_0 4 rfl rfl)
theorem dX0_goesOn_5 : decode cX0_goesOn 5 = .ok (.dup, 1) := dk_89 (dk_at dksX0_goesOn_0 5 rfl rfl)
theorem dX0_goesOn_6 : decode cX0_goesOn 6 = .ok (.getfield 414, 3) := dk_180 1 158 (dk_at dksX0_goesOn_0 6 rfl rfl)
theorem dX0_goesOn_9 : decode cX0_goesOn 9 = .ok (.iconst 1, 1) := dk_4 (dk_at dksX0_goesOn_0 9 rfl rfl)
theorem dX0_goesOn_10 : decode cX0_goesOn 10 = .ok (.iadd, 1) := dk_96 (dk_at dksX0_goesOn_0 10 rfl rfl)
theorem dX0_goesOn_11 : decode cX0_goesOn 11 = .ok (.putfield 414, 3) := dk_181 1 158 (dk_at dksX0_goesOn_0 11 rfl rfl)
theorem dX0_goesOn_14 : decode cX0_goesOn 14 = .ok (.aload_n 1, 1) := dk_43 (dk_at dksX0_goesOn_0 14 rfl rfl)
theorem dX0_goesOn_15 : decode cX0_goesOn 15 = .ok (.getfield 405, 3) := dk_180 1 149 (dk_at dksX0_goesOn_0 15 rfl rfl)
theorem dX0_goesOn_18 : decode cX0_goesOn 18 = .ok (.getfield 417, 3) := dk_180 1 161 (dk_at dksX0_goesOn_0 18 rfl rfl)
theorem dX0_goesOn_21 : decode cX0_goesOn 21 = .ok (.getfield 112, 3) := dk_180 0 112 (dk_at dksX0_goesOn_0 21 rfl rfl)
theorem dX0_goesOn_24 : decode cX0_goesOn 24 = .ok (.astore_n 2, 1) := dk_77 (dk_at dksX0_goesOn_1 0 rfl rfl)
theorem dX0_goesOn_25 : decode cX0_goesOn 25 = .ok (.aload_n 2, 1) := dk_44 (dk_at dksX0_goesOn_1 1 rfl rfl)
theorem dX0_goesOn_26 : decode cX0_goesOn 26 = .ok (.aload_n 1, 1) := dk_43 (dk_at dksX0_goesOn_1 2 rfl rfl)
theorem dX0_goesOn_27 : decode cX0_goesOn 27 = .ok (.getfield 405, 3) := dk_180 1 149 (dk_at dksX0_goesOn_1 3 rfl rfl)
theorem dX0_goesOn_30 : decode cX0_goesOn 30 = .ok (.aload_n 1, 1) := dk_43 (dk_at dksX0_goesOn_1 6 rfl rfl)
theorem dX0_goesOn_31 : decode cX0_goesOn 31 = .ok (.getfield 420, 3) := dk_180 1 164 (dk_at dksX0_goesOn_1 7 rfl rfl)
theorem dX0_goesOn_34 : decode cX0_goesOn 34 = .ok (.iconst 1, 1) := dk_4 (dk_at dksX0_goesOn_1 10 rfl rfl)
theorem dX0_goesOn_35 : decode cX0_goesOn 35 = .ok (.invokevirtual 116, 3) := dk_182 0 116 (dk_at dksX0_goesOn_1 11 rfl rfl)
theorem dX0_goesOn_38 : decode cX0_goesOn 38 = .ok (.istore_n 3, 1) := dk_62 (dk_at dksX0_goesOn_1 14 rfl rfl)
theorem dX0_goesOn_39 : decode cX0_goesOn 39 = .ok (.iload_n 3, 1) := dk_29 (dk_at dksX0_goesOn_1 15 rfl rfl)
theorem dX0_goesOn_40 : decode cX0_goesOn 40 = .ok (.aload_n 1, 1) := dk_43 (dk_at dksX0_goesOn_1 16 rfl rfl)
theorem dX0_goesOn_41 : decode cX0_goesOn 41 = .ok (.getfield 420, 3) := dk_180 1 164 (dk_at dksX0_goesOn_1 17 rfl rfl)
theorem dX0_goesOn_44 : decode cX0_goesOn 44 = .ok (.if_icmp .le 15, 3) := dk_164 0 15 (dk_at dksX0_goesOn_1 20 rfl rfl)
theorem dX0_goesOn_47 : decode cX0_goesOn 47 = .ok (.aload_n 2, 1) := dk_44 (dk_at dksX0_goesOn_1 23 rfl rfl)
theorem dX0_goesOn_48 : decode cX0_goesOn 48 = .ok (.iload_n 3, 1) := dk_29 (dk_at dksX0_goesOn_2 0 rfl rfl)
theorem dX0_goesOn_49 : decode cX0_goesOn 49 = .ok (.invokevirtual 423, 3) := dk_182 1 167 (dk_at dksX0_goesOn_2 1 rfl rfl)
theorem dX0_goesOn_52 : decode cX0_goesOn 52 = .ok (.ifCond .eq 7, 3) := dk_153 0 7 (dk_at dksX0_goesOn_2 4 rfl rfl)
theorem dX0_goesOn_55 : decode cX0_goesOn 55 = .ok (.iconst 1, 1) := dk_4 (dk_at dksX0_goesOn_2 7 rfl rfl)
theorem dX0_goesOn_56 : decode cX0_goesOn 56 = .ok (.goto 4, 3) := dk_167 0 4 (dk_at dksX0_goesOn_2 8 rfl rfl)
theorem dX0_goesOn_59 : decode cX0_goesOn 59 = .ok (.iconst 0, 1) := dk_3 (dk_at dksX0_goesOn_2 11 rfl rfl)
theorem dX0_goesOn_60 : decode cX0_goesOn 60 = .ok (.istore 4, 2) := dk_54 4 (dk_at dksX0_goesOn_2 12 rfl rfl)
theorem dX0_goesOn_62 : decode cX0_goesOn 62 = .ok (.aload_n 1, 1) := dk_43 (dk_at dksX0_goesOn_2 14 rfl rfl)
theorem dX0_goesOn_63 : decode cX0_goesOn 63 = .ok (.iload_n 3, 1) := dk_29 (dk_at dksX0_goesOn_2 15 rfl rfl)
theorem dX0_goesOn_64 : decode cX0_goesOn 64 = .ok (.putfield 420, 3) := dk_181 1 164 (dk_at dksX0_goesOn_2 16 rfl rfl)
theorem dX0_goesOn_67 : decode cX0_goesOn 67 = .ok (.iload 4, 2) := dk_21 4 (dk_at dksX0_goesOn_2 19 rfl rfl)
theorem dX0_goesOn_69 : decode cX0_goesOn 69 = .ok (.ifCond .eq 4, 3) := dk_153 0 4 (dk_at dksX0_goesOn_2 21 rfl rfl)
theorem dX0_goesOn_72 : decode cX0_goesOn 72 = .ok (.return_, 1) := dk_177 (dk_at dksX0_goesOn_3 0 rfl rfl)
theorem dX0_goesOn_73 : decode cX0_goesOn 73 = .ok (.aload_n 1, 1) := dk_43 (dk_at dksX0_goesOn_3 1 rfl rfl)
theorem dX0_goesOn_74 : decode cX0_goesOn 74 = .ok (.aload_n 1, 1) := dk_43 (dk_at dksX0_goesOn_3 2 rfl rfl)
theorem dX0_goesOn_75 : decode cX0_goesOn 75 = .ok (.getfield 405, 3) := dk_180 1 149 (dk_at dksX0_goesOn_3 3 rfl rfl)
theorem dX0_goesOn_78 : decode cX0_goesOn 78 = .ok (.getfield 122, 3) := dk_180 0 122 (dk_at dksX0_goesOn_3 6 rfl rfl)
theorem dX0_goesOn_81 : decode cX0_goesOn 81 = .ok (.putfield 426, 3) := dk_181 1 170 (dk_at dksX0_goesOn_3 9 rfl rfl)
theorem dX0_goesOn_84 : decode cX0_goesOn 84 = .ok (.goto 13, 3) := dk_167 0 13 (dk_at dksX0_goesOn_3 12 rfl rfl)
theorem dX0_goesOn_87 : decode cX0_goesOn 87 = .ok (.astore_n 3, 1) := dk_78 (dk_at dksX0_goesOn_3 15 rfl rfl)
theorem dX0_goesOn_88 : decode cX0_goesOn 88 = .ok (.aload_n 1, 1) := dk_43 (dk_at dksX0_goesOn_3 16 rfl rfl)
theorem dX0_goesOn_89 : decode cX0_goesOn 89 = .ok (.aload_n 0, 1) := dk_42 (dk_at dksX0_goesOn_3 17 rfl rfl)
theorem dX0_goesOn_90 : decode cX0_goesOn 90 = .ok (.aload_n 3, 1) := dk_45 (dk_at dksX0_goesOn_3 18 rfl rfl)
theorem dX0_goesOn_91 : decode cX0_goesOn 91 = .ok (.invokevirtual 133, 3) := dk_182 0 133 (dk_at dksX0_goesOn_3 19 rfl rfl)
theorem dX0_goesOn_94 : decode cX0_goesOn 94 = .ok (.putfield 411, 3) := dk_181 1 155 (dk_at dksX0_goesOn_4 0 rfl rfl)
theorem dX0_goesOn_97 : decode cX0_goesOn 97 = .ok (.aload_n 1, 1) := dk_43 (dk_at dksX0_goesOn_4 3 rfl rfl)
theorem dX0_goesOn_98 : decode cX0_goesOn 98 = .ok (.iconst 0, 1) := dk_3 (dk_at dksX0_goesOn_4 4 rfl rfl)
theorem dX0_goesOn_99 : decode cX0_goesOn 99 = .ok (.putfield 401, 3) := dk_181 1 145 (dk_at dksX0_goesOn_4 5 rfl rfl)
theorem dX0_goesOn_102 : decode cX0_goesOn 102 = .ok (.return_, 1) := dk_177 (dk_at dksX0_goesOn_4 8 rfl rfl)
abbrev cX0_quiet : ByteArray := prog_1_method_45_code
def yX0_quiet : MethodName := ⟨RX0, "quiet", "(LPondHouse$Patch;)V"⟩
def dkwX0_quiet_3 : List UInt8 := [181, 1, 221, 42, 44, 180, 0, 169, 181, 1, 222, 42, 44, 180, 0, 172, 181, 1, 225, 177]
abbrev dktX0_quiet_3 : List UInt8 := dkwX0_quiet_3 ++ []
def dkwX0_quiet_2 : List UInt8 := [182, 1, 219, 43, 5, 181, 1, 138, 167, 0, 33, 77, 43, 7, 181, 1, 138, 42, 44, 180, 0, 164]
abbrev dktX0_quiet_2 : List UInt8 := dkwX0_quiet_2 ++ dktX0_quiet_3
def dkwX0_quiet_1 : List UInt8 := [162, 0, 4, 177, 43, 6, 181, 1, 138, 42, 1, 181, 1, 128, 177, 42, 1, 181, 1, 128, 42, 43]
abbrev dktX0_quiet_1 : List UInt8 := dkwX0_quiet_1 ++ dktX0_quiet_2
def dkwX0_quiet_0 : List UInt8 := [42, 182, 1, 212, 153, 0, 34, 43, 89, 180, 1, 216, 4, 96, 181, 1, 216, 43, 180, 1, 216, 16, 8]
abbrev dktX0_quiet_0 : List UInt8 := dkwX0_quiet_0 ++ dktX0_quiet_1
theorem dksX0_quiet_0 : cX0_quiet.data.toList.drop 0 = dktX0_quiet_0 := by decide +kernel
theorem dksX0_quiet_1 : cX0_quiet.data.toList.drop 23 = dktX0_quiet_1 := dk_seg dksX0_quiet_0 23 rfl rfl
theorem dksX0_quiet_2 : cX0_quiet.data.toList.drop 45 = dktX0_quiet_2 := dk_seg dksX0_quiet_1 22 rfl rfl
theorem dksX0_quiet_3 : cX0_quiet.data.toList.drop 67 = dktX0_quiet_3 := dk_seg dksX0_quiet_2 22 rfl rfl
theorem dX0_quiet_0 : decode cX0_quiet 0 = .ok (.aload_n 0, 1) := dk_42 (dk_at dksX0_quiet_0 0 rfl rfl)
theorem dX0_quiet_1 : decode cX0_quiet 1 = .ok (.invokevirtual 468, 3) := dk_182 1 212 (dk_at dksX0_quiet_0 1 rfl rfl)
theorem dX0_quiet_4 : decode cX0_quiet 4 = .ok (.ifCond .eq 34, 3) := dk_153 0 34 (dk_at dksX0_quiet_0 4 rfl rfl)
theorem dX0_quiet_7 : decode cX0_quiet 7 = .ok (.aload_n 1, 1) := dk_43 (dk_at dksX0_quiet_0 7 rfl rfl)
theorem dX0_quiet_8 : decode cX0_quiet 8 = .ok (.dup, 1) := dk_89 (dk_at dksX0_quiet_0 8 rfl rfl)
theorem dX0_quiet_9 : decode cX0_quiet 9 = .ok (.getfield 472, 3) := dk_180 1 216 (dk_at dksX0_quiet_0 9 rfl rfl)
theorem dX0_quiet_12 : decode cX0_quiet 12 = .ok (.iconst 1, 1) := dk_4 (dk_at dksX0_quiet_0 12 rfl rfl)
theorem dX0_quiet_13 : decode cX0_quiet 13 = .ok (.iadd, 1) := dk_96 (dk_at dksX0_quiet_0 13 rfl rfl)
theorem dX0_quiet_14 : decode cX0_quiet 14 = .ok (.putfield 472, 3) := dk_181 1 216 (dk_at dksX0_quiet_0 14 rfl rfl)
theorem dX0_quiet_17 : decode cX0_quiet 17 = .ok (.aload_n 1, 1) := dk_43 (dk_at dksX0_quiet_0 17 rfl rfl)
theorem dX0_quiet_18 : decode cX0_quiet 18 = .ok (.getfield 472, 3) := dk_180 1 216 (dk_at dksX0_quiet_0 18 rfl rfl)
theorem dX0_quiet_21 : decode cX0_quiet 21 = .ok (.bipush 8, 2) := dk_16 8 (dk_at dksX0_quiet_0 21 rfl rfl)
theorem dX0_quiet_23 : decode cX0_quiet 23 = .ok (.if_icmp .ge 4, 3) := dk_162 0 4 (dk_at dksX0_quiet_1 0 rfl rfl)
theorem dX0_quiet_26 : decode cX0_quiet 26 = .ok (.return_, 1) := dk_177 (dk_at dksX0_quiet_1 3 rfl rfl)
theorem dX0_quiet_27 : decode cX0_quiet 27 = .ok (.aload_n 1, 1) := dk_43 (dk_at dksX0_quiet_1 4 rfl rfl)
theorem dX0_quiet_28 : decode cX0_quiet 28 = .ok (.iconst 3, 1) := dk_6 (dk_at dksX0_quiet_1 5 rfl rfl)
theorem dX0_quiet_29 : decode cX0_quiet 29 = .ok (.putfield 394, 3) := dk_181 1 138 (dk_at dksX0_quiet_1 6 rfl rfl)
theorem dX0_quiet_32 : decode cX0_quiet 32 = .ok (.aload_n 0, 1) := dk_42 (dk_at dksX0_quiet_1 9 rfl rfl)
theorem dX0_quiet_33 : decode cX0_quiet 33 = .ok (.aconst_null, 1) := dk_1 (dk_at dksX0_quiet_1 10 rfl rfl)
theorem dX0_quiet_34 : decode cX0_quiet 34 = .ok (.putfield 384, 3) := dk_181 1 128 (dk_at dksX0_quiet_1 11 rfl rfl)
theorem dX0_quiet_37 : decode cX0_quiet 37 = .ok (.return_, 1) := dk_177 (dk_at dksX0_quiet_1 14 rfl rfl)
theorem dX0_quiet_38 : decode cX0_quiet 38 = .ok (.aload_n 0, 1) := dk_42 (dk_at dksX0_quiet_1 15 rfl rfl)
theorem dX0_quiet_39 : decode cX0_quiet 39 = .ok (.aconst_null, 1) := dk_1 (dk_at dksX0_quiet_1 16 rfl rfl)
theorem dX0_quiet_40 : decode cX0_quiet 40 = .ok (.putfield 384, 3) := dk_181 1 128 (dk_at dksX0_quiet_1 17 rfl rfl)
theorem dX0_quiet_43 : decode cX0_quiet 43 = .ok (.aload_n 0, 1) := dk_42 (dk_at dksX0_quiet_1 20 rfl rfl)
theorem dX0_quiet_44 : decode cX0_quiet 44 = .ok (.aload_n 1, 1) := dk_43 (dk_at dksX0_quiet_1 21 rfl rfl)
theorem dX0_quiet_45 : decode cX0_quiet 45 = .ok (.invokevirtual 475, 3) := dk_182 1 219 (dk_at dksX0_quiet_2 0 rfl rfl)
theorem dX0_quiet_48 : decode cX0_quiet 48 = .ok (.aload_n 1, 1) := dk_43 (dk_at dksX0_quiet_2 3 rfl rfl)
theorem dX0_quiet_49 : decode cX0_quiet 49 = .ok (.iconst 2, 1) := dk_5 (dk_at dksX0_quiet_2 4 rfl rfl)
theorem dX0_quiet_50 : decode cX0_quiet 50 = .ok (.putfield 394, 3) := dk_181 1 138 (dk_at dksX0_quiet_2 5 rfl rfl)
theorem dX0_quiet_53 : decode cX0_quiet 53 = .ok (.goto 33, 3) := dk_167 0 33 (dk_at dksX0_quiet_2 8 rfl rfl)
theorem dX0_quiet_56 : decode cX0_quiet 56 = .ok (.astore_n 2, 1) := dk_77 (dk_at dksX0_quiet_2 11 rfl rfl)
theorem dX0_quiet_57 : decode cX0_quiet 57 = .ok (.aload_n 1, 1) := dk_43 (dk_at dksX0_quiet_2 12 rfl rfl)
theorem dX0_quiet_58 : decode cX0_quiet 58 = .ok (.iconst 4, 1) := dk_7 (dk_at dksX0_quiet_2 13 rfl rfl)
theorem dX0_quiet_59 : decode cX0_quiet 59 = .ok (.putfield 394, 3) := dk_181 1 138 (dk_at dksX0_quiet_2 14 rfl rfl)
theorem dX0_quiet_62 : decode cX0_quiet 62 = .ok (.aload_n 0, 1) := dk_42 (dk_at dksX0_quiet_2 17 rfl rfl)
theorem dX0_quiet_63 : decode cX0_quiet 63 = .ok (.aload_n 2, 1) := dk_44 (dk_at dksX0_quiet_2 18 rfl rfl)
theorem dX0_quiet_64 : decode cX0_quiet 64 = .ok (.getfield 164, 3) := dk_180 0 164 (dk_at dksX0_quiet_2 19 rfl rfl)
theorem dX0_quiet_67 : decode cX0_quiet 67 = .ok (.putfield 477, 3) := dk_181 1 221 (dk_at dksX0_quiet_3 0 rfl rfl)
theorem dX0_quiet_70 : decode cX0_quiet 70 = .ok (.aload_n 0, 1) := dk_42 (dk_at dksX0_quiet_3 3 rfl rfl)
theorem dX0_quiet_71 : decode cX0_quiet 71 = .ok (.aload_n 2, 1) := dk_44 (dk_at dksX0_quiet_3 4 rfl rfl)
theorem dX0_quiet_72 : decode cX0_quiet 72 = .ok (.getfield 169, 3) := dk_180 0 169 (dk_at dksX0_quiet_3 5 rfl rfl)
theorem dX0_quiet_75 : decode cX0_quiet 75 = .ok (.putfield 478, 3) := dk_181 1 222 (dk_at dksX0_quiet_3 8 rfl rfl)
theorem dX0_quiet_78 : decode cX0_quiet 78 = .ok (.aload_n 0, 1) := dk_42 (dk_at dksX0_quiet_3 11 rfl rfl)
theorem dX0_quiet_79 : decode cX0_quiet 79 = .ok (.aload_n 2, 1) := dk_44 (dk_at dksX0_quiet_3 12 rfl rfl)
theorem dX0_quiet_80 : decode cX0_quiet 80 = .ok (.getfield 172, 3) := dk_180 0 172 (dk_at dksX0_quiet_3 13 rfl rfl)
theorem dX0_quiet_83 : decode cX0_quiet 83 = .ok (.putfield 481, 3) := dk_181 1 225 (dk_at dksX0_quiet_3 16 rfl rfl)
theorem dX0_quiet_86 : decode cX0_quiet 86 = .ok (.return_, 1) := dk_177 (dk_at dksX0_quiet_3 19 rfl rfl)
abbrev cX0_isForbidden : ByteArray := prog_1_method_44_code
def yX0_isForbidden : MethodName := ⟨RX0, "isForbidden", "()Z"⟩
def dkwX0_isForbidden_2 : List UInt8 := [167, 255, 220, 3, 172]
abbrev dktX0_isForbidden_2 : List UInt8 := dkwX0_isForbidden_2 ++ []
def dkwX0_isForbidden_1 : List UInt8 := [198, 0, 21, 25, 4, 180, 1, 145, 153, 0, 13, 25, 4, 180, 1, 183, 153, 0, 5, 4, 172, 132, 3, 1]
abbrev dktX0_isForbidden_1 : List UInt8 := dkwX0_isForbidden_1 ++ dktX0_isForbidden_2
def dkwX0_isForbidden_0 : List UInt8 := [42, 180, 1, 141, 76, 43, 190, 61, 3, 62, 29, 28, 162, 0, 37, 43, 29, 50, 58, 4, 25, 4]
abbrev dktX0_isForbidden_0 : List UInt8 := dkwX0_isForbidden_0 ++ dktX0_isForbidden_1
theorem dksX0_isForbidden_0 : cX0_isForbidden.data.toList.drop 0 = dktX0_isForbidden_0 := by decide +kernel
theorem dksX0_isForbidden_1 : cX0_isForbidden.data.toList.drop 22 = dktX0_isForbidden_1 := dk_seg dksX0_isForbidden_0 22 rfl rfl
theorem dksX0_isForbidden_2 : cX0_isForbidden.data.toList.drop 46 = dktX0_isForbidden_2 := dk_seg dksX0_isForbidden_1 24 rfl rfl
theorem dX0_isForbidden_0 : decode cX0_isForbidden 0 = .ok (.aload_n 0, 1) := dk_42 (dk_at dksX0_isForbidden_0 0 rfl rfl)
theorem dX0_isForbidden_1 : decode cX0_isForbidden 1 = .ok (.getfield 397, 3) := dk_180 1 141 (dk_at dksX0_isForbidden_0 1 rfl rfl)
theorem dX0_isForbidden_4 : decode cX0_isForbidden 4 = .ok (.astore_n 1, 1) := dk_76 (dk_at dksX0_isForbidden_0 4 rfl rfl)
theorem dX0_isForbidden_5 : decode cX0_isForbidden 5 = .ok (.aload_n 1, 1) := dk_43 (dk_at dksX0_isForbidden_0 5 rfl rfl)
theorem dX0_isForbidden_6 : decode cX0_isForbidden 6 = .ok (.arraylength, 1) := dk_190 (dk_at dksX0_isForbidden_0 6 rfl rfl)
theorem dX0_isForbidden_7 : decode cX0_isForbidden 7 = .ok (.istore_n 2, 1) := dk_61 (dk_at dksX0_isForbidden_0 7 rfl rfl)
theorem dX0_isForbidden_8 : decode cX0_isForbidden 8 = .ok (.iconst 0, 1) := dk_3 (dk_at dksX0_isForbidden_0 8 rfl rfl)
theorem dX0_isForbidden_9 : decode cX0_isForbidden 9 = .ok (.istore_n 3, 1) := dk_62 (dk_at dksX0_isForbidden_0 9 rfl rfl)
theorem dX0_isForbidden_10 : decode cX0_isForbidden 10 = .ok (.iload_n 3, 1) := dk_29 (dk_at dksX0_isForbidden_0 10 rfl rfl)
theorem dX0_isForbidden_11 : decode cX0_isForbidden 11 = .ok (.iload_n 2, 1) := dk_28 (dk_at dksX0_isForbidden_0 11 rfl rfl)
theorem dX0_isForbidden_12 : decode cX0_isForbidden 12 = .ok (.if_icmp .ge 37, 3) := dk_162 0 37 (dk_at dksX0_isForbidden_0 12 rfl rfl)
theorem dX0_isForbidden_15 : decode cX0_isForbidden 15 = .ok (.aload_n 1, 1) := dk_43 (dk_at dksX0_isForbidden_0 15 rfl rfl)
theorem dX0_isForbidden_16 : decode cX0_isForbidden 16 = .ok (.iload_n 3, 1) := dk_29 (dk_at dksX0_isForbidden_0 16 rfl rfl)
theorem dX0_isForbidden_17 : decode cX0_isForbidden 17 = .ok (.aaload, 1) := dk_50 (dk_at dksX0_isForbidden_0 17 rfl rfl)
theorem dX0_isForbidden_18 : decode cX0_isForbidden 18 = .ok (.astore 4, 2) := dk_58 4 (dk_at dksX0_isForbidden_0 18 rfl rfl)
theorem dX0_isForbidden_20 : decode cX0_isForbidden 20 = .ok (.aload 4, 2) := dk_25 4 (dk_at dksX0_isForbidden_0 20 rfl rfl)
theorem dX0_isForbidden_22 : decode cX0_isForbidden 22 = .ok (.ifnull 21, 3) := dk_198 0 21 (dk_at dksX0_isForbidden_1 0 rfl rfl)
theorem dX0_isForbidden_25 : decode cX0_isForbidden 25 = .ok (.aload 4, 2) := dk_25 4 (dk_at dksX0_isForbidden_1 3 rfl rfl)
theorem dX0_isForbidden_27 : decode cX0_isForbidden 27 = .ok (.getfield 401, 3) := dk_180 1 145 (dk_at dksX0_isForbidden_1 5 rfl rfl)
theorem dX0_isForbidden_30 : decode cX0_isForbidden 30 = .ok (.ifCond .eq 13, 3) := dk_153 0 13 (dk_at dksX0_isForbidden_1 8 rfl rfl)
theorem dX0_isForbidden_33 : decode cX0_isForbidden 33 = .ok (.aload 4, 2) := dk_25 4 (dk_at dksX0_isForbidden_1 11 rfl rfl)
theorem dX0_isForbidden_35 : decode cX0_isForbidden 35 = .ok (.getfield 439, 3) := dk_180 1 183 (dk_at dksX0_isForbidden_1 13 rfl rfl)
theorem dX0_isForbidden_38 : decode cX0_isForbidden 38 = .ok (.ifCond .eq 5, 3) := dk_153 0 5 (dk_at dksX0_isForbidden_1 16 rfl rfl)
theorem dX0_isForbidden_41 : decode cX0_isForbidden 41 = .ok (.iconst 1, 1) := dk_4 (dk_at dksX0_isForbidden_1 19 rfl rfl)
theorem dX0_isForbidden_42 : decode cX0_isForbidden 42 = .ok (.ireturn, 1) := dk_172 (dk_at dksX0_isForbidden_1 20 rfl rfl)
theorem dX0_isForbidden_43 : decode cX0_isForbidden 43 = .ok (.iinc 3 1, 3) := dk_132 3 1 (dk_at dksX0_isForbidden_1 21 rfl rfl)
theorem dX0_isForbidden_46 : decode cX0_isForbidden 46 = .ok (.goto (-36), 3) := dk_167 255 220 (dk_at dksX0_isForbidden_2 0 rfl rfl)
theorem dX0_isForbidden_49 : decode cX0_isForbidden 49 = .ok (.iconst 0, 1) := dk_3 (dk_at dksX0_isForbidden_2 3 rfl rfl)
theorem dX0_isForbidden_50 : decode cX0_isForbidden 50 = .ok (.ireturn, 1) := dk_172 (dk_at dksX0_isForbidden_2 4 rfl rfl)
abbrev cX0_makes : ByteArray := prog_1_method_22_code
def yX0_makes : MethodName := ⟨RX0, "makes", "(LPondHouse$Patch;)V"⟩
def dkwX0_makes_13 : List UInt8 := [167, 255, 220, 177]
abbrev dktX0_makes_13 : List UInt8 := dkwX0_makes_13 ++ []
def dkwX0_makes_12 : List UInt8 := [21, 7, 50, 180, 0, 47, 199, 0, 14, 42, 42, 180, 0, 43, 21, 7, 50, 182, 1, 20, 132, 7, 1]
abbrev dktX0_makes_12 : List UInt8 := dkwX0_makes_12 ++ dktX0_makes_13
def dkwX0_makes_11 : List UInt8 := [181, 1, 13, 42, 43, 181, 1, 16, 3, 54, 7, 21, 7, 42, 180, 0, 40, 162, 0, 33, 42, 180, 0, 43]
abbrev dktX0_makes_11 : List UInt8 := dkwX0_makes_11 ++ dktX0_makes_12
def dkwX0_makes_10 : List UInt8 := [25, 8, 191, 42, 89, 180, 0, 236, 4, 96, 181, 0, 236, 42, 25, 4, 181, 1, 10, 42, 25, 5]
abbrev dktX0_makes_10 : List UInt8 := dkwX0_makes_10 ++ dktX0_makes_11
def dkwX0_makes_9 : List UInt8 := [58, 8, 21, 6, 154, 0, 20, 42, 180, 0, 213, 25, 4, 165, 0, 11, 42, 25, 4, 25, 5, 182, 1, 6]
abbrev dktX0_makes_9 : List UInt8 := dkwX0_makes_9 ++ dktX0_makes_10
def dkwX0_makes_8 : List UInt8 := [154, 0, 50, 42, 180, 0, 213, 25, 4, 165, 0, 41, 42, 25, 4, 25, 5, 182, 1, 6, 167, 0, 30]
abbrev dktX0_makes_8 : List UInt8 := dkwX0_makes_8 ++ dktX0_makes_9
def dkwX0_makes_7 : List UInt8 := [54, 6, 42, 43, 45, 182, 0, 250, 42, 45, 182, 0, 254, 42, 43, 182, 1, 2, 4, 54, 6, 21, 6]
abbrev dktX0_makes_7 : List UInt8 := dkwX0_makes_7 ++ dktX0_makes_8
def dkwX0_makes_6 : List UInt8 := [182, 0, 246, 191, 132, 6, 1, 167, 255, 222, 42, 180, 0, 213, 58, 4, 42, 180, 0, 28, 58, 5, 3]
abbrev dktX0_makes_6 : List UInt8 := dkwX0_makes_6 ++ dktX0_makes_7
def dkwX0_makes_5 : List UInt8 := [162, 0, 33, 25, 4, 21, 6, 50, 58, 7, 25, 7, 184, 0, 242, 153, 0, 12, 42, 16, 8, 2, 2]
abbrev dktX0_makes_5 : List UInt8 := dkwX0_makes_5 ++ dktX0_makes_6
def dkwX0_makes_4 : List UInt8 := [180, 0, 236, 4, 96, 182, 0, 239, 78, 45, 58, 4, 25, 4, 190, 54, 5, 3, 54, 6, 21, 6, 21, 5]
abbrev dktX0_makes_4 : List UInt8 := dkwX0_makes_4 ++ dktX0_makes_5
def dkwX0_makes_3 : List UInt8 := [182, 0, 153, 192, 0, 230, 44, 29, 182, 0, 232, 132, 3, 1, 167, 255, 226, 42, 44, 42, 180, 0, 213, 42]
abbrev dktX0_makes_3 : List UInt8 := dkwX0_makes_3 ++ dktX0_makes_4
def dkwX0_makes_2 : List UInt8 := [132, 5, 1, 167, 255, 227, 3, 62, 29, 43, 180, 0, 224, 182, 0, 147, 162, 0, 25, 43, 180, 0, 224, 29]
abbrev dktX0_makes_2 : List UInt8 := dkwX0_makes_2 ++ dktX0_makes_3
def dkwX0_makes_1 : List UInt8 := [162, 0, 28, 45, 21, 5, 50, 58, 6, 44, 187, 0, 157, 89, 25, 6, 183, 0, 217, 182, 0, 220]
abbrev dktX0_makes_1 : List UInt8 := dkwX0_makes_1 ++ dktX0_makes_2
def dkwX0_makes_0 : List UInt8 := [187, 0, 148, 89, 183, 0, 211, 77, 42, 180, 0, 213, 78, 45, 190, 54, 4, 3, 54, 5, 21, 5, 21, 4]
abbrev dktX0_makes_0 : List UInt8 := dkwX0_makes_0 ++ dktX0_makes_1
theorem dksX0_makes_0 : cX0_makes.data.toList.drop 0 = dktX0_makes_0 := by decide +kernel
theorem dksX0_makes_1 : cX0_makes.data.toList.drop 24 = dktX0_makes_1 := dk_seg dksX0_makes_0 24 rfl rfl
theorem dksX0_makes_2 : cX0_makes.data.toList.drop 46 = dktX0_makes_2 := dk_seg dksX0_makes_1 22 rfl rfl
theorem dksX0_makes_3 : cX0_makes.data.toList.drop 70 = dktX0_makes_3 := dk_seg dksX0_makes_2 24 rfl rfl
theorem dksX0_makes_4 : cX0_makes.data.toList.drop 94 = dktX0_makes_4 := dk_seg dksX0_makes_3 24 rfl rfl
theorem dksX0_makes_5 : cX0_makes.data.toList.drop 118 = dktX0_makes_5 := dk_seg dksX0_makes_4 24 rfl rfl
theorem dksX0_makes_6 : cX0_makes.data.toList.drop 141 = dktX0_makes_6 := dk_seg dksX0_makes_5 23 rfl rfl
theorem dksX0_makes_7 : cX0_makes.data.toList.drop 164 = dktX0_makes_7 := dk_seg dksX0_makes_6 23 rfl rfl
theorem dksX0_makes_8 : cX0_makes.data.toList.drop 187 = dktX0_makes_8 := dk_seg dksX0_makes_7 23 rfl rfl
theorem dksX0_makes_9 : cX0_makes.data.toList.drop 210 = dktX0_makes_9 := dk_seg dksX0_makes_8 23 rfl rfl
theorem dksX0_makes_10 : cX0_makes.data.toList.drop 234 = dktX0_makes_10 := dk_seg dksX0_makes_9 24 rfl rfl
theorem dksX0_makes_11 : cX0_makes.data.toList.drop 256 = dktX0_makes_11 := dk_seg dksX0_makes_10 22 rfl rfl
theorem dksX0_makes_12 : cX0_makes.data.toList.drop 280 = dktX0_makes_12 := dk_seg dksX0_makes_11 24 rfl rfl
theorem dksX0_makes_13 : cX0_makes.data.toList.drop 303 = dktX0_makes_13 := dk_seg dksX0_makes_12 23 rfl rfl
theorem dX0_makes_0 : decode cX0_makes 0 = .ok (.new 148, 3) := dk_187 0 148 (dk_at dksX0_makes_0 0 rfl rfl)
theorem dX0_makes_3 : decode cX0_makes 3 = .ok (.dup, 1) := dk_89 (dk_at dksX0_makes_0 3 rfl rfl)
theorem dX0_makes_4 : decode cX0_makes 4 = .ok (.invokespecial 211, 3) := dk_183 0 211 (dk_at dksX0_makes_0 4 rfl rfl)
theorem dX0_makes_7 : decode cX0_makes 7 = .ok (.astore_n 2, 1) := dk_77 (dk_at dksX0_makes_0 7 rfl rfl)
theorem dX0_makes_8 : decode cX0_makes 8 = .ok (.aload_n 0, 1) := dk_42 (dk_at dksX0_makes_0 8 rfl rfl)
theorem dX0_makes_9 : decode cX0_makes 9 = .ok (.getfield 213, 3) := dk_180 0 213 (dk_at dksX0_makes_0 9 rfl rfl)
theorem dX0_makes_12 : decode cX0_makes 12 = .ok (.astore_n 3, 1) := dk_78 (dk_at dksX0_makes_0 12 rfl rfl)
theorem dX0_makes_13 : decode cX0_makes 13 = .ok (.aload_n 3, 1) := dk_45 (dk_at dksX0_makes_0 13 rfl rfl)
theorem dX0_makes_14 : decode cX0_makes 14 = .ok (.arraylength, 1) := dk_190 (dk_at dksX0_makes_0 14 rfl rfl)
theorem dX0_makes_15 : decode cX0_makes 15 = .ok (.istore 4, 2) := dk_54 4 (dk_at dksX0_makes_0 15 rfl rfl)
theorem dX0_makes_17 : decode cX0_makes 17 = .ok (.iconst 0, 1) := dk_3 (dk_at dksX0_makes_0 17 rfl rfl)
theorem dX0_makes_18 : decode cX0_makes 18 = .ok (.istore 5, 2) := dk_54 5 (dk_at dksX0_makes_0 18 rfl rfl)
theorem dX0_makes_20 : decode cX0_makes 20 = .ok (.iload 5, 2) := dk_21 5 (dk_at dksX0_makes_0 20 rfl rfl)
theorem dX0_makes_22 : decode cX0_makes 22 = .ok (.iload 4, 2) := dk_21 4 (dk_at dksX0_makes_0 22 rfl rfl)
theorem dX0_makes_24 : decode cX0_makes 24 = .ok (.if_icmp .ge 28, 3) := dk_162 0 28 (dk_at dksX0_makes_1 0 rfl rfl)
theorem dX0_makes_27 : decode cX0_makes 27 = .ok (.aload_n 3, 1) := dk_45 (dk_at dksX0_makes_1 3 rfl rfl)
theorem dX0_makes_28 : decode cX0_makes 28 = .ok (.iload 5, 2) := dk_21 5 (dk_at dksX0_makes_1 4 rfl rfl)
theorem dX0_makes_30 : decode cX0_makes 30 = .ok (.aaload, 1) := dk_50 (dk_at dksX0_makes_1 6 rfl rfl)
theorem dX0_makes_31 : decode cX0_makes 31 = .ok (.astore 6, 2) := dk_58 6 (dk_at dksX0_makes_1 7 rfl rfl)
theorem dX0_makes_33 : decode cX0_makes 33 = .ok (.aload_n 2, 1) := dk_44 (dk_at dksX0_makes_1 9 rfl rfl)
theorem dX0_makes_34 : decode cX0_makes 34 = .ok (.new 157, 3) := dk_187 0 157 (dk_at dksX0_makes_1 10 rfl rfl)
theorem dX0_makes_37 : decode cX0_makes 37 = .ok (.dup, 1) := dk_89 (dk_at dksX0_makes_1 13 rfl rfl)
theorem dX0_makes_38 : decode cX0_makes 38 = .ok (.aload 6, 2) := dk_25 6 (dk_at dksX0_makes_1 14 rfl rfl)
theorem dX0_makes_40 : decode cX0_makes 40 = .ok (.invokespecial 217, 3) := dk_183 0 217 (dk_at dksX0_makes_1 16 rfl rfl)
theorem dX0_makes_43 : decode cX0_makes 43 = .ok (.invokevirtual 220, 3) := dk_182 0 220 (dk_at dksX0_makes_1 19 rfl rfl)
theorem dX0_makes_46 : decode cX0_makes 46 = .ok (.iinc 5 1, 3) := dk_132 5 1 (dk_at dksX0_makes_2 0 rfl rfl)
theorem dX0_makes_49 : decode cX0_makes 49 = .ok (.goto (-29), 3) := dk_167 255 227 (dk_at dksX0_makes_2 3 rfl rfl)
theorem dX0_makes_52 : decode cX0_makes 52 = .ok (.iconst 0, 1) := dk_3 (dk_at dksX0_makes_2 6 rfl rfl)
theorem dX0_makes_53 : decode cX0_makes 53 = .ok (.istore_n 3, 1) := dk_62 (dk_at dksX0_makes_2 7 rfl rfl)
theorem dX0_makes_54 : decode cX0_makes 54 = .ok (.iload_n 3, 1) := dk_29 (dk_at dksX0_makes_2 8 rfl rfl)
theorem dX0_makes_55 : decode cX0_makes 55 = .ok (.aload_n 1, 1) := dk_43 (dk_at dksX0_makes_2 9 rfl rfl)
theorem dX0_makes_56 : decode cX0_makes 56 = .ok (.getfield 224, 3) := dk_180 0 224 (dk_at dksX0_makes_2 10 rfl rfl)
theorem dX0_makes_59 : decode cX0_makes 59 = .ok (.invokevirtual 147, 3) := dk_182 0 147 (dk_at dksX0_makes_2 13 rfl rfl)
theorem dX0_makes_62 : decode cX0_makes 62 = .ok (.if_icmp .ge 25, 3) := dk_162 0 25 (dk_at dksX0_makes_2 16 rfl rfl)
theorem dX0_makes_65 : decode cX0_makes 65 = .ok (.aload_n 1, 1) := dk_43 (dk_at dksX0_makes_2 19 rfl rfl)
theorem dX0_makes_66 : decode cX0_makes 66 = .ok (.getfield 224, 3) := dk_180 0 224 (dk_at dksX0_makes_2 20 rfl rfl)
theorem dX0_makes_69 : decode cX0_makes 69 = .ok (.iload_n 3, 1) := dk_29 (dk_at dksX0_makes_2 23 rfl rfl)
theorem dX0_makes_70 : decode cX0_makes 70 = .ok (.invokevirtual 153, 3) := dk_182 0 153 (dk_at dksX0_makes_3 0 rfl rfl)
theorem dX0_makes_73 : decode cX0_makes 73 = .ok (.checkcast 230, 3) := dk_192 0 230 (dk_at dksX0_makes_3 3 rfl rfl)
theorem dX0_makes_76 : decode cX0_makes 76 = .ok (.aload_n 2, 1) := dk_44 (dk_at dksX0_makes_3 6 rfl rfl)
theorem dX0_makes_77 : decode cX0_makes 77 = .ok (.iload_n 3, 1) := dk_29 (dk_at dksX0_makes_3 7 rfl rfl)
theorem dX0_makes_78 : decode cX0_makes 78 = .ok (.invokevirtual 232, 3) := dk_182 0 232 (dk_at dksX0_makes_3 8 rfl rfl)
theorem dX0_makes_81 : decode cX0_makes 81 = .ok (.iinc 3 1, 3) := dk_132 3 1 (dk_at dksX0_makes_3 11 rfl rfl)
theorem dX0_makes_84 : decode cX0_makes 84 = .ok (.goto (-30), 3) := dk_167 255 226 (dk_at dksX0_makes_3 14 rfl rfl)
theorem dX0_makes_87 : decode cX0_makes 87 = .ok (.aload_n 0, 1) := dk_42 (dk_at dksX0_makes_3 17 rfl rfl)
theorem dX0_makes_88 : decode cX0_makes 88 = .ok (.aload_n 2, 1) := dk_44 (dk_at dksX0_makes_3 18 rfl rfl)
theorem dX0_makes_89 : decode cX0_makes 89 = .ok (.aload_n 0, 1) := dk_42 (dk_at dksX0_makes_3 19 rfl rfl)
theorem dX0_makes_90 : decode cX0_makes 90 = .ok (.getfield 213, 3) := dk_180 0 213 (dk_at dksX0_makes_3 20 rfl rfl)
theorem dX0_makes_93 : decode cX0_makes 93 = .ok (.aload_n 0, 1) := dk_42 (dk_at dksX0_makes_3 23 rfl rfl)
theorem dX0_makes_94 : decode cX0_makes 94 = .ok (.getfield 236, 3) := dk_180 0 236 (dk_at dksX0_makes_4 0 rfl rfl)
theorem dX0_makes_97 : decode cX0_makes 97 = .ok (.iconst 1, 1) := dk_4 (dk_at dksX0_makes_4 3 rfl rfl)
theorem dX0_makes_98 : decode cX0_makes 98 = .ok (.iadd, 1) := dk_96 (dk_at dksX0_makes_4 4 rfl rfl)
theorem dX0_makes_99 : decode cX0_makes 99 = .ok (.invokevirtual 239, 3) := dk_182 0 239 (dk_at dksX0_makes_4 5 rfl rfl)
theorem dX0_makes_102 : decode cX0_makes 102 = .ok (.astore_n 3, 1) := dk_78 (dk_at dksX0_makes_4 8 rfl rfl)
theorem dX0_makes_103 : decode cX0_makes 103 = .ok (.aload_n 3, 1) := dk_45 (dk_at dksX0_makes_4 9 rfl rfl)
theorem dX0_makes_104 : decode cX0_makes 104 = .ok (.astore 4, 2) := dk_58 4 (dk_at dksX0_makes_4 10 rfl rfl)
theorem dX0_makes_106 : decode cX0_makes 106 = .ok (.aload 4, 2) := dk_25 4 (dk_at dksX0_makes_4 12 rfl rfl)
theorem dX0_makes_108 : decode cX0_makes 108 = .ok (.arraylength, 1) := dk_190 (dk_at dksX0_makes_4 14 rfl rfl)
theorem dX0_makes_109 : decode cX0_makes 109 = .ok (.istore 5, 2) := dk_54 5 (dk_at dksX0_makes_4 15 rfl rfl)
theorem dX0_makes_111 : decode cX0_makes 111 = .ok (.iconst 0, 1) := dk_3 (dk_at dksX0_makes_4 17 rfl rfl)
theorem dX0_makes_112 : decode cX0_makes 112 = .ok (.istore 6, 2) := dk_54 6 (dk_at dksX0_makes_4 18 rfl rfl)
theorem dX0_makes_114 : decode cX0_makes 114 = .ok (.iload 6, 2) := dk_21 6 (dk_at dksX0_makes_4 20 rfl rfl)
theorem dX0_makes_116 : decode cX0_makes 116 = .ok (.iload 5, 2) := dk_21 5 (dk_at dksX0_makes_4 22 rfl rfl)
theorem dX0_makes_118 : decode cX0_makes 118 = .ok (.if_icmp .ge 33, 3) := dk_162 0 33 (dk_at dksX0_makes_5 0 rfl rfl)
theorem dX0_makes_121 : decode cX0_makes 121 = .ok (.aload 4, 2) := dk_25 4 (dk_at dksX0_makes_5 3 rfl rfl)
theorem dX0_makes_123 : decode cX0_makes 123 = .ok (.iload 6, 2) := dk_21 6 (dk_at dksX0_makes_5 5 rfl rfl)
theorem dX0_makes_125 : decode cX0_makes 125 = .ok (.aaload, 1) := dk_50 (dk_at dksX0_makes_5 7 rfl rfl)
theorem dX0_makes_126 : decode cX0_makes 126 = .ok (.astore 7, 2) := dk_58 7 (dk_at dksX0_makes_5 8 rfl rfl)
theorem dX0_makes_128 : decode cX0_makes 128 = .ok (.aload 7, 2) := dk_25 7 (dk_at dksX0_makes_5 10 rfl rfl)
theorem dX0_makes_130 : decode cX0_makes 130 = .ok (.invokestatic 242, 3) := dk_184 0 242 (dk_at dksX0_makes_5 12 rfl rfl)
theorem dX0_makes_133 : decode cX0_makes 133 = .ok (.ifCond .eq 12, 3) := dk_153 0 12 (dk_at dksX0_makes_5 15 rfl rfl)
theorem dX0_makes_136 : decode cX0_makes 136 = .ok (.aload_n 0, 1) := dk_42 (dk_at dksX0_makes_5 18 rfl rfl)
theorem dX0_makes_137 : decode cX0_makes 137 = .ok (.bipush 8, 2) := dk_16 8 (dk_at dksX0_makes_5 19 rfl rfl)
theorem dX0_makes_139 : decode cX0_makes 139 = .ok (.iconst (-1), 1) := dk_2 (dk_at dksX0_makes_5 21 rfl rfl)
theorem dX0_makes_140 : decode cX0_makes 140 = .ok (.iconst (-1), 1) := dk_2 (dk_at dksX0_makes_5 22 rfl rfl)
theorem dX0_makes_141 : decode cX0_makes 141 = .ok (.invokevirtual 246, 3) := dk_182 0 246 (dk_at dksX0_makes_6 0 rfl rfl)
theorem dX0_makes_144 : decode cX0_makes 144 = .ok (.athrow, 1) := dk_191 (dk_at dksX0_makes_6 3 rfl rfl)
theorem dX0_makes_145 : decode cX0_makes 145 = .ok (.iinc 6 1, 3) := dk_132 6 1 (dk_at dksX0_makes_6 4 rfl rfl)
theorem dX0_makes_148 : decode cX0_makes 148 = .ok (.goto (-34), 3) := dk_167 255 222 (dk_at dksX0_makes_6 7 rfl rfl)
theorem dX0_makes_151 : decode cX0_makes 151 = .ok (.aload_n 0, 1) := dk_42 (dk_at dksX0_makes_6 10 rfl rfl)
theorem dX0_makes_152 : decode cX0_makes 152 = .ok (.getfield 213, 3) := dk_180 0 213 (dk_at dksX0_makes_6 11 rfl rfl)
theorem dX0_makes_155 : decode cX0_makes 155 = .ok (.astore 4, 2) := dk_58 4 (dk_at dksX0_makes_6 14 rfl rfl)
theorem dX0_makes_157 : decode cX0_makes 157 = .ok (.aload_n 0, 1) := dk_42 (dk_at dksX0_makes_6 16 rfl rfl)
theorem dX0_makes_158 : decode cX0_makes 158 = .ok (.getfield 28, 3) := dk_180 0 28 (dk_at dksX0_makes_6 17 rfl rfl)
theorem dX0_makes_161 : decode cX0_makes 161 = .ok (.astore 5, 2) := dk_58 5 (dk_at dksX0_makes_6 20 rfl rfl)
theorem dX0_makes_163 : decode cX0_makes 163 = .ok (.iconst 0, 1) := dk_3 (dk_at dksX0_makes_6 22 rfl rfl)
theorem dX0_makes_164 : decode cX0_makes 164 = .ok (.istore 6, 2) := dk_54 6 (dk_at dksX0_makes_7 0 rfl rfl)
theorem dX0_makes_166 : decode cX0_makes 166 = .ok (.aload_n 0, 1) := dk_42 (dk_at dksX0_makes_7 2 rfl rfl)
theorem dX0_makes_167 : decode cX0_makes 167 = .ok (.aload_n 1, 1) := dk_43 (dk_at dksX0_makes_7 3 rfl rfl)
theorem dX0_makes_168 : decode cX0_makes 168 = .ok (.aload_n 3, 1) := dk_45 (dk_at dksX0_makes_7 4 rfl rfl)
theorem dX0_makes_169 : decode cX0_makes 169 = .ok (.invokevirtual 250, 3) := dk_182 0 250 (dk_at dksX0_makes_7 5 rfl rfl)
theorem dX0_makes_172 : decode cX0_makes 172 = .ok (.aload_n 0, 1) := dk_42 (dk_at dksX0_makes_7 8 rfl rfl)
theorem dX0_makes_173 : decode cX0_makes 173 = .ok (.aload_n 3, 1) := dk_45 (dk_at dksX0_makes_7 9 rfl rfl)
theorem dX0_makes_174 : decode cX0_makes 174 = .ok (.invokevirtual 254, 3) := dk_182 0 254 (dk_at dksX0_makes_7 10 rfl rfl)
theorem dX0_makes_177 : decode cX0_makes 177 = .ok (.aload_n 0, 1) := dk_42 (dk_at dksX0_makes_7 13 rfl rfl)
theorem dX0_makes_178 : decode cX0_makes 178 = .ok (.aload_n 1, 1) := dk_43 (dk_at dksX0_makes_7 14 rfl rfl)
theorem dX0_makes_179 : decode cX0_makes 179 = .ok (.invokevirtual 258, 3) := dk_182 1 2 (dk_at dksX0_makes_7 15 rfl rfl)
theorem dX0_makes_182 : decode cX0_makes 182 = .ok (.iconst 1, 1) := dk_4 (dk_at dksX0_makes_7 18 rfl rfl)
theorem dX0_makes_183 : decode cX0_makes 183 = .ok (.istore 6, 2) := dk_54 6 (dk_at dksX0_makes_7 19 rfl rfl)
theorem dX0_makes_185 : decode cX0_makes 185 = .ok (.iload 6, 2) := dk_21 6 (dk_at dksX0_makes_7 21 rfl rfl)
theorem dX0_makes_187 : decode cX0_makes 187 = .ok (.ifCond .ne 50, 3) := dk_154 0 50 (dk_at dksX0_makes_8 0 rfl rfl)
theorem dX0_makes_190 : decode cX0_makes 190 = .ok (.aload_n 0, 1) := dk_42 (dk_at dksX0_makes_8 3 rfl rfl)
theorem dX0_makes_191 : decode cX0_makes 191 = .ok (.getfield 213, 3) := dk_180 0 213 (dk_at dksX0_makes_8 4 rfl rfl)
theorem dX0_makes_194 : decode cX0_makes 194 = .ok (.aload 4, 2) := dk_25 4 (dk_at dksX0_makes_8 7 rfl rfl)
theorem dX0_makes_196 : decode cX0_makes 196 = .ok (.if_acmp .eq 41, 3) := dk_165 0 41 (dk_at dksX0_makes_8 9 rfl rfl)
theorem dX0_makes_199 : decode cX0_makes 199 = .ok (.aload_n 0, 1) := dk_42 (dk_at dksX0_makes_8 12 rfl rfl)
theorem dX0_makes_200 : decode cX0_makes 200 = .ok (.aload 4, 2) := dk_25 4 (dk_at dksX0_makes_8 13 rfl rfl)
theorem dX0_makes_202 : decode cX0_makes 202 = .ok (.aload 5, 2) := dk_25 5 (dk_at dksX0_makes_8 15 rfl rfl)
theorem dX0_makes_204 : decode cX0_makes 204 = .ok (.invokevirtual 262, 3) := dk_182 1 6 (dk_at dksX0_makes_8 17 rfl rfl)
theorem dX0_makes_207 : decode cX0_makes 207 = .ok (.goto 30, 3) := dk_167 0 30 (dk_at dksX0_makes_8 20 rfl rfl)
theorem dX0_makes_210 : decode cX0_makes 210 = .ok (.astore 8, 2) := dk_58 8 (dk_at dksX0_makes_9 0 rfl rfl)
theorem dX0_makes_212 : decode cX0_makes 212 = .ok (.iload 6, 2) := dk_21 6 (dk_at dksX0_makes_9 2 rfl rfl)
theorem dX0_makes_214 : decode cX0_makes 214 = .ok (.ifCond .ne 20, 3) := dk_154 0 20 (dk_at dksX0_makes_9 4 rfl rfl)
theorem dX0_makes_217 : decode cX0_makes 217 = .ok (.aload_n 0, 1) := dk_42 (dk_at dksX0_makes_9 7 rfl rfl)
theorem dX0_makes_218 : decode cX0_makes 218 = .ok (.getfield 213, 3) := dk_180 0 213 (dk_at dksX0_makes_9 8 rfl rfl)
theorem dX0_makes_221 : decode cX0_makes 221 = .ok (.aload 4, 2) := dk_25 4 (dk_at dksX0_makes_9 11 rfl rfl)
theorem dX0_makes_223 : decode cX0_makes 223 = .ok (.if_acmp .eq 11, 3) := dk_165 0 11 (dk_at dksX0_makes_9 13 rfl rfl)
theorem dX0_makes_226 : decode cX0_makes 226 = .ok (.aload_n 0, 1) := dk_42 (dk_at dksX0_makes_9 16 rfl rfl)
theorem dX0_makes_227 : decode cX0_makes 227 = .ok (.aload 4, 2) := dk_25 4 (dk_at dksX0_makes_9 17 rfl rfl)
theorem dX0_makes_229 : decode cX0_makes 229 = .ok (.aload 5, 2) := dk_25 5 (dk_at dksX0_makes_9 19 rfl rfl)
theorem dX0_makes_231 : decode cX0_makes 231 = .ok (.invokevirtual 262, 3) := dk_182 1 6 (dk_at dksX0_makes_9 21 rfl rfl)
theorem dX0_makes_234 : decode cX0_makes 234 = .ok (.aload 8, 2) := dk_25 8 (dk_at dksX0_makes_10 0 rfl rfl)
theorem dX0_makes_236 : decode cX0_makes 236 = .ok (.athrow, 1) := dk_191 (dk_at dksX0_makes_10 2 rfl rfl)
theorem dX0_makes_237 : decode cX0_makes 237 = .ok (.aload_n 0, 1) := dk_42 (dk_at dksX0_makes_10 3 rfl rfl)
theorem dX0_makes_238 : decode cX0_makes 238 = .ok (.dup, 1) := dk_89 (dk_at dksX0_makes_10 4 rfl rfl)
theorem dX0_makes_239 : decode cX0_makes 239 = .ok (.getfield 236, 3) := dk_180 0 236 (dk_at dksX0_makes_10 5 rfl rfl)
theorem dX0_makes_242 : decode cX0_makes 242 = .ok (.iconst 1, 1) := dk_4 (dk_at dksX0_makes_10 8 rfl rfl)
theorem dX0_makes_243 : decode cX0_makes 243 = .ok (.iadd, 1) := dk_96 (dk_at dksX0_makes_10 9 rfl rfl)
theorem dX0_makes_244 : decode cX0_makes 244 = .ok (.putfield 236, 3) := dk_181 0 236 (dk_at dksX0_makes_10 10 rfl rfl)
theorem dX0_makes_247 : decode cX0_makes 247 = .ok (.aload_n 0, 1) := dk_42 (dk_at dksX0_makes_10 13 rfl rfl)
theorem dX0_makes_248 : decode cX0_makes 248 = .ok (.aload 4, 2) := dk_25 4 (dk_at dksX0_makes_10 14 rfl rfl)
theorem dX0_makes_250 : decode cX0_makes 250 = .ok (.putfield 266, 3) := dk_181 1 10 (dk_at dksX0_makes_10 16 rfl rfl)
theorem dX0_makes_253 : decode cX0_makes 253 = .ok (.aload_n 0, 1) := dk_42 (dk_at dksX0_makes_10 19 rfl rfl)
theorem dX0_makes_254 : decode cX0_makes 254 = .ok (.aload 5, 2) := dk_25 5 (dk_at dksX0_makes_10 20 rfl rfl)
theorem dX0_makes_256 : decode cX0_makes 256 = .ok (.putfield 269, 3) := dk_181 1 13 (dk_at dksX0_makes_11 0 rfl rfl)
theorem dX0_makes_259 : decode cX0_makes 259 = .ok (.aload_n 0, 1) := dk_42 (dk_at dksX0_makes_11 3 rfl rfl)
theorem dX0_makes_260 : decode cX0_makes 260 = .ok (.aload_n 1, 1) := dk_43 (dk_at dksX0_makes_11 4 rfl rfl)
theorem dX0_makes_261 : decode cX0_makes 261 = .ok (.putfield 272, 3) := dk_181 1 16 (dk_at dksX0_makes_11 5 rfl rfl)
theorem dX0_makes_264 : decode cX0_makes 264 = .ok (.iconst 0, 1) := dk_3 (dk_at dksX0_makes_11 8 rfl rfl)
theorem dX0_makes_265 : decode cX0_makes 265 = .ok (.istore 7, 2) := dk_54 7 (dk_at dksX0_makes_11 9 rfl rfl)
theorem dX0_makes_267 : decode cX0_makes 267 = .ok (.iload 7, 2) := dk_21 7 (dk_at dksX0_makes_11 11 rfl rfl)
theorem dX0_makes_269 : decode cX0_makes 269 = .ok (.aload_n 0, 1) := dk_42 (dk_at dksX0_makes_11 13 rfl rfl)
theorem dX0_makes_270 : decode cX0_makes 270 = .ok (.getfield 40, 3) := dk_180 0 40 (dk_at dksX0_makes_11 14 rfl rfl)
theorem dX0_makes_273 : decode cX0_makes 273 = .ok (.if_icmp .ge 33, 3) := dk_162 0 33 (dk_at dksX0_makes_11 17 rfl rfl)
theorem dX0_makes_276 : decode cX0_makes 276 = .ok (.aload_n 0, 1) := dk_42 (dk_at dksX0_makes_11 20 rfl rfl)
theorem dX0_makes_277 : decode cX0_makes 277 = .ok (.getfield 43, 3) := dk_180 0 43 (dk_at dksX0_makes_11 21 rfl rfl)
theorem dX0_makes_280 : decode cX0_makes 280 = .ok (.iload 7, 2) := dk_21 7 (dk_at dksX0_makes_12 0 rfl rfl)
theorem dX0_makes_282 : decode cX0_makes 282 = .ok (.aaload, 1) := dk_50 (dk_at dksX0_makes_12 2 rfl rfl)
theorem dX0_makes_283 : decode cX0_makes 283 = .ok (.getfield 47, 3) := dk_180 0 47 (dk_at dksX0_makes_12 3 rfl rfl)
theorem dX0_makes_286 : decode cX0_makes 286 = .ok (.ifnonnull 14, 3) := dk_199 0 14 (dk_at dksX0_makes_12 6 rfl rfl)
theorem dX0_makes_289 : decode cX0_makes 289 = .ok (.aload_n 0, 1) := dk_42 (dk_at dksX0_makes_12 9 rfl rfl)
theorem dX0_makes_290 : decode cX0_makes 290 = .ok (.aload_n 0, 1) := dk_42 (dk_at dksX0_makes_12 10 rfl rfl)
theorem dX0_makes_291 : decode cX0_makes 291 = .ok (.getfield 43, 3) := dk_180 0 43 (dk_at dksX0_makes_12 11 rfl rfl)
theorem dX0_makes_294 : decode cX0_makes 294 = .ok (.iload 7, 2) := dk_21 7 (dk_at dksX0_makes_12 14 rfl rfl)
theorem dX0_makes_296 : decode cX0_makes 296 = .ok (.aaload, 1) := dk_50 (dk_at dksX0_makes_12 16 rfl rfl)
theorem dX0_makes_297 : decode cX0_makes 297 = .ok (.invokevirtual 276, 3) := dk_182 1 20 (dk_at dksX0_makes_12 17 rfl rfl)
theorem dX0_makes_300 : decode cX0_makes 300 = .ok (.iinc 7 1, 3) := dk_132 7 1 (dk_at dksX0_makes_12 20 rfl rfl)
theorem dX0_makes_303 : decode cX0_makes 303 = .ok (.goto (-36), 3) := dk_167 255 220 (dk_at dksX0_makes_13 0 rfl rfl)
theorem dX0_makes_306 : decode cX0_makes 306 = .ok (.return_, 1) := dk_177 (dk_at dksX0_makes_13 3 rfl rfl)
abbrev cX0_draft : ByteArray := prog_1_method_16_code
def yX0_draft : MethodName := ⟨RX0, "draft", "(LPondHouse$Row;I)LPondHouse$Draft;"⟩
def dkwX0_draft_1 : List UInt8 := [160, 0, 12, 42, 28, 182, 0, 153, 192, 0, 157, 176, 132, 2, 1, 167, 255, 221, 1, 176]
abbrev dktX0_draft_1 : List UInt8 := dkwX0_draft_1 ++ []
def dkwX0_draft_0 : List UInt8 := [3, 61, 28, 42, 182, 0, 147, 162, 0, 33, 42, 28, 182, 0, 153, 192, 0, 157, 180, 0, 159, 27]
abbrev dktX0_draft_0 : List UInt8 := dkwX0_draft_0 ++ dktX0_draft_1
theorem dksX0_draft_0 : cX0_draft.data.toList.drop 0 = dktX0_draft_0 := by decide +kernel
theorem dksX0_draft_1 : cX0_draft.data.toList.drop 22 = dktX0_draft_1 := dk_seg dksX0_draft_0 22 rfl rfl
theorem dX0_draft_0 : decode cX0_draft 0 = .ok (.iconst 0, 1) := dk_3 (dk_at dksX0_draft_0 0 rfl rfl)
theorem dX0_draft_1 : decode cX0_draft 1 = .ok (.istore_n 2, 1) := dk_61 (dk_at dksX0_draft_0 1 rfl rfl)
theorem dX0_draft_2 : decode cX0_draft 2 = .ok (.iload_n 2, 1) := dk_28 (dk_at dksX0_draft_0 2 rfl rfl)
theorem dX0_draft_3 : decode cX0_draft 3 = .ok (.aload_n 0, 1) := dk_42 (dk_at dksX0_draft_0 3 rfl rfl)
theorem dX0_draft_4 : decode cX0_draft 4 = .ok (.invokevirtual 147, 3) := dk_182 0 147 (dk_at dksX0_draft_0 4 rfl rfl)
theorem dX0_draft_7 : decode cX0_draft 7 = .ok (.if_icmp .ge 33, 3) := dk_162 0 33 (dk_at dksX0_draft_0 7 rfl rfl)
theorem dX0_draft_10 : decode cX0_draft 10 = .ok (.aload_n 0, 1) := dk_42 (dk_at dksX0_draft_0 10 rfl rfl)
theorem dX0_draft_11 : decode cX0_draft 11 = .ok (.iload_n 2, 1) := dk_28 (dk_at dksX0_draft_0 11 rfl rfl)
theorem dX0_draft_12 : decode cX0_draft 12 = .ok (.invokevirtual 153, 3) := dk_182 0 153 (dk_at dksX0_draft_0 12 rfl rfl)
theorem dX0_draft_15 : decode cX0_draft 15 = .ok (.checkcast 157, 3) := dk_192 0 157 (dk_at dksX0_draft_0 15 rfl rfl)
theorem dX0_draft_18 : decode cX0_draft 18 = .ok (.getfield 159, 3) := dk_180 0 159 (dk_at dksX0_draft_0 18 rfl rfl)
theorem dX0_draft_21 : decode cX0_draft 21 = .ok (.iload_n 1, 1) := dk_27 (dk_at dksX0_draft_0 21 rfl rfl)
theorem dX0_draft_22 : decode cX0_draft 22 = .ok (.if_icmp .ne 12, 3) := dk_160 0 12 (dk_at dksX0_draft_1 0 rfl rfl)
theorem dX0_draft_25 : decode cX0_draft 25 = .ok (.aload_n 0, 1) := dk_42 (dk_at dksX0_draft_1 3 rfl rfl)
theorem dX0_draft_26 : decode cX0_draft 26 = .ok (.iload_n 2, 1) := dk_28 (dk_at dksX0_draft_1 4 rfl rfl)
theorem dX0_draft_27 : decode cX0_draft 27 = .ok (.invokevirtual 153, 3) := dk_182 0 153 (dk_at dksX0_draft_1 5 rfl rfl)
theorem dX0_draft_30 : decode cX0_draft 30 = .ok (.checkcast 157, 3) := dk_192 0 157 (dk_at dksX0_draft_1 8 rfl rfl)
theorem dX0_draft_33 : decode cX0_draft 33 = .ok (.areturn, 1) := dk_176 (dk_at dksX0_draft_1 11 rfl rfl)
theorem dX0_draft_34 : decode cX0_draft 34 = .ok (.iinc 2 1, 3) := dk_132 2 1 (dk_at dksX0_draft_1 12 rfl rfl)
theorem dX0_draft_37 : decode cX0_draft 37 = .ok (.goto (-35), 3) := dk_167 255 221 (dk_at dksX0_draft_1 15 rfl rfl)
theorem dX0_draft_40 : decode cX0_draft 40 = .ok (.aconst_null, 1) := dk_1 (dk_at dksX0_draft_1 18 rfl rfl)
theorem dX0_draft_41 : decode cX0_draft 41 = .ok (.areturn, 1) := dk_176 (dk_at dksX0_draft_1 19 rfl rfl)
abbrev cX0_refuses : ByteArray := prog_1_method_17_code
def yX0_refuses : MethodName := ⟨RX0, "refuses", "(III)LPondHouse$Refusal;"⟩
def dkwX0_refuses_1 : List UInt8 := [42, 180, 0, 160, 176]
abbrev dktX0_refuses_1 : List UInt8 := dkwX0_refuses_1 ++ []
def dkwX0_refuses_0 : List UInt8 := [42, 180, 0, 160, 27, 181, 0, 164, 42, 180, 0, 160, 28, 181, 0, 169, 42, 180, 0, 160, 29, 181, 0, 172]
abbrev dktX0_refuses_0 : List UInt8 := dkwX0_refuses_0 ++ dktX0_refuses_1
theorem dksX0_refuses_0 : cX0_refuses.data.toList.drop 0 = dktX0_refuses_0 := by decide +kernel
theorem dksX0_refuses_1 : cX0_refuses.data.toList.drop 24 = dktX0_refuses_1 := dk_seg dksX0_refuses_0 24 rfl rfl
theorem dX0_refuses_0 : decode cX0_refuses 0 = .ok (.aload_n 0, 1) := dk_42 (dk_at dksX0_refuses_0 0 rfl rfl)
theorem dX0_refuses_1 : decode cX0_refuses 1 = .ok (.getfield 160, 3) := dk_180 0 160 (dk_at dksX0_refuses_0 1 rfl rfl)
theorem dX0_refuses_4 : decode cX0_refuses 4 = .ok (.iload_n 1, 1) := dk_27 (dk_at dksX0_refuses_0 4 rfl rfl)
theorem dX0_refuses_5 : decode cX0_refuses 5 = .ok (.putfield 164, 3) := dk_181 0 164 (dk_at dksX0_refuses_0 5 rfl rfl)
theorem dX0_refuses_8 : decode cX0_refuses 8 = .ok (.aload_n 0, 1) := dk_42 (dk_at dksX0_refuses_0 8 rfl rfl)
theorem dX0_refuses_9 : decode cX0_refuses 9 = .ok (.getfield 160, 3) := dk_180 0 160 (dk_at dksX0_refuses_0 9 rfl rfl)
theorem dX0_refuses_12 : decode cX0_refuses 12 = .ok (.iload_n 2, 1) := dk_28 (dk_at dksX0_refuses_0 12 rfl rfl)
theorem dX0_refuses_13 : decode cX0_refuses 13 = .ok (.putfield 169, 3) := dk_181 0 169 (dk_at dksX0_refuses_0 13 rfl rfl)
theorem dX0_refuses_16 : decode cX0_refuses 16 = .ok (.aload_n 0, 1) := dk_42 (dk_at dksX0_refuses_0 16 rfl rfl)
theorem dX0_refuses_17 : decode cX0_refuses 17 = .ok (.getfield 160, 3) := dk_180 0 160 (dk_at dksX0_refuses_0 17 rfl rfl)
theorem dX0_refuses_20 : decode cX0_refuses 20 = .ok (.iload_n 3, 1) := dk_29 (dk_at dksX0_refuses_0 20 rfl rfl)
theorem dX0_refuses_21 : decode cX0_refuses 21 = .ok (.putfield 172, 3) := dk_181 0 172 (dk_at dksX0_refuses_0 21 rfl rfl)
theorem dX0_refuses_24 : decode cX0_refuses 24 = .ok (.aload_n 0, 1) := dk_42 (dk_at dksX0_refuses_1 0 rfl rfl)
theorem dX0_refuses_25 : decode cX0_refuses 25 = .ok (.getfield 160, 3) := dk_180 0 160 (dk_at dksX0_refuses_1 1 rfl rfl)
theorem dX0_refuses_28 : decode cX0_refuses 28 = .ok (.areturn, 1) := dk_176 (dk_at dksX0_refuses_1 4 rfl rfl)
abbrev cX0_made : ByteArray := prog_1_method_18_code
def yX0_made : MethodName := ⟨RX0, "made", "(LPondHouse$Row;[LPondHouse$Kind;I)[LPondHouse$Kind;"⟩
def dkwX0_made_7 : List UInt8 := [83, 132, 5, 255, 132, 6, 1, 167, 255, 106, 167, 255, 95, 25, 4, 176]
abbrev dktX0_made_7 : List UInt8 := dkwX0_made_7 ++ []
def dkwX0_made_6 : List UInt8 := [21, 10, 153, 0, 10, 44, 21, 9, 50, 167, 0, 15, 187, 0, 18, 89, 25, 7, 25, 8, 29, 183, 0, 186]
abbrev dktX0_made_6 : List UInt8 := dkwX0_made_6 ++ dktX0_made_7
def dkwX0_made_5 : List UInt8 := [44, 21, 9, 50, 180, 0, 36, 25, 8, 166, 0, 7, 4, 167, 0, 4, 3, 54, 10, 25, 4, 21, 6]
abbrev dktX0_made_5 : List UInt8 := dkwX0_made_5 ++ dktX0_made_6
def dkwX0_made_4 : List UInt8 := [25, 7, 180, 0, 159, 184, 0, 180, 54, 9, 25, 7, 180, 0, 183, 154, 0, 25, 21, 9, 2, 159, 0, 19]
abbrev dktX0_made_4 : List UInt8 := dkwX0_made_4 ++ dktX0_made_5
def dkwX0_made_3 : List UInt8 := [21, 6, 50, 199, 0, 96, 25, 7, 180, 0, 175, 2, 159, 0, 11, 25, 8, 199, 0, 6, 167, 0, 79, 44]
abbrev dktX0_made_3 : List UInt8 := dkwX0_made_3 ++ dktX0_made_4
def dkwX0_made_2 : List UInt8 := [160, 0, 7, 1, 167, 0, 15, 25, 4, 43, 25, 7, 180, 0, 175, 184, 0, 177, 50, 58, 8, 25, 4]
abbrev dktX0_made_2 : List UInt8 := dkwX0_made_2 ++ dktX0_made_3
def dkwX0_made_1 : List UInt8 := [25, 4, 190, 162, 0, 148, 43, 21, 6, 182, 0, 153, 192, 0, 157, 58, 7, 25, 7, 180, 0, 175, 2]
abbrev dktX0_made_1 : List UInt8 := dkwX0_made_1 ++ dktX0_made_2
def dkwX0_made_0 : List UInt8 := [43, 182, 0, 147, 189, 0, 18, 58, 4, 25, 4, 190, 54, 5, 21, 5, 158, 0, 162, 3, 54, 6, 21, 6]
abbrev dktX0_made_0 : List UInt8 := dkwX0_made_0 ++ dktX0_made_1
theorem dksX0_made_0 : cX0_made.data.toList.drop 0 = dktX0_made_0 := by decide +kernel
theorem dksX0_made_1 : cX0_made.data.toList.drop 24 = dktX0_made_1 := dk_seg dksX0_made_0 24 rfl rfl
theorem dksX0_made_2 : cX0_made.data.toList.drop 47 = dktX0_made_2 := dk_seg dksX0_made_1 23 rfl rfl
theorem dksX0_made_3 : cX0_made.data.toList.drop 70 = dktX0_made_3 := dk_seg dksX0_made_2 23 rfl rfl
theorem dksX0_made_4 : cX0_made.data.toList.drop 94 = dktX0_made_4 := dk_seg dksX0_made_3 24 rfl rfl
theorem dksX0_made_5 : cX0_made.data.toList.drop 118 = dktX0_made_5 := dk_seg dksX0_made_4 24 rfl rfl
theorem dksX0_made_6 : cX0_made.data.toList.drop 141 = dktX0_made_6 := dk_seg dksX0_made_5 23 rfl rfl
theorem dksX0_made_7 : cX0_made.data.toList.drop 165 = dktX0_made_7 := dk_seg dksX0_made_6 24 rfl rfl
theorem dX0_made_0 : decode cX0_made 0 = .ok (.aload_n 1, 1) := dk_43 (dk_at dksX0_made_0 0 rfl rfl)
theorem dX0_made_1 : decode cX0_made 1 = .ok (.invokevirtual 147, 3) := dk_182 0 147 (dk_at dksX0_made_0 1 rfl rfl)
theorem dX0_made_4 : decode cX0_made 4 = .ok (.anewarray 18, 3) := dk_189 0 18 (dk_at dksX0_made_0 4 rfl rfl)
theorem dX0_made_7 : decode cX0_made 7 = .ok (.astore 4, 2) := dk_58 4 (dk_at dksX0_made_0 7 rfl rfl)
theorem dX0_made_9 : decode cX0_made 9 = .ok (.aload 4, 2) := dk_25 4 (dk_at dksX0_made_0 9 rfl rfl)
theorem dX0_made_11 : decode cX0_made 11 = .ok (.arraylength, 1) := dk_190 (dk_at dksX0_made_0 11 rfl rfl)
theorem dX0_made_12 : decode cX0_made 12 = .ok (.istore 5, 2) := dk_54 5 (dk_at dksX0_made_0 12 rfl rfl)
theorem dX0_made_14 : decode cX0_made 14 = .ok (.iload 5, 2) := dk_21 5 (dk_at dksX0_made_0 14 rfl rfl)
theorem dX0_made_16 : decode cX0_made 16 = .ok (.ifCond .le 162, 3) := dk_158 0 162 (dk_at dksX0_made_0 16 rfl rfl)
theorem dX0_made_19 : decode cX0_made 19 = .ok (.iconst 0, 1) := dk_3 (dk_at dksX0_made_0 19 rfl rfl)
theorem dX0_made_20 : decode cX0_made 20 = .ok (.istore 6, 2) := dk_54 6 (dk_at dksX0_made_0 20 rfl rfl)
theorem dX0_made_22 : decode cX0_made 22 = .ok (.iload 6, 2) := dk_21 6 (dk_at dksX0_made_0 22 rfl rfl)
theorem dX0_made_24 : decode cX0_made 24 = .ok (.aload 4, 2) := dk_25 4 (dk_at dksX0_made_1 0 rfl rfl)
theorem dX0_made_26 : decode cX0_made 26 = .ok (.arraylength, 1) := dk_190 (dk_at dksX0_made_1 2 rfl rfl)
theorem dX0_made_27 : decode cX0_made 27 = .ok (.if_icmp .ge 148, 3) := dk_162 0 148 (dk_at dksX0_made_1 3 rfl rfl)
theorem dX0_made_30 : decode cX0_made 30 = .ok (.aload_n 1, 1) := dk_43 (dk_at dksX0_made_1 6 rfl rfl)
theorem dX0_made_31 : decode cX0_made 31 = .ok (.iload 6, 2) := dk_21 6 (dk_at dksX0_made_1 7 rfl rfl)
theorem dX0_made_33 : decode cX0_made 33 = .ok (.invokevirtual 153, 3) := dk_182 0 153 (dk_at dksX0_made_1 9 rfl rfl)
theorem dX0_made_36 : decode cX0_made 36 = .ok (.checkcast 157, 3) := dk_192 0 157 (dk_at dksX0_made_1 12 rfl rfl)
theorem dX0_made_39 : decode cX0_made 39 = .ok (.astore 7, 2) := dk_58 7 (dk_at dksX0_made_1 15 rfl rfl)
theorem dX0_made_41 : decode cX0_made 41 = .ok (.aload 7, 2) := dk_25 7 (dk_at dksX0_made_1 17 rfl rfl)
theorem dX0_made_43 : decode cX0_made 43 = .ok (.getfield 175, 3) := dk_180 0 175 (dk_at dksX0_made_1 19 rfl rfl)
theorem dX0_made_46 : decode cX0_made 46 = .ok (.iconst (-1), 1) := dk_2 (dk_at dksX0_made_1 22 rfl rfl)
theorem dX0_made_47 : decode cX0_made 47 = .ok (.if_icmp .ne 7, 3) := dk_160 0 7 (dk_at dksX0_made_2 0 rfl rfl)
theorem dX0_made_50 : decode cX0_made 50 = .ok (.aconst_null, 1) := dk_1 (dk_at dksX0_made_2 3 rfl rfl)
theorem dX0_made_51 : decode cX0_made 51 = .ok (.goto 15, 3) := dk_167 0 15 (dk_at dksX0_made_2 4 rfl rfl)
theorem dX0_made_54 : decode cX0_made 54 = .ok (.aload 4, 2) := dk_25 4 (dk_at dksX0_made_2 7 rfl rfl)
theorem dX0_made_56 : decode cX0_made 56 = .ok (.aload_n 1, 1) := dk_43 (dk_at dksX0_made_2 9 rfl rfl)
theorem dX0_made_57 : decode cX0_made 57 = .ok (.aload 7, 2) := dk_25 7 (dk_at dksX0_made_2 10 rfl rfl)
theorem dX0_made_59 : decode cX0_made 59 = .ok (.getfield 175, 3) := dk_180 0 175 (dk_at dksX0_made_2 12 rfl rfl)
theorem dX0_made_62 : decode cX0_made 62 = .ok (.invokestatic 177, 3) := dk_184 0 177 (dk_at dksX0_made_2 15 rfl rfl)
theorem dX0_made_65 : decode cX0_made 65 = .ok (.aaload, 1) := dk_50 (dk_at dksX0_made_2 18 rfl rfl)
theorem dX0_made_66 : decode cX0_made 66 = .ok (.astore 8, 2) := dk_58 8 (dk_at dksX0_made_2 19 rfl rfl)
theorem dX0_made_68 : decode cX0_made 68 = .ok (.aload 4, 2) := dk_25 4 (dk_at dksX0_made_2 21 rfl rfl)
theorem dX0_made_70 : decode cX0_made 70 = .ok (.iload 6, 2) := dk_21 6 (dk_at dksX0_made_3 0 rfl rfl)
theorem dX0_made_72 : decode cX0_made 72 = .ok (.aaload, 1) := dk_50 (dk_at dksX0_made_3 2 rfl rfl)
theorem dX0_made_73 : decode cX0_made 73 = .ok (.ifnonnull 96, 3) := dk_199 0 96 (dk_at dksX0_made_3 3 rfl rfl)
theorem dX0_made_76 : decode cX0_made 76 = .ok (.aload 7, 2) := dk_25 7 (dk_at dksX0_made_3 6 rfl rfl)
theorem dX0_made_78 : decode cX0_made 78 = .ok (.getfield 175, 3) := dk_180 0 175 (dk_at dksX0_made_3 8 rfl rfl)
theorem dX0_made_81 : decode cX0_made 81 = .ok (.iconst (-1), 1) := dk_2 (dk_at dksX0_made_3 11 rfl rfl)
theorem dX0_made_82 : decode cX0_made 82 = .ok (.if_icmp .eq 11, 3) := dk_159 0 11 (dk_at dksX0_made_3 12 rfl rfl)
theorem dX0_made_85 : decode cX0_made 85 = .ok (.aload 8, 2) := dk_25 8 (dk_at dksX0_made_3 15 rfl rfl)
theorem dX0_made_87 : decode cX0_made 87 = .ok (.ifnonnull 6, 3) := dk_199 0 6 (dk_at dksX0_made_3 17 rfl rfl)
theorem dX0_made_90 : decode cX0_made 90 = .ok (.goto 79, 3) := dk_167 0 79 (dk_at dksX0_made_3 20 rfl rfl)
theorem dX0_made_93 : decode cX0_made 93 = .ok (.aload_n 2, 1) := dk_44 (dk_at dksX0_made_3 23 rfl rfl)
theorem dX0_made_94 : decode cX0_made 94 = .ok (.aload 7, 2) := dk_25 7 (dk_at dksX0_made_4 0 rfl rfl)
theorem dX0_made_96 : decode cX0_made 96 = .ok (.getfield 159, 3) := dk_180 0 159 (dk_at dksX0_made_4 2 rfl rfl)
theorem dX0_made_99 : decode cX0_made 99 = .ok (.invokestatic 180, 3) := dk_184 0 180 (dk_at dksX0_made_4 5 rfl rfl)
theorem dX0_made_102 : decode cX0_made 102 = .ok (.istore 9, 2) := dk_54 9 (dk_at dksX0_made_4 8 rfl rfl)
theorem dX0_made_104 : decode cX0_made 104 = .ok (.aload 7, 2) := dk_25 7 (dk_at dksX0_made_4 10 rfl rfl)
theorem dX0_made_106 : decode cX0_made 106 = .ok (.getfield 183, 3) := dk_180 0 183 (dk_at dksX0_made_4 12 rfl rfl)
theorem dX0_made_109 : decode cX0_made 109 = .ok (.ifCond .ne 25, 3) := dk_154 0 25 (dk_at dksX0_made_4 15 rfl rfl)
theorem dX0_made_112 : decode cX0_made 112 = .ok (.iload 9, 2) := dk_21 9 (dk_at dksX0_made_4 18 rfl rfl)
theorem dX0_made_114 : decode cX0_made 114 = .ok (.iconst (-1), 1) := dk_2 (dk_at dksX0_made_4 20 rfl rfl)
theorem dX0_made_115 : decode cX0_made 115 = .ok (.if_icmp .eq 19, 3) := dk_159 0 19 (dk_at dksX0_made_4 21 rfl rfl)
theorem dX0_made_118 : decode cX0_made 118 = .ok (.aload_n 2, 1) := dk_44 (dk_at dksX0_made_5 0 rfl rfl)
theorem dX0_made_119 : decode cX0_made 119 = .ok (.iload 9, 2) := dk_21 9 (dk_at dksX0_made_5 1 rfl rfl)
theorem dX0_made_121 : decode cX0_made 121 = .ok (.aaload, 1) := dk_50 (dk_at dksX0_made_5 3 rfl rfl)
theorem dX0_made_122 : decode cX0_made 122 = .ok (.getfield 36, 3) := dk_180 0 36 (dk_at dksX0_made_5 4 rfl rfl)
theorem dX0_made_125 : decode cX0_made 125 = .ok (.aload 8, 2) := dk_25 8 (dk_at dksX0_made_5 7 rfl rfl)
theorem dX0_made_127 : decode cX0_made 127 = .ok (.if_acmp .ne 7, 3) := dk_166 0 7 (dk_at dksX0_made_5 9 rfl rfl)
theorem dX0_made_130 : decode cX0_made 130 = .ok (.iconst 1, 1) := dk_4 (dk_at dksX0_made_5 12 rfl rfl)
theorem dX0_made_131 : decode cX0_made 131 = .ok (.goto 4, 3) := dk_167 0 4 (dk_at dksX0_made_5 13 rfl rfl)
theorem dX0_made_134 : decode cX0_made 134 = .ok (.iconst 0, 1) := dk_3 (dk_at dksX0_made_5 16 rfl rfl)
theorem dX0_made_135 : decode cX0_made 135 = .ok (.istore 10, 2) := dk_54 10 (dk_at dksX0_made_5 17 rfl rfl)
theorem dX0_made_137 : decode cX0_made 137 = .ok (.aload 4, 2) := dk_25 4 (dk_at dksX0_made_5 19 rfl rfl)
theorem dX0_made_139 : decode cX0_made 139 = .ok (.iload 6, 2) := dk_21 6 (dk_at dksX0_made_5 21 rfl rfl)
theorem dX0_made_141 : decode cX0_made 141 = .ok (.iload 10, 2) := dk_21 10 (dk_at dksX0_made_6 0 rfl rfl)
theorem dX0_made_143 : decode cX0_made 143 = .ok (.ifCond .eq 10, 3) := dk_153 0 10 (dk_at dksX0_made_6 2 rfl rfl)
theorem dX0_made_146 : decode cX0_made 146 = .ok (.aload_n 2, 1) := dk_44 (dk_at dksX0_made_6 5 rfl rfl)
theorem dX0_made_147 : decode cX0_made 147 = .ok (.iload 9, 2) := dk_21 9 (dk_at dksX0_made_6 6 rfl rfl)
theorem dX0_made_149 : decode cX0_made 149 = .ok (.aaload, 1) := dk_50 (dk_at dksX0_made_6 8 rfl rfl)
theorem dX0_made_150 : decode cX0_made 150 = .ok (.goto 15, 3) := dk_167 0 15 (dk_at dksX0_made_6 9 rfl rfl)
theorem dX0_made_153 : decode cX0_made 153 = .ok (.new 18, 3) := dk_187 0 18 (dk_at dksX0_made_6 12 rfl rfl)
theorem dX0_made_156 : decode cX0_made 156 = .ok (.dup, 1) := dk_89 (dk_at dksX0_made_6 15 rfl rfl)
theorem dX0_made_157 : decode cX0_made 157 = .ok (.aload 7, 2) := dk_25 7 (dk_at dksX0_made_6 16 rfl rfl)
theorem dX0_made_159 : decode cX0_made 159 = .ok (.aload 8, 2) := dk_25 8 (dk_at dksX0_made_6 18 rfl rfl)
theorem dX0_made_161 : decode cX0_made 161 = .ok (.iload_n 3, 1) := dk_29 (dk_at dksX0_made_6 20 rfl rfl)
theorem dX0_made_162 : decode cX0_made 162 = .ok (.invokespecial 186, 3) := dk_183 0 186 (dk_at dksX0_made_6 21 rfl rfl)
theorem dX0_made_165 : decode cX0_made 165 = .ok (.aastore, 1) := dk_83 (dk_at dksX0_made_7 0 rfl rfl)
theorem dX0_made_166 : decode cX0_made 166 = .ok (.iinc 5 (-1), 3) := dk_132 5 255 (dk_at dksX0_made_7 1 rfl rfl)
theorem dX0_made_169 : decode cX0_made 169 = .ok (.iinc 6 1, 3) := dk_132 6 1 (dk_at dksX0_made_7 4 rfl rfl)
theorem dX0_made_172 : decode cX0_made 172 = .ok (.goto (-150), 3) := dk_167 255 106 (dk_at dksX0_made_7 7 rfl rfl)
theorem dX0_made_175 : decode cX0_made 175 = .ok (.goto (-161), 3) := dk_167 255 95 (dk_at dksX0_made_7 10 rfl rfl)
theorem dX0_made_178 : decode cX0_made 178 = .ok (.aload 4, 2) := dk_25 4 (dk_at dksX0_made_7 13 rfl rfl)
theorem dX0_made_180 : decode cX0_made 180 = .ok (.areturn, 1) := dk_176 (dk_at dksX0_made_7 15 rfl rfl)
abbrev cX0_place : ByteArray := prog_1_method_19_code
def yX0_place : MethodName := ⟨RX0, "place", "(LPondHouse$Row;I)I"⟩
def dkwX0_place_1 : List UInt8 := [172]
abbrev dktX0_place_1 : List UInt8 := dkwX0_place_1 ++ []
def dkwX0_place_0 : List UInt8 := [3, 61, 42, 28, 182, 0, 153, 192, 0, 157, 180, 0, 159, 27, 159, 0, 9, 132, 2, 1, 167, 255, 238, 28]
abbrev dktX0_place_0 : List UInt8 := dkwX0_place_0 ++ dktX0_place_1
theorem dksX0_place_0 : cX0_place.data.toList.drop 0 = dktX0_place_0 := by decide +kernel
theorem dksX0_place_1 : cX0_place.data.toList.drop 24 = dktX0_place_1 := dk_seg dksX0_place_0 24 rfl rfl
theorem dX0_place_0 : decode cX0_place 0 = .ok (.iconst 0, 1) := dk_3 (dk_at dksX0_place_0 0 rfl rfl)
theorem dX0_place_1 : decode cX0_place 1 = .ok (.istore_n 2, 1) := dk_61 (dk_at dksX0_place_0 1 rfl rfl)
theorem dX0_place_2 : decode cX0_place 2 = .ok (.aload_n 0, 1) := dk_42 (dk_at dksX0_place_0 2 rfl rfl)
theorem dX0_place_3 : decode cX0_place 3 = .ok (.iload_n 2, 1) := dk_28 (dk_at dksX0_place_0 3 rfl rfl)
theorem dX0_place_4 : decode cX0_place 4 = .ok (.invokevirtual 153, 3) := dk_182 0 153 (dk_at dksX0_place_0 4 rfl rfl)
theorem dX0_place_7 : decode cX0_place 7 = .ok (.checkcast 157, 3) := dk_192 0 157 (dk_at dksX0_place_0 7 rfl rfl)
theorem dX0_place_10 : decode cX0_place 10 = .ok (.getfield 159, 3) := dk_180 0 159 (dk_at dksX0_place_0 10 rfl rfl)
theorem dX0_place_13 : decode cX0_place 13 = .ok (.iload_n 1, 1) := dk_27 (dk_at dksX0_place_0 13 rfl rfl)
theorem dX0_place_14 : decode cX0_place 14 = .ok (.if_icmp .eq 9, 3) := dk_159 0 9 (dk_at dksX0_place_0 14 rfl rfl)
theorem dX0_place_17 : decode cX0_place 17 = .ok (.iinc 2 1, 3) := dk_132 2 1 (dk_at dksX0_place_0 17 rfl rfl)
theorem dX0_place_20 : decode cX0_place 20 = .ok (.goto (-18), 3) := dk_167 255 238 (dk_at dksX0_place_0 20 rfl rfl)
theorem dX0_place_23 : decode cX0_place 23 = .ok (.iload_n 2, 1) := dk_28 (dk_at dksX0_place_0 23 rfl rfl)
theorem dX0_place_24 : decode cX0_place 24 = .ok (.ireturn, 1) := dk_172 (dk_at dksX0_place_1 0 rfl rfl)
abbrev cX0_isDouble : ByteArray := prog_1_method_23_code
def yX0_isDouble : MethodName := ⟨RX0, "isDouble", "(LPondHouse$Kind;)Z"⟩
def dkwX0_isDouble_5 : List UInt8 := [167, 255, 143, 3, 172]
abbrev dktX0_isDouble_5 : List UInt8 := dkwX0_isDouble_5 ++ []
def dkwX0_isDouble_4 : List UInt8 := [180, 1, 30, 21, 5, 184, 1, 33, 153, 0, 5, 4, 172, 132, 4, 1, 167, 255, 218, 43, 180, 0, 36, 76]
abbrev dktX0_isDouble_4 : List UInt8 := dkwX0_isDouble_4 ++ dktX0_isDouble_5
def dkwX0_isDouble_3 : List UInt8 := [54, 4, 21, 4, 29, 162, 0, 38, 44, 21, 4, 46, 54, 5, 43, 21, 5, 182, 1, 27, 154, 0, 15, 43]
abbrev dktX0_isDouble_3 : List UInt8 := dkwX0_isDouble_3 ++ dktX0_isDouble_4
def dkwX0_isDouble_2 : List UInt8 := [184, 1, 33, 153, 0, 5, 4, 172, 132, 4, 1, 167, 255, 218, 42, 180, 1, 30, 77, 44, 190, 62, 3]
abbrev dktX0_isDouble_2 : List UInt8 := dkwX0_isDouble_2 ++ dktX0_isDouble_3
def dkwX0_isDouble_1 : List UInt8 := [162, 0, 38, 44, 21, 4, 46, 54, 5, 43, 21, 5, 182, 1, 27, 154, 0, 15, 43, 180, 1, 30, 21, 5]
abbrev dktX0_isDouble_1 : List UInt8 := dkwX0_isDouble_1 ++ dktX0_isDouble_2
def dkwX0_isDouble_0 : List UInt8 := [42, 180, 0, 36, 76, 43, 198, 0, 115, 42, 180, 1, 24, 77, 44, 190, 62, 3, 54, 4, 21, 4, 29]
abbrev dktX0_isDouble_0 : List UInt8 := dkwX0_isDouble_0 ++ dktX0_isDouble_1
theorem dksX0_isDouble_0 : cX0_isDouble.data.toList.drop 0 = dktX0_isDouble_0 := by decide +kernel
theorem dksX0_isDouble_1 : cX0_isDouble.data.toList.drop 23 = dktX0_isDouble_1 := dk_seg dksX0_isDouble_0 23 rfl rfl
theorem dksX0_isDouble_2 : cX0_isDouble.data.toList.drop 47 = dktX0_isDouble_2 := dk_seg dksX0_isDouble_1 24 rfl rfl
theorem dksX0_isDouble_3 : cX0_isDouble.data.toList.drop 70 = dktX0_isDouble_3 := dk_seg dksX0_isDouble_2 23 rfl rfl
theorem dksX0_isDouble_4 : cX0_isDouble.data.toList.drop 94 = dktX0_isDouble_4 := dk_seg dksX0_isDouble_3 24 rfl rfl
theorem dksX0_isDouble_5 : cX0_isDouble.data.toList.drop 118 = dktX0_isDouble_5 := dk_seg dksX0_isDouble_4 24 rfl rfl
theorem dX0_isDouble_0 : decode cX0_isDouble 0 = .ok (.aload_n 0, 1) := dk_42 (dk_at dksX0_isDouble_0 0 rfl rfl)
theorem dX0_isDouble_1 : decode cX0_isDouble 1 = .ok (.getfield 36, 3) := dk_180 0 36 (dk_at dksX0_isDouble_0 1 rfl rfl)
theorem dX0_isDouble_4 : decode cX0_isDouble 4 = .ok (.astore_n 1, 1) := dk_76 (dk_at dksX0_isDouble_0 4 rfl rfl)
theorem dX0_isDouble_5 : decode cX0_isDouble 5 = .ok (.aload_n 1, 1) := dk_43 (dk_at dksX0_isDouble_0 5 rfl rfl)
theorem dX0_isDouble_6 : decode cX0_isDouble 6 = .ok (.ifnull 115, 3) := dk_198 0 115 (dk_at dksX0_isDouble_0 6 rfl rfl)
theorem dX0_isDouble_9 : decode cX0_isDouble 9 = .ok (.aload_n 0, 1) := dk_42 (dk_at dksX0_isDouble_0 9 rfl rfl)
theorem dX0_isDouble_10 : decode cX0_isDouble 10 = .ok (.getfield 280, 3) := dk_180 1 24 (dk_at dksX0_isDouble_0 10 rfl rfl)
theorem dX0_isDouble_13 : decode cX0_isDouble 13 = .ok (.astore_n 2, 1) := dk_77 (dk_at dksX0_isDouble_0 13 rfl rfl)
theorem dX0_isDouble_14 : decode cX0_isDouble 14 = .ok (.aload_n 2, 1) := dk_44 (dk_at dksX0_isDouble_0 14 rfl rfl)
theorem dX0_isDouble_15 : decode cX0_isDouble 15 = .ok (.arraylength, 1) := dk_190 (dk_at dksX0_isDouble_0 15 rfl rfl)
theorem dX0_isDouble_16 : decode cX0_isDouble 16 = .ok (.istore_n 3, 1) := dk_62 (dk_at dksX0_isDouble_0 16 rfl rfl)
theorem dX0_isDouble_17 : decode cX0_isDouble 17 = .ok (.iconst 0, 1) := dk_3 (dk_at dksX0_isDouble_0 17 rfl rfl)
theorem dX0_isDouble_18 : decode cX0_isDouble 18 = .ok (.istore 4, 2) := dk_54 4 (dk_at dksX0_isDouble_0 18 rfl rfl)
theorem dX0_isDouble_20 : decode cX0_isDouble 20 = .ok (.iload 4, 2) := dk_21 4 (dk_at dksX0_isDouble_0 20 rfl rfl)
theorem dX0_isDouble_22 : decode cX0_isDouble 22 = .ok (.iload_n 3, 1) := dk_29 (dk_at dksX0_isDouble_0 22 rfl rfl)
theorem dX0_isDouble_23 : decode cX0_isDouble 23 = .ok (.if_icmp .ge 38, 3) := dk_162 0 38 (dk_at dksX0_isDouble_1 0 rfl rfl)
theorem dX0_isDouble_26 : decode cX0_isDouble 26 = .ok (.aload_n 2, 1) := dk_44 (dk_at dksX0_isDouble_1 3 rfl rfl)
theorem dX0_isDouble_27 : decode cX0_isDouble 27 = .ok (.iload 4, 2) := dk_21 4 (dk_at dksX0_isDouble_1 4 rfl rfl)
theorem dX0_isDouble_29 : decode cX0_isDouble 29 = .ok (.iaload, 1) := dk_46 (dk_at dksX0_isDouble_1 6 rfl rfl)
theorem dX0_isDouble_30 : decode cX0_isDouble 30 = .ok (.istore 5, 2) := dk_54 5 (dk_at dksX0_isDouble_1 7 rfl rfl)
theorem dX0_isDouble_32 : decode cX0_isDouble 32 = .ok (.aload_n 1, 1) := dk_43 (dk_at dksX0_isDouble_1 9 rfl rfl)
theorem dX0_isDouble_33 : decode cX0_isDouble 33 = .ok (.iload 5, 2) := dk_21 5 (dk_at dksX0_isDouble_1 10 rfl rfl)
theorem dX0_isDouble_35 : decode cX0_isDouble 35 = .ok (.invokevirtual 283, 3) := dk_182 1 27 (dk_at dksX0_isDouble_1 12 rfl rfl)
theorem dX0_isDouble_38 : decode cX0_isDouble 38 = .ok (.ifCond .ne 15, 3) := dk_154 0 15 (dk_at dksX0_isDouble_1 15 rfl rfl)
theorem dX0_isDouble_41 : decode cX0_isDouble 41 = .ok (.aload_n 1, 1) := dk_43 (dk_at dksX0_isDouble_1 18 rfl rfl)
theorem dX0_isDouble_42 : decode cX0_isDouble 42 = .ok (.getfield 286, 3) := dk_180 1 30 (dk_at dksX0_isDouble_1 19 rfl rfl)
theorem dX0_isDouble_45 : decode cX0_isDouble 45 = .ok (.iload 5, 2) := dk_21 5 (dk_at dksX0_isDouble_1 22 rfl rfl)
theorem dX0_isDouble_47 : decode cX0_isDouble 47 = .ok (.invokestatic 289, 3) := dk_184 1 33 (dk_at dksX0_isDouble_2 0 rfl rfl)
theorem dX0_isDouble_50 : decode cX0_isDouble 50 = .ok (.ifCond .eq 5, 3) := dk_153 0 5 (dk_at dksX0_isDouble_2 3 rfl rfl)
theorem dX0_isDouble_53 : decode cX0_isDouble 53 = .ok (.iconst 1, 1) := dk_4 (dk_at dksX0_isDouble_2 6 rfl rfl)
theorem dX0_isDouble_54 : decode cX0_isDouble 54 = .ok (.ireturn, 1) := dk_172 (dk_at dksX0_isDouble_2 7 rfl rfl)
theorem dX0_isDouble_55 : decode cX0_isDouble 55 = .ok (.iinc 4 1, 3) := dk_132 4 1 (dk_at dksX0_isDouble_2 8 rfl rfl)
theorem dX0_isDouble_58 : decode cX0_isDouble 58 = .ok (.goto (-38), 3) := dk_167 255 218 (dk_at dksX0_isDouble_2 11 rfl rfl)
theorem dX0_isDouble_61 : decode cX0_isDouble 61 = .ok (.aload_n 0, 1) := dk_42 (dk_at dksX0_isDouble_2 14 rfl rfl)
theorem dX0_isDouble_62 : decode cX0_isDouble 62 = .ok (.getfield 286, 3) := dk_180 1 30 (dk_at dksX0_isDouble_2 15 rfl rfl)
theorem dX0_isDouble_65 : decode cX0_isDouble 65 = .ok (.astore_n 2, 1) := dk_77 (dk_at dksX0_isDouble_2 18 rfl rfl)
theorem dX0_isDouble_66 : decode cX0_isDouble 66 = .ok (.aload_n 2, 1) := dk_44 (dk_at dksX0_isDouble_2 19 rfl rfl)
theorem dX0_isDouble_67 : decode cX0_isDouble 67 = .ok (.arraylength, 1) := dk_190 (dk_at dksX0_isDouble_2 20 rfl rfl)
theorem dX0_isDouble_68 : decode cX0_isDouble 68 = .ok (.istore_n 3, 1) := dk_62 (dk_at dksX0_isDouble_2 21 rfl rfl)
theorem dX0_isDouble_69 : decode cX0_isDouble 69 = .ok (.iconst 0, 1) := dk_3 (dk_at dksX0_isDouble_2 22 rfl rfl)
theorem dX0_isDouble_70 : decode cX0_isDouble 70 = .ok (.istore 4, 2) := dk_54 4 (dk_at dksX0_isDouble_3 0 rfl rfl)
theorem dX0_isDouble_72 : decode cX0_isDouble 72 = .ok (.iload 4, 2) := dk_21 4 (dk_at dksX0_isDouble_3 2 rfl rfl)
theorem dX0_isDouble_74 : decode cX0_isDouble 74 = .ok (.iload_n 3, 1) := dk_29 (dk_at dksX0_isDouble_3 4 rfl rfl)
theorem dX0_isDouble_75 : decode cX0_isDouble 75 = .ok (.if_icmp .ge 38, 3) := dk_162 0 38 (dk_at dksX0_isDouble_3 5 rfl rfl)
theorem dX0_isDouble_78 : decode cX0_isDouble 78 = .ok (.aload_n 2, 1) := dk_44 (dk_at dksX0_isDouble_3 8 rfl rfl)
theorem dX0_isDouble_79 : decode cX0_isDouble 79 = .ok (.iload 4, 2) := dk_21 4 (dk_at dksX0_isDouble_3 9 rfl rfl)
theorem dX0_isDouble_81 : decode cX0_isDouble 81 = .ok (.iaload, 1) := dk_46 (dk_at dksX0_isDouble_3 11 rfl rfl)
theorem dX0_isDouble_82 : decode cX0_isDouble 82 = .ok (.istore 5, 2) := dk_54 5 (dk_at dksX0_isDouble_3 12 rfl rfl)
theorem dX0_isDouble_84 : decode cX0_isDouble 84 = .ok (.aload_n 1, 1) := dk_43 (dk_at dksX0_isDouble_3 14 rfl rfl)
theorem dX0_isDouble_85 : decode cX0_isDouble 85 = .ok (.iload 5, 2) := dk_21 5 (dk_at dksX0_isDouble_3 15 rfl rfl)
theorem dX0_isDouble_87 : decode cX0_isDouble 87 = .ok (.invokevirtual 283, 3) := dk_182 1 27 (dk_at dksX0_isDouble_3 17 rfl rfl)
theorem dX0_isDouble_90 : decode cX0_isDouble 90 = .ok (.ifCond .ne 15, 3) := dk_154 0 15 (dk_at dksX0_isDouble_3 20 rfl rfl)
theorem dX0_isDouble_93 : decode cX0_isDouble 93 = .ok (.aload_n 1, 1) := dk_43 (dk_at dksX0_isDouble_3 23 rfl rfl)
theorem dX0_isDouble_94 : decode cX0_isDouble 94 = .ok (.getfield 286, 3) := dk_180 1 30 (dk_at dksX0_isDouble_4 0 rfl rfl)
theorem dX0_isDouble_97 : decode cX0_isDouble 97 = .ok (.iload 5, 2) := dk_21 5 (dk_at dksX0_isDouble_4 3 rfl rfl)
theorem dX0_isDouble_99 : decode cX0_isDouble 99 = .ok (.invokestatic 289, 3) := dk_184 1 33 (dk_at dksX0_isDouble_4 5 rfl rfl)
theorem dX0_isDouble_102 : decode cX0_isDouble 102 = .ok (.ifCond .eq 5, 3) := dk_153 0 5 (dk_at dksX0_isDouble_4 8 rfl rfl)
theorem dX0_isDouble_105 : decode cX0_isDouble 105 = .ok (.iconst 1, 1) := dk_4 (dk_at dksX0_isDouble_4 11 rfl rfl)
theorem dX0_isDouble_106 : decode cX0_isDouble 106 = .ok (.ireturn, 1) := dk_172 (dk_at dksX0_isDouble_4 12 rfl rfl)
theorem dX0_isDouble_107 : decode cX0_isDouble 107 = .ok (.iinc 4 1, 3) := dk_132 4 1 (dk_at dksX0_isDouble_4 13 rfl rfl)
theorem dX0_isDouble_110 : decode cX0_isDouble 110 = .ok (.goto (-38), 3) := dk_167 255 218 (dk_at dksX0_isDouble_4 16 rfl rfl)
theorem dX0_isDouble_113 : decode cX0_isDouble 113 = .ok (.aload_n 1, 1) := dk_43 (dk_at dksX0_isDouble_4 19 rfl rfl)
theorem dX0_isDouble_114 : decode cX0_isDouble 114 = .ok (.getfield 36, 3) := dk_180 0 36 (dk_at dksX0_isDouble_4 20 rfl rfl)
theorem dX0_isDouble_117 : decode cX0_isDouble 117 = .ok (.astore_n 1, 1) := dk_76 (dk_at dksX0_isDouble_4 23 rfl rfl)
theorem dX0_isDouble_118 : decode cX0_isDouble 118 = .ok (.goto (-113), 3) := dk_167 255 143 (dk_at dksX0_isDouble_5 0 rfl rfl)
theorem dX0_isDouble_121 : decode cX0_isDouble 121 = .ok (.iconst 0, 1) := dk_3 (dk_at dksX0_isDouble_5 3 rfl rfl)
theorem dX0_isDouble_122 : decode cX0_isDouble 122 = .ok (.ireturn, 1) := dk_172 (dk_at dksX0_isDouble_5 4 rfl rfl)
abbrev cX0_has_2 : ByteArray := prog_1_method_24_code
def yX0_has_2 : MethodName := ⟨RX0, "has", "([II)Z"⟩
def dkwX0_has_2_1 : List UInt8 := [160, 0, 5, 4, 172, 132, 4, 1, 167, 255, 233, 3, 172]
abbrev dktX0_has_2_1 : List UInt8 := dkwX0_has_2_1 ++ []
def dkwX0_has_2_0 : List UInt8 := [42, 77, 44, 190, 62, 3, 54, 4, 21, 4, 29, 162, 0, 23, 44, 21, 4, 46, 54, 5, 21, 5, 27]
abbrev dktX0_has_2_0 : List UInt8 := dkwX0_has_2_0 ++ dktX0_has_2_1
theorem dksX0_has_2_0 : cX0_has_2.data.toList.drop 0 = dktX0_has_2_0 := by decide +kernel
theorem dksX0_has_2_1 : cX0_has_2.data.toList.drop 23 = dktX0_has_2_1 := dk_seg dksX0_has_2_0 23 rfl rfl
theorem dX0_has_2_0 : decode cX0_has_2 0 = .ok (.aload_n 0, 1) := dk_42 (dk_at dksX0_has_2_0 0 rfl rfl)
theorem dX0_has_2_1 : decode cX0_has_2 1 = .ok (.astore_n 2, 1) := dk_77 (dk_at dksX0_has_2_0 1 rfl rfl)
theorem dX0_has_2_2 : decode cX0_has_2 2 = .ok (.aload_n 2, 1) := dk_44 (dk_at dksX0_has_2_0 2 rfl rfl)
theorem dX0_has_2_3 : decode cX0_has_2 3 = .ok (.arraylength, 1) := dk_190 (dk_at dksX0_has_2_0 3 rfl rfl)
theorem dX0_has_2_4 : decode cX0_has_2 4 = .ok (.istore_n 3, 1) := dk_62 (dk_at dksX0_has_2_0 4 rfl rfl)
theorem dX0_has_2_5 : decode cX0_has_2 5 = .ok (.iconst 0, 1) := dk_3 (dk_at dksX0_has_2_0 5 rfl rfl)
theorem dX0_has_2_6 : decode cX0_has_2 6 = .ok (.istore 4, 2) := dk_54 4 (dk_at dksX0_has_2_0 6 rfl rfl)
theorem dX0_has_2_8 : decode cX0_has_2 8 = .ok (.iload 4, 2) := dk_21 4 (dk_at dksX0_has_2_0 8 rfl rfl)
theorem dX0_has_2_10 : decode cX0_has_2 10 = .ok (.iload_n 3, 1) := dk_29 (dk_at dksX0_has_2_0 10 rfl rfl)
theorem dX0_has_2_11 : decode cX0_has_2 11 = .ok (.if_icmp .ge 23, 3) := dk_162 0 23 (dk_at dksX0_has_2_0 11 rfl rfl)
theorem dX0_has_2_14 : decode cX0_has_2 14 = .ok (.aload_n 2, 1) := dk_44 (dk_at dksX0_has_2_0 14 rfl rfl)
theorem dX0_has_2_15 : decode cX0_has_2 15 = .ok (.iload 4, 2) := dk_21 4 (dk_at dksX0_has_2_0 15 rfl rfl)
theorem dX0_has_2_17 : decode cX0_has_2 17 = .ok (.iaload, 1) := dk_46 (dk_at dksX0_has_2_0 17 rfl rfl)
theorem dX0_has_2_18 : decode cX0_has_2 18 = .ok (.istore 5, 2) := dk_54 5 (dk_at dksX0_has_2_0 18 rfl rfl)
theorem dX0_has_2_20 : decode cX0_has_2 20 = .ok (.iload 5, 2) := dk_21 5 (dk_at dksX0_has_2_0 20 rfl rfl)
theorem dX0_has_2_22 : decode cX0_has_2 22 = .ok (.iload_n 1, 1) := dk_27 (dk_at dksX0_has_2_0 22 rfl rfl)
theorem dX0_has_2_23 : decode cX0_has_2 23 = .ok (.if_icmp .ne 5, 3) := dk_160 0 5 (dk_at dksX0_has_2_1 0 rfl rfl)
theorem dX0_has_2_26 : decode cX0_has_2 26 = .ok (.iconst 1, 1) := dk_4 (dk_at dksX0_has_2_1 3 rfl rfl)
theorem dX0_has_2_27 : decode cX0_has_2 27 = .ok (.ireturn, 1) := dk_172 (dk_at dksX0_has_2_1 4 rfl rfl)
theorem dX0_has_2_28 : decode cX0_has_2 28 = .ok (.iinc 4 1, 3) := dk_132 4 1 (dk_at dksX0_has_2_1 5 rfl rfl)
theorem dX0_has_2_31 : decode cX0_has_2 31 = .ok (.goto (-23), 3) := dk_167 255 233 (dk_at dksX0_has_2_1 8 rfl rfl)
theorem dX0_has_2_34 : decode cX0_has_2 34 = .ok (.iconst 0, 1) := dk_3 (dk_at dksX0_has_2_1 11 rfl rfl)
theorem dX0_has_2_35 : decode cX0_has_2 35 = .ok (.ireturn, 1) := dk_172 (dk_at dksX0_has_2_1 12 rfl rfl)
abbrev cX0_carries : ByteArray := prog_1_method_26_code
def yX0_carries : MethodName := ⟨RX0, "carries", "(LPondHouse$Patch;[LPondHouse$Kind;)V"⟩
def dkwX0_carries_10 : List UInt8 := [167, 255, 132, 42, 180, 1, 49, 29, 25, 6, 83, 132, 3, 1, 167, 255, 10, 177]
abbrev dktX0_carries_10 : List UInt8 := dkwX0_carries_10 ++ []
def dkwX0_carries_9 : List UInt8 := [25, 4, 180, 1, 53, 21, 9, 46, 167, 0, 12, 44, 21, 5, 50, 21, 7, 182, 1, 71, 79, 132, 7, 1]
abbrev dktX0_carries_9 : List UInt8 := dkwX0_carries_9 ++ dktX0_carries_10
def dkwX0_carries_8 : List UInt8 := [21, 7, 182, 0, 194, 182, 1, 42, 25, 4, 21, 8, 182, 1, 67, 167, 0, 29, 21, 9, 2, 159, 0, 14]
abbrev dktX0_carries_8 : List UInt8 := dkwX0_carries_8 ++ dktX0_carries_9
def dkwX0_carries_7 : List UInt8 := [21, 8, 2, 159, 0, 38, 42, 43, 180, 0, 224, 21, 8, 182, 0, 153, 192, 1, 36, 44, 21, 5, 50]
abbrev dktX0_carries_7 : List UInt8 := dkwX0_carries_7 ++ dktX0_carries_8
def dkwX0_carries_6 : List UInt8 := [21, 5, 50, 21, 7, 25, 4, 180, 0, 47, 44, 42, 180, 0, 213, 184, 1, 63, 54, 9, 25, 6, 21, 7]
abbrev dktX0_carries_6 : List UInt8 := dkwX0_carries_6 ++ dktX0_carries_7
def dkwX0_carries_5 : List UInt8 := [162, 0, 122, 42, 43, 44, 21, 5, 50, 44, 21, 5, 50, 21, 7, 182, 0, 194, 182, 1, 59, 54, 8, 44]
abbrev dktX0_carries_5 : List UInt8 := dkwX0_carries_5 ++ dktX0_carries_6
def dkwX0_carries_4 : List UInt8 := [167, 0, 152, 44, 21, 5, 50, 182, 1, 56, 188, 10, 58, 6, 3, 54, 7, 21, 7, 25, 6, 190]
abbrev dktX0_carries_4 : List UInt8 := dkwX0_carries_4 ++ dktX0_carries_5
def dkwX0_carries_3 : List UInt8 := [25, 4, 180, 1, 53, 83, 21, 5, 2, 159, 0, 167, 44, 21, 5, 50, 25, 4, 180, 0, 47, 166, 0, 6]
abbrev dktX0_carries_3 : List UInt8 := dkwX0_carries_3 ++ dktX0_carries_4
def dkwX0_carries_2 : List UInt8 := [180, 1, 46, 29, 21, 5, 2, 160, 0, 7, 1, 167, 0, 7, 44, 21, 5, 50, 83, 42, 180, 1, 49, 29]
abbrev dktX0_carries_2 : List UInt8 := dkwX0_carries_2 ++ dktX0_carries_3
def dkwX0_carries_1 : List UInt8 := [199, 0, 7, 2, 167, 0, 15, 44, 25, 4, 180, 0, 47, 180, 0, 17, 184, 0, 180, 54, 5, 42]
abbrev dktX0_carries_1 : List UInt8 := dkwX0_carries_1 ++ dktX0_carries_2
def dkwX0_carries_0 : List UInt8 := [3, 62, 29, 42, 180, 0, 40, 162, 0, 244, 42, 180, 0, 43, 29, 50, 58, 4, 25, 4, 180, 0, 47]
abbrev dktX0_carries_0 : List UInt8 := dkwX0_carries_0 ++ dktX0_carries_1
theorem dksX0_carries_0 : cX0_carries.data.toList.drop 0 = dktX0_carries_0 := by decide +kernel
theorem dksX0_carries_1 : cX0_carries.data.toList.drop 23 = dktX0_carries_1 := dk_seg dksX0_carries_0 23 rfl rfl
theorem dksX0_carries_2 : cX0_carries.data.toList.drop 45 = dktX0_carries_2 := dk_seg dksX0_carries_1 22 rfl rfl
theorem dksX0_carries_3 : cX0_carries.data.toList.drop 69 = dktX0_carries_3 := dk_seg dksX0_carries_2 24 rfl rfl
theorem dksX0_carries_4 : cX0_carries.data.toList.drop 93 = dktX0_carries_4 := dk_seg dksX0_carries_3 24 rfl rfl
theorem dksX0_carries_5 : cX0_carries.data.toList.drop 115 = dktX0_carries_5 := dk_seg dksX0_carries_4 22 rfl rfl
theorem dksX0_carries_6 : cX0_carries.data.toList.drop 139 = dktX0_carries_6 := dk_seg dksX0_carries_5 24 rfl rfl
theorem dksX0_carries_7 : cX0_carries.data.toList.drop 163 = dktX0_carries_7 := dk_seg dksX0_carries_6 24 rfl rfl
theorem dksX0_carries_8 : cX0_carries.data.toList.drop 186 = dktX0_carries_8 := dk_seg dksX0_carries_7 23 rfl rfl
theorem dksX0_carries_9 : cX0_carries.data.toList.drop 210 = dktX0_carries_9 := dk_seg dksX0_carries_8 24 rfl rfl
theorem dksX0_carries_10 : cX0_carries.data.toList.drop 234 = dktX0_carries_10 := dk_seg dksX0_carries_9 24 rfl rfl
theorem dX0_carries_0 : decode cX0_carries 0 = .ok (.iconst 0, 1) := dk_3 (dk_at dksX0_carries_0 0 rfl rfl)
theorem dX0_carries_1 : decode cX0_carries 1 = .ok (.istore_n 3, 1) := dk_62 (dk_at dksX0_carries_0 1 rfl rfl)
theorem dX0_carries_2 : decode cX0_carries 2 = .ok (.iload_n 3, 1) := dk_29 (dk_at dksX0_carries_0 2 rfl rfl)
theorem dX0_carries_3 : decode cX0_carries 3 = .ok (.aload_n 0, 1) := dk_42 (dk_at dksX0_carries_0 3 rfl rfl)
theorem dX0_carries_4 : decode cX0_carries 4 = .ok (.getfield 40, 3) := dk_180 0 40 (dk_at dksX0_carries_0 4 rfl rfl)
theorem dX0_carries_7 : decode cX0_carries 7 = .ok (.if_icmp .ge 244, 3) := dk_162 0 244 (dk_at dksX0_carries_0 7 rfl rfl)
theorem dX0_carries_10 : decode cX0_carries 10 = .ok (.aload_n 0, 1) := dk_42 (dk_at dksX0_carries_0 10 rfl rfl)
theorem dX0_carries_11 : decode cX0_carries 11 = .ok (.getfield 43, 3) := dk_180 0 43 (dk_at dksX0_carries_0 11 rfl rfl)
theorem dX0_carries_14 : decode cX0_carries 14 = .ok (.iload_n 3, 1) := dk_29 (dk_at dksX0_carries_0 14 rfl rfl)
theorem dX0_carries_15 : decode cX0_carries 15 = .ok (.aaload, 1) := dk_50 (dk_at dksX0_carries_0 15 rfl rfl)
theorem dX0_carries_16 : decode cX0_carries 16 = .ok (.astore 4, 2) := dk_58 4 (dk_at dksX0_carries_0 16 rfl rfl)
theorem dX0_carries_18 : decode cX0_carries 18 = .ok (.aload 4, 2) := dk_25 4 (dk_at dksX0_carries_0 18 rfl rfl)
theorem dX0_carries_20 : decode cX0_carries 20 = .ok (.getfield 47, 3) := dk_180 0 47 (dk_at dksX0_carries_0 20 rfl rfl)
theorem dX0_carries_23 : decode cX0_carries 23 = .ok (.ifnonnull 7, 3) := dk_199 0 7 (dk_at dksX0_carries_1 0 rfl rfl)
theorem dX0_carries_26 : decode cX0_carries 26 = .ok (.iconst (-1), 1) := dk_2 (dk_at dksX0_carries_1 3 rfl rfl)
theorem dX0_carries_27 : decode cX0_carries 27 = .ok (.goto 15, 3) := dk_167 0 15 (dk_at dksX0_carries_1 4 rfl rfl)
theorem dX0_carries_30 : decode cX0_carries 30 = .ok (.aload_n 2, 1) := dk_44 (dk_at dksX0_carries_1 7 rfl rfl)
theorem dX0_carries_31 : decode cX0_carries 31 = .ok (.aload 4, 2) := dk_25 4 (dk_at dksX0_carries_1 8 rfl rfl)
theorem dX0_carries_33 : decode cX0_carries 33 = .ok (.getfield 47, 3) := dk_180 0 47 (dk_at dksX0_carries_1 10 rfl rfl)
theorem dX0_carries_36 : decode cX0_carries 36 = .ok (.getfield 17, 3) := dk_180 0 17 (dk_at dksX0_carries_1 13 rfl rfl)
theorem dX0_carries_39 : decode cX0_carries 39 = .ok (.invokestatic 180, 3) := dk_184 0 180 (dk_at dksX0_carries_1 16 rfl rfl)
theorem dX0_carries_42 : decode cX0_carries 42 = .ok (.istore 5, 2) := dk_54 5 (dk_at dksX0_carries_1 19 rfl rfl)
theorem dX0_carries_44 : decode cX0_carries 44 = .ok (.aload_n 0, 1) := dk_42 (dk_at dksX0_carries_1 21 rfl rfl)
theorem dX0_carries_45 : decode cX0_carries 45 = .ok (.getfield 302, 3) := dk_180 1 46 (dk_at dksX0_carries_2 0 rfl rfl)
theorem dX0_carries_48 : decode cX0_carries 48 = .ok (.iload_n 3, 1) := dk_29 (dk_at dksX0_carries_2 3 rfl rfl)
theorem dX0_carries_49 : decode cX0_carries 49 = .ok (.iload 5, 2) := dk_21 5 (dk_at dksX0_carries_2 4 rfl rfl)
theorem dX0_carries_51 : decode cX0_carries 51 = .ok (.iconst (-1), 1) := dk_2 (dk_at dksX0_carries_2 6 rfl rfl)
theorem dX0_carries_52 : decode cX0_carries 52 = .ok (.if_icmp .ne 7, 3) := dk_160 0 7 (dk_at dksX0_carries_2 7 rfl rfl)
theorem dX0_carries_55 : decode cX0_carries 55 = .ok (.aconst_null, 1) := dk_1 (dk_at dksX0_carries_2 10 rfl rfl)
theorem dX0_carries_56 : decode cX0_carries 56 = .ok (.goto 7, 3) := dk_167 0 7 (dk_at dksX0_carries_2 11 rfl rfl)
theorem dX0_carries_59 : decode cX0_carries 59 = .ok (.aload_n 2, 1) := dk_44 (dk_at dksX0_carries_2 14 rfl rfl)
theorem dX0_carries_60 : decode cX0_carries 60 = .ok (.iload 5, 2) := dk_21 5 (dk_at dksX0_carries_2 15 rfl rfl)
theorem dX0_carries_62 : decode cX0_carries 62 = .ok (.aaload, 1) := dk_50 (dk_at dksX0_carries_2 17 rfl rfl)
theorem dX0_carries_63 : decode cX0_carries 63 = .ok (.aastore, 1) := dk_83 (dk_at dksX0_carries_2 18 rfl rfl)
theorem dX0_carries_64 : decode cX0_carries 64 = .ok (.aload_n 0, 1) := dk_42 (dk_at dksX0_carries_2 19 rfl rfl)
theorem dX0_carries_65 : decode cX0_carries 65 = .ok (.getfield 305, 3) := dk_180 1 49 (dk_at dksX0_carries_2 20 rfl rfl)
theorem dX0_carries_68 : decode cX0_carries 68 = .ok (.iload_n 3, 1) := dk_29 (dk_at dksX0_carries_2 23 rfl rfl)
theorem dX0_carries_69 : decode cX0_carries 69 = .ok (.aload 4, 2) := dk_25 4 (dk_at dksX0_carries_3 0 rfl rfl)
theorem dX0_carries_71 : decode cX0_carries 71 = .ok (.getfield 309, 3) := dk_180 1 53 (dk_at dksX0_carries_3 2 rfl rfl)
theorem dX0_carries_74 : decode cX0_carries 74 = .ok (.aastore, 1) := dk_83 (dk_at dksX0_carries_3 5 rfl rfl)
theorem dX0_carries_75 : decode cX0_carries 75 = .ok (.iload 5, 2) := dk_21 5 (dk_at dksX0_carries_3 6 rfl rfl)
theorem dX0_carries_77 : decode cX0_carries 77 = .ok (.iconst (-1), 1) := dk_2 (dk_at dksX0_carries_3 8 rfl rfl)
theorem dX0_carries_78 : decode cX0_carries 78 = .ok (.if_icmp .eq 167, 3) := dk_159 0 167 (dk_at dksX0_carries_3 9 rfl rfl)
theorem dX0_carries_81 : decode cX0_carries 81 = .ok (.aload_n 2, 1) := dk_44 (dk_at dksX0_carries_3 12 rfl rfl)
theorem dX0_carries_82 : decode cX0_carries 82 = .ok (.iload 5, 2) := dk_21 5 (dk_at dksX0_carries_3 13 rfl rfl)
theorem dX0_carries_84 : decode cX0_carries 84 = .ok (.aaload, 1) := dk_50 (dk_at dksX0_carries_3 15 rfl rfl)
theorem dX0_carries_85 : decode cX0_carries 85 = .ok (.aload 4, 2) := dk_25 4 (dk_at dksX0_carries_3 16 rfl rfl)
theorem dX0_carries_87 : decode cX0_carries 87 = .ok (.getfield 47, 3) := dk_180 0 47 (dk_at dksX0_carries_3 18 rfl rfl)
theorem dX0_carries_90 : decode cX0_carries 90 = .ok (.if_acmp .ne 6, 3) := dk_166 0 6 (dk_at dksX0_carries_3 21 rfl rfl)
theorem dX0_carries_93 : decode cX0_carries 93 = .ok (.goto 152, 3) := dk_167 0 152 (dk_at dksX0_carries_4 0 rfl rfl)
theorem dX0_carries_96 : decode cX0_carries 96 = .ok (.aload_n 2, 1) := dk_44 (dk_at dksX0_carries_4 3 rfl rfl)
theorem dX0_carries_97 : decode cX0_carries 97 = .ok (.iload 5, 2) := dk_21 5 (dk_at dksX0_carries_4 4 rfl rfl)
theorem dX0_carries_99 : decode cX0_carries 99 = .ok (.aaload, 1) := dk_50 (dk_at dksX0_carries_4 6 rfl rfl)
theorem dX0_carries_100 : decode cX0_carries 100 = .ok (.invokevirtual 312, 3) := dk_182 1 56 (dk_at dksX0_carries_4 7 rfl rfl)
theorem dX0_carries_103 : decode cX0_carries 103 = .ok (.newarray .int, 2) := dk_188_10 (dk_at dksX0_carries_4 10 rfl rfl)
theorem dX0_carries_105 : decode cX0_carries 105 = .ok (.astore 6, 2) := dk_58 6 (dk_at dksX0_carries_4 12 rfl rfl)
theorem dX0_carries_107 : decode cX0_carries 107 = .ok (.iconst 0, 1) := dk_3 (dk_at dksX0_carries_4 14 rfl rfl)
theorem dX0_carries_108 : decode cX0_carries 108 = .ok (.istore 7, 2) := dk_54 7 (dk_at dksX0_carries_4 15 rfl rfl)
theorem dX0_carries_110 : decode cX0_carries 110 = .ok (.iload 7, 2) := dk_21 7 (dk_at dksX0_carries_4 17 rfl rfl)
theorem dX0_carries_112 : decode cX0_carries 112 = .ok (.aload 6, 2) := dk_25 6 (dk_at dksX0_carries_4 19 rfl rfl)
theorem dX0_carries_114 : decode cX0_carries 114 = .ok (.arraylength, 1) := dk_190 (dk_at dksX0_carries_4 21 rfl rfl)
theorem dX0_carries_115 : decode cX0_carries 115 = .ok (.if_icmp .ge 122, 3) := dk_162 0 122 (dk_at dksX0_carries_5 0 rfl rfl)
theorem dX0_carries_118 : decode cX0_carries 118 = .ok (.aload_n 0, 1) := dk_42 (dk_at dksX0_carries_5 3 rfl rfl)
theorem dX0_carries_119 : decode cX0_carries 119 = .ok (.aload_n 1, 1) := dk_43 (dk_at dksX0_carries_5 4 rfl rfl)
theorem dX0_carries_120 : decode cX0_carries 120 = .ok (.aload_n 2, 1) := dk_44 (dk_at dksX0_carries_5 5 rfl rfl)
theorem dX0_carries_121 : decode cX0_carries 121 = .ok (.iload 5, 2) := dk_21 5 (dk_at dksX0_carries_5 6 rfl rfl)
theorem dX0_carries_123 : decode cX0_carries 123 = .ok (.aaload, 1) := dk_50 (dk_at dksX0_carries_5 8 rfl rfl)
theorem dX0_carries_124 : decode cX0_carries 124 = .ok (.aload_n 2, 1) := dk_44 (dk_at dksX0_carries_5 9 rfl rfl)
theorem dX0_carries_125 : decode cX0_carries 125 = .ok (.iload 5, 2) := dk_21 5 (dk_at dksX0_carries_5 10 rfl rfl)
theorem dX0_carries_127 : decode cX0_carries 127 = .ok (.aaload, 1) := dk_50 (dk_at dksX0_carries_5 12 rfl rfl)
theorem dX0_carries_128 : decode cX0_carries 128 = .ok (.iload 7, 2) := dk_21 7 (dk_at dksX0_carries_5 13 rfl rfl)
theorem dX0_carries_130 : decode cX0_carries 130 = .ok (.invokevirtual 194, 3) := dk_182 0 194 (dk_at dksX0_carries_5 15 rfl rfl)
theorem dX0_carries_133 : decode cX0_carries 133 = .ok (.invokevirtual 315, 3) := dk_182 1 59 (dk_at dksX0_carries_5 18 rfl rfl)
theorem dX0_carries_136 : decode cX0_carries 136 = .ok (.istore 8, 2) := dk_54 8 (dk_at dksX0_carries_5 21 rfl rfl)
theorem dX0_carries_138 : decode cX0_carries 138 = .ok (.aload_n 2, 1) := dk_44 (dk_at dksX0_carries_5 23 rfl rfl)
theorem dX0_carries_139 : decode cX0_carries 139 = .ok (.iload 5, 2) := dk_21 5 (dk_at dksX0_carries_6 0 rfl rfl)
theorem dX0_carries_141 : decode cX0_carries 141 = .ok (.aaload, 1) := dk_50 (dk_at dksX0_carries_6 2 rfl rfl)
theorem dX0_carries_142 : decode cX0_carries 142 = .ok (.iload 7, 2) := dk_21 7 (dk_at dksX0_carries_6 3 rfl rfl)
theorem dX0_carries_144 : decode cX0_carries 144 = .ok (.aload 4, 2) := dk_25 4 (dk_at dksX0_carries_6 5 rfl rfl)
theorem dX0_carries_146 : decode cX0_carries 146 = .ok (.getfield 47, 3) := dk_180 0 47 (dk_at dksX0_carries_6 7 rfl rfl)
theorem dX0_carries_149 : decode cX0_carries 149 = .ok (.aload_n 2, 1) := dk_44 (dk_at dksX0_carries_6 10 rfl rfl)
theorem dX0_carries_150 : decode cX0_carries 150 = .ok (.aload_n 0, 1) := dk_42 (dk_at dksX0_carries_6 11 rfl rfl)
theorem dX0_carries_151 : decode cX0_carries 151 = .ok (.getfield 213, 3) := dk_180 0 213 (dk_at dksX0_carries_6 12 rfl rfl)
theorem dX0_carries_154 : decode cX0_carries 154 = .ok (.invokestatic 319, 3) := dk_184 1 63 (dk_at dksX0_carries_6 15 rfl rfl)
theorem dX0_carries_157 : decode cX0_carries 157 = .ok (.istore 9, 2) := dk_54 9 (dk_at dksX0_carries_6 18 rfl rfl)
theorem dX0_carries_159 : decode cX0_carries 159 = .ok (.aload 6, 2) := dk_25 6 (dk_at dksX0_carries_6 20 rfl rfl)
theorem dX0_carries_161 : decode cX0_carries 161 = .ok (.iload 7, 2) := dk_21 7 (dk_at dksX0_carries_6 22 rfl rfl)
theorem dX0_carries_163 : decode cX0_carries 163 = .ok (.iload 8, 2) := dk_21 8 (dk_at dksX0_carries_7 0 rfl rfl)
theorem dX0_carries_165 : decode cX0_carries 165 = .ok (.iconst (-1), 1) := dk_2 (dk_at dksX0_carries_7 2 rfl rfl)
theorem dX0_carries_166 : decode cX0_carries 166 = .ok (.if_icmp .eq 38, 3) := dk_159 0 38 (dk_at dksX0_carries_7 3 rfl rfl)
theorem dX0_carries_169 : decode cX0_carries 169 = .ok (.aload_n 0, 1) := dk_42 (dk_at dksX0_carries_7 6 rfl rfl)
theorem dX0_carries_170 : decode cX0_carries 170 = .ok (.aload_n 1, 1) := dk_43 (dk_at dksX0_carries_7 7 rfl rfl)
theorem dX0_carries_171 : decode cX0_carries 171 = .ok (.getfield 224, 3) := dk_180 0 224 (dk_at dksX0_carries_7 8 rfl rfl)
theorem dX0_carries_174 : decode cX0_carries 174 = .ok (.iload 8, 2) := dk_21 8 (dk_at dksX0_carries_7 11 rfl rfl)
theorem dX0_carries_176 : decode cX0_carries 176 = .ok (.invokevirtual 153, 3) := dk_182 0 153 (dk_at dksX0_carries_7 13 rfl rfl)
theorem dX0_carries_179 : decode cX0_carries 179 = .ok (.checkcast 292, 3) := dk_192 1 36 (dk_at dksX0_carries_7 16 rfl rfl)
theorem dX0_carries_182 : decode cX0_carries 182 = .ok (.aload_n 2, 1) := dk_44 (dk_at dksX0_carries_7 19 rfl rfl)
theorem dX0_carries_183 : decode cX0_carries 183 = .ok (.iload 5, 2) := dk_21 5 (dk_at dksX0_carries_7 20 rfl rfl)
theorem dX0_carries_185 : decode cX0_carries 185 = .ok (.aaload, 1) := dk_50 (dk_at dksX0_carries_7 22 rfl rfl)
theorem dX0_carries_186 : decode cX0_carries 186 = .ok (.iload 7, 2) := dk_21 7 (dk_at dksX0_carries_8 0 rfl rfl)
theorem dX0_carries_188 : decode cX0_carries 188 = .ok (.invokevirtual 194, 3) := dk_182 0 194 (dk_at dksX0_carries_8 2 rfl rfl)
theorem dX0_carries_191 : decode cX0_carries 191 = .ok (.invokevirtual 298, 3) := dk_182 1 42 (dk_at dksX0_carries_8 5 rfl rfl)
theorem dX0_carries_194 : decode cX0_carries 194 = .ok (.aload 4, 2) := dk_25 4 (dk_at dksX0_carries_8 8 rfl rfl)
theorem dX0_carries_196 : decode cX0_carries 196 = .ok (.iload 8, 2) := dk_21 8 (dk_at dksX0_carries_8 10 rfl rfl)
theorem dX0_carries_198 : decode cX0_carries 198 = .ok (.invokevirtual 323, 3) := dk_182 1 67 (dk_at dksX0_carries_8 12 rfl rfl)
theorem dX0_carries_201 : decode cX0_carries 201 = .ok (.goto 29, 3) := dk_167 0 29 (dk_at dksX0_carries_8 15 rfl rfl)
theorem dX0_carries_204 : decode cX0_carries 204 = .ok (.iload 9, 2) := dk_21 9 (dk_at dksX0_carries_8 18 rfl rfl)
theorem dX0_carries_206 : decode cX0_carries 206 = .ok (.iconst (-1), 1) := dk_2 (dk_at dksX0_carries_8 20 rfl rfl)
theorem dX0_carries_207 : decode cX0_carries 207 = .ok (.if_icmp .eq 14, 3) := dk_159 0 14 (dk_at dksX0_carries_8 21 rfl rfl)
theorem dX0_carries_210 : decode cX0_carries 210 = .ok (.aload 4, 2) := dk_25 4 (dk_at dksX0_carries_9 0 rfl rfl)
theorem dX0_carries_212 : decode cX0_carries 212 = .ok (.getfield 309, 3) := dk_180 1 53 (dk_at dksX0_carries_9 2 rfl rfl)
theorem dX0_carries_215 : decode cX0_carries 215 = .ok (.iload 9, 2) := dk_21 9 (dk_at dksX0_carries_9 5 rfl rfl)
theorem dX0_carries_217 : decode cX0_carries 217 = .ok (.iaload, 1) := dk_46 (dk_at dksX0_carries_9 7 rfl rfl)
theorem dX0_carries_218 : decode cX0_carries 218 = .ok (.goto 12, 3) := dk_167 0 12 (dk_at dksX0_carries_9 8 rfl rfl)
theorem dX0_carries_221 : decode cX0_carries 221 = .ok (.aload_n 2, 1) := dk_44 (dk_at dksX0_carries_9 11 rfl rfl)
theorem dX0_carries_222 : decode cX0_carries 222 = .ok (.iload 5, 2) := dk_21 5 (dk_at dksX0_carries_9 12 rfl rfl)
theorem dX0_carries_224 : decode cX0_carries 224 = .ok (.aaload, 1) := dk_50 (dk_at dksX0_carries_9 14 rfl rfl)
theorem dX0_carries_225 : decode cX0_carries 225 = .ok (.iload 7, 2) := dk_21 7 (dk_at dksX0_carries_9 15 rfl rfl)
theorem dX0_carries_227 : decode cX0_carries 227 = .ok (.invokevirtual 327, 3) := dk_182 1 71 (dk_at dksX0_carries_9 17 rfl rfl)
theorem dX0_carries_230 : decode cX0_carries 230 = .ok (.iastore, 1) := dk_79 (dk_at dksX0_carries_9 20 rfl rfl)
theorem dX0_carries_231 : decode cX0_carries 231 = .ok (.iinc 7 1, 3) := dk_132 7 1 (dk_at dksX0_carries_9 21 rfl rfl)
theorem dX0_carries_234 : decode cX0_carries 234 = .ok (.goto (-124), 3) := dk_167 255 132 (dk_at dksX0_carries_10 0 rfl rfl)
theorem dX0_carries_237 : decode cX0_carries 237 = .ok (.aload_n 0, 1) := dk_42 (dk_at dksX0_carries_10 3 rfl rfl)
theorem dX0_carries_238 : decode cX0_carries 238 = .ok (.getfield 305, 3) := dk_180 1 49 (dk_at dksX0_carries_10 4 rfl rfl)
theorem dX0_carries_241 : decode cX0_carries 241 = .ok (.iload_n 3, 1) := dk_29 (dk_at dksX0_carries_10 7 rfl rfl)
theorem dX0_carries_242 : decode cX0_carries 242 = .ok (.aload 6, 2) := dk_25 6 (dk_at dksX0_carries_10 8 rfl rfl)
theorem dX0_carries_244 : decode cX0_carries 244 = .ok (.aastore, 1) := dk_83 (dk_at dksX0_carries_10 10 rfl rfl)
theorem dX0_carries_245 : decode cX0_carries 245 = .ok (.iinc 3 1, 3) := dk_132 3 1 (dk_at dksX0_carries_10 11 rfl rfl)
theorem dX0_carries_248 : decode cX0_carries 248 = .ok (.goto (-246), 3) := dk_167 255 10 (dk_at dksX0_carries_10 14 rfl rfl)
theorem dX0_carries_251 : decode cX0_carries 251 = .ok (.return_, 1) := dk_177 (dk_at dksX0_carries_10 17 rfl rfl)
abbrev cX0_ruling : ByteArray := prog_1_method_25_code
def yX0_ruling : MethodName := ⟨RX0, "ruling", "(LPondHouse$Patch;LPondHouse$Kind;I)I"⟩
def dkwX0_ruling_3 : List UInt8 := [132, 5, 1, 167, 255, 191, 21, 4, 172]
abbrev dktX0_ruling_3 : List UInt8 := dkwX0_ruling_3 ++ []
def dkwX0_ruling_2 : List UInt8 := [182, 1, 39, 153, 0, 19, 25, 6, 192, 1, 36, 29, 182, 1, 42, 198, 0, 7, 21, 5, 54, 4]
abbrev dktX0_ruling_2 : List UInt8 := dkwX0_ruling_2 ++ dktX0_ruling_3
def dkwX0_ruling_1 : List UInt8 := [182, 0, 153, 192, 0, 230, 58, 6, 25, 6, 193, 1, 36, 153, 0, 31, 44, 25, 6, 180, 1, 38]
abbrev dktX0_ruling_1 : List UInt8 := dkwX0_ruling_1 ++ dktX0_ruling_2
def dkwX0_ruling_0 : List UInt8 := [2, 54, 4, 3, 54, 5, 21, 5, 43, 180, 0, 224, 182, 0, 147, 162, 0, 59, 43, 180, 0, 224, 21, 5]
abbrev dktX0_ruling_0 : List UInt8 := dkwX0_ruling_0 ++ dktX0_ruling_1
theorem dksX0_ruling_0 : cX0_ruling.data.toList.drop 0 = dktX0_ruling_0 := by decide +kernel
theorem dksX0_ruling_1 : cX0_ruling.data.toList.drop 24 = dktX0_ruling_1 := dk_seg dksX0_ruling_0 24 rfl rfl
theorem dksX0_ruling_2 : cX0_ruling.data.toList.drop 46 = dktX0_ruling_2 := dk_seg dksX0_ruling_1 22 rfl rfl
theorem dksX0_ruling_3 : cX0_ruling.data.toList.drop 68 = dktX0_ruling_3 := dk_seg dksX0_ruling_2 22 rfl rfl
theorem dX0_ruling_0 : decode cX0_ruling 0 = .ok (.iconst (-1), 1) := dk_2 (dk_at dksX0_ruling_0 0 rfl rfl)
theorem dX0_ruling_1 : decode cX0_ruling 1 = .ok (.istore 4, 2) := dk_54 4 (dk_at dksX0_ruling_0 1 rfl rfl)
theorem dX0_ruling_3 : decode cX0_ruling 3 = .ok (.iconst 0, 1) := dk_3 (dk_at dksX0_ruling_0 3 rfl rfl)
theorem dX0_ruling_4 : decode cX0_ruling 4 = .ok (.istore 5, 2) := dk_54 5 (dk_at dksX0_ruling_0 4 rfl rfl)
theorem dX0_ruling_6 : decode cX0_ruling 6 = .ok (.iload 5, 2) := dk_21 5 (dk_at dksX0_ruling_0 6 rfl rfl)
theorem dX0_ruling_8 : decode cX0_ruling 8 = .ok (.aload_n 1, 1) := dk_43 (dk_at dksX0_ruling_0 8 rfl rfl)
theorem dX0_ruling_9 : decode cX0_ruling 9 = .ok (.getfield 224, 3) := dk_180 0 224 (dk_at dksX0_ruling_0 9 rfl rfl)
theorem dX0_ruling_12 : decode cX0_ruling 12 = .ok (.invokevirtual 147, 3) := dk_182 0 147 (dk_at dksX0_ruling_0 12 rfl rfl)
theorem dX0_ruling_15 : decode cX0_ruling 15 = .ok (.if_icmp .ge 59, 3) := dk_162 0 59 (dk_at dksX0_ruling_0 15 rfl rfl)
theorem dX0_ruling_18 : decode cX0_ruling 18 = .ok (.aload_n 1, 1) := dk_43 (dk_at dksX0_ruling_0 18 rfl rfl)
theorem dX0_ruling_19 : decode cX0_ruling 19 = .ok (.getfield 224, 3) := dk_180 0 224 (dk_at dksX0_ruling_0 19 rfl rfl)
theorem dX0_ruling_22 : decode cX0_ruling 22 = .ok (.iload 5, 2) := dk_21 5 (dk_at dksX0_ruling_0 22 rfl rfl)
theorem dX0_ruling_24 : decode cX0_ruling 24 = .ok (.invokevirtual 153, 3) := dk_182 0 153 (dk_at dksX0_ruling_1 0 rfl rfl)
theorem dX0_ruling_27 : decode cX0_ruling 27 = .ok (.checkcast 230, 3) := dk_192 0 230 (dk_at dksX0_ruling_1 3 rfl rfl)
theorem dX0_ruling_30 : decode cX0_ruling 30 = .ok (.astore 6, 2) := dk_58 6 (dk_at dksX0_ruling_1 6 rfl rfl)
theorem dX0_ruling_32 : decode cX0_ruling 32 = .ok (.aload 6, 2) := dk_25 6 (dk_at dksX0_ruling_1 8 rfl rfl)
theorem dX0_ruling_34 : decode cX0_ruling 34 = .ok (.instanceof 292, 3) := dk_193 1 36 (dk_at dksX0_ruling_1 10 rfl rfl)
theorem dX0_ruling_37 : decode cX0_ruling 37 = .ok (.ifCond .eq 31, 3) := dk_153 0 31 (dk_at dksX0_ruling_1 13 rfl rfl)
theorem dX0_ruling_40 : decode cX0_ruling 40 = .ok (.aload_n 2, 1) := dk_44 (dk_at dksX0_ruling_1 16 rfl rfl)
theorem dX0_ruling_41 : decode cX0_ruling 41 = .ok (.aload 6, 2) := dk_25 6 (dk_at dksX0_ruling_1 17 rfl rfl)
theorem dX0_ruling_43 : decode cX0_ruling 43 = .ok (.getfield 294, 3) := dk_180 1 38 (dk_at dksX0_ruling_1 19 rfl rfl)
theorem dX0_ruling_46 : decode cX0_ruling 46 = .ok (.invokevirtual 295, 3) := dk_182 1 39 (dk_at dksX0_ruling_2 0 rfl rfl)
theorem dX0_ruling_49 : decode cX0_ruling 49 = .ok (.ifCond .eq 19, 3) := dk_153 0 19 (dk_at dksX0_ruling_2 3 rfl rfl)
theorem dX0_ruling_52 : decode cX0_ruling 52 = .ok (.aload 6, 2) := dk_25 6 (dk_at dksX0_ruling_2 6 rfl rfl)
theorem dX0_ruling_54 : decode cX0_ruling 54 = .ok (.checkcast 292, 3) := dk_192 1 36 (dk_at dksX0_ruling_2 8 rfl rfl)
theorem dX0_ruling_57 : decode cX0_ruling 57 = .ok (.iload_n 3, 1) := dk_29 (dk_at dksX0_ruling_2 11 rfl rfl)
theorem dX0_ruling_58 : decode cX0_ruling 58 = .ok (.invokevirtual 298, 3) := dk_182 1 42 (dk_at dksX0_ruling_2 12 rfl rfl)
theorem dX0_ruling_61 : decode cX0_ruling 61 = .ok (.ifnull 7, 3) := dk_198 0 7 (dk_at dksX0_ruling_2 15 rfl rfl)
theorem dX0_ruling_64 : decode cX0_ruling 64 = .ok (.iload 5, 2) := dk_21 5 (dk_at dksX0_ruling_2 18 rfl rfl)
theorem dX0_ruling_66 : decode cX0_ruling 66 = .ok (.istore 4, 2) := dk_54 4 (dk_at dksX0_ruling_2 20 rfl rfl)
theorem dX0_ruling_68 : decode cX0_ruling 68 = .ok (.iinc 5 1, 3) := dk_132 5 1 (dk_at dksX0_ruling_3 0 rfl rfl)
theorem dX0_ruling_71 : decode cX0_ruling 71 = .ok (.goto (-65), 3) := dk_167 255 191 (dk_at dksX0_ruling_3 3 rfl rfl)
theorem dX0_ruling_74 : decode cX0_ruling 74 = .ok (.iload 4, 2) := dk_21 4 (dk_at dksX0_ruling_3 6 rfl rfl)
theorem dX0_ruling_76 : decode cX0_ruling 76 = .ok (.ireturn, 1) := dk_172 (dk_at dksX0_ruling_3 8 rfl rfl)
abbrev cX0_ruled : ByteArray := prog_1_method_27_code
def yX0_ruled : MethodName := ⟨RX0, "ruled", "(LPondHouse$Worth;LPondHouse$Creature;I)I"⟩
def dkwX0_ruled_1 : List UInt8 := [180, 0, 77, 182, 0, 246, 191]
abbrev dktX0_ruled_1 : List UInt8 := dkwX0_ruled_1 ++ []
def dkwX0_ruled_0 : List UInt8 := [43, 42, 180, 1, 74, 44, 1, 3, 182, 0, 106, 182, 1, 78, 172, 58, 4, 42, 16, 9, 29, 44]
abbrev dktX0_ruled_0 : List UInt8 := dkwX0_ruled_0 ++ dktX0_ruled_1
theorem dksX0_ruled_0 : cX0_ruled.data.toList.drop 0 = dktX0_ruled_0 := by decide +kernel
theorem dksX0_ruled_1 : cX0_ruled.data.toList.drop 22 = dktX0_ruled_1 := dk_seg dksX0_ruled_0 22 rfl rfl
theorem dX0_ruled_0 : decode cX0_ruled 0 = .ok (.aload_n 1, 1) := dk_43 (dk_at dksX0_ruled_0 0 rfl rfl)
theorem dX0_ruled_1 : decode cX0_ruled 1 = .ok (.aload_n 0, 1) := dk_42 (dk_at dksX0_ruled_0 1 rfl rfl)
theorem dX0_ruled_2 : decode cX0_ruled 2 = .ok (.getfield 330, 3) := dk_180 1 74 (dk_at dksX0_ruled_0 2 rfl rfl)
theorem dX0_ruled_5 : decode cX0_ruled 5 = .ok (.aload_n 2, 1) := dk_44 (dk_at dksX0_ruled_0 5 rfl rfl)
theorem dX0_ruled_6 : decode cX0_ruled 6 = .ok (.aconst_null, 1) := dk_1 (dk_at dksX0_ruled_0 6 rfl rfl)
theorem dX0_ruled_7 : decode cX0_ruled 7 = .ok (.iconst 0, 1) := dk_3 (dk_at dksX0_ruled_0 7 rfl rfl)
theorem dX0_ruled_8 : decode cX0_ruled 8 = .ok (.invokevirtual 106, 3) := dk_182 0 106 (dk_at dksX0_ruled_0 8 rfl rfl)
theorem dX0_ruled_11 : decode cX0_ruled 11 = .ok (.invokevirtual 334, 3) := dk_182 1 78 (dk_at dksX0_ruled_0 11 rfl rfl)
theorem dX0_ruled_14 : decode cX0_ruled 14 = .ok (.ireturn, 1) := dk_172 (dk_at dksX0_ruled_0 14 rfl rfl)
theorem dX0_ruled_15 : decode cX0_ruled 15 = .ok (.astore 4, 2) := dk_58 4 (dk_at dksX0_ruled_0 15 rfl rfl)
theorem dX0_ruled_17 : decode cX0_ruled 17 = .ok (.aload_n 0, 1) := dk_42 (dk_at dksX0_ruled_0 17 rfl rfl)
theorem dX0_ruled_18 : decode cX0_ruled 18 = .ok (.bipush 9, 2) := dk_16 9 (dk_at dksX0_ruled_0 18 rfl rfl)
theorem dX0_ruled_20 : decode cX0_ruled 20 = .ok (.iload_n 3, 1) := dk_29 (dk_at dksX0_ruled_0 20 rfl rfl)
theorem dX0_ruled_21 : decode cX0_ruled 21 = .ok (.aload_n 2, 1) := dk_44 (dk_at dksX0_ruled_0 21 rfl rfl)
theorem dX0_ruled_22 : decode cX0_ruled 22 = .ok (.getfield 77, 3) := dk_180 0 77 (dk_at dksX0_ruled_1 0 rfl rfl)
theorem dX0_ruled_25 : decode cX0_ruled 25 = .ok (.invokevirtual 246, 3) := dk_182 0 246 (dk_at dksX0_ruled_1 3 rfl rfl)
theorem dX0_ruled_28 : decode cX0_ruled 28 = .ok (.athrow, 1) := dk_191 (dk_at dksX0_ruled_1 6 rfl rfl)
abbrev cX0_goesOver : ByteArray := prog_1_method_28_code
def yX0_goesOver : MethodName := ⟨RX0, "goesOver", "([LPondHouse$Kind;)V"⟩
def dkwX0_goesOver_6 : List UInt8 := [167, 255, 119, 42, 43, 42, 180, 0, 28, 184, 1, 108, 181, 0, 28, 42, 43, 181, 0, 213, 177]
abbrev dktX0_goesOver_6 : List UInt8 := dkwX0_goesOver_6 ++ []
def dkwX0_goesOver_5 : List UInt8 := [28, 50, 181, 1, 53, 42, 180, 1, 46, 28, 25, 4, 83, 42, 180, 1, 49, 28, 25, 5, 83, 132, 2, 1]
abbrev dktX0_goesOver_5 : List UInt8 := dkwX0_goesOver_5 ++ dktX0_goesOver_6
def dkwX0_goesOver_4 : List UInt8 := [180, 1, 46, 28, 50, 43, 182, 1, 104, 45, 42, 180, 1, 46, 28, 50, 181, 0, 47, 45, 42, 180, 1, 49]
abbrev dktX0_goesOver_4 : List UInt8 := dkwX0_goesOver_4 ++ dktX0_goesOver_5
def dkwX0_goesOver_3 : List UInt8 := [180, 1, 46, 28, 50, 198, 0, 26, 42, 180, 1, 46, 28, 50, 25, 4, 165, 0, 15, 42, 45, 42]
abbrev dktX0_goesOver_3 : List UInt8 := dkwX0_goesOver_3 ++ dktX0_goesOver_4
def dkwX0_goesOver_2 : List UInt8 := [16, 40, 184, 1, 90, 45, 180, 0, 47, 58, 4, 45, 180, 1, 53, 58, 5, 25, 4, 198, 0, 35, 42]
abbrev dktX0_goesOver_2 : List UInt8 := dkwX0_goesOver_2 ++ dktX0_goesOver_3
def dkwX0_goesOver_1 : List UInt8 := [180, 1, 87, 28, 50, 3, 16, 40, 184, 1, 90, 45, 180, 1, 96, 3, 42, 180, 1, 100, 28, 50, 3]
abbrev dktX0_goesOver_1 : List UInt8 := dkwX0_goesOver_1 ++ dktX0_goesOver_2
def dkwX0_goesOver_0 : List UInt8 := [3, 61, 28, 42, 180, 0, 40, 162, 0, 135, 42, 180, 0, 43, 28, 50, 78, 45, 180, 1, 84, 3, 42]
abbrev dktX0_goesOver_0 : List UInt8 := dkwX0_goesOver_0 ++ dktX0_goesOver_1
theorem dksX0_goesOver_0 : cX0_goesOver.data.toList.drop 0 = dktX0_goesOver_0 := by decide +kernel
theorem dksX0_goesOver_1 : cX0_goesOver.data.toList.drop 23 = dktX0_goesOver_1 := dk_seg dksX0_goesOver_0 23 rfl rfl
theorem dksX0_goesOver_2 : cX0_goesOver.data.toList.drop 46 = dktX0_goesOver_2 := dk_seg dksX0_goesOver_1 23 rfl rfl
theorem dksX0_goesOver_3 : cX0_goesOver.data.toList.drop 69 = dktX0_goesOver_3 := dk_seg dksX0_goesOver_2 23 rfl rfl
theorem dksX0_goesOver_4 : cX0_goesOver.data.toList.drop 91 = dktX0_goesOver_4 := dk_seg dksX0_goesOver_3 22 rfl rfl
theorem dksX0_goesOver_5 : cX0_goesOver.data.toList.drop 115 = dktX0_goesOver_5 := dk_seg dksX0_goesOver_4 24 rfl rfl
theorem dksX0_goesOver_6 : cX0_goesOver.data.toList.drop 139 = dktX0_goesOver_6 := dk_seg dksX0_goesOver_5 24 rfl rfl
theorem dX0_goesOver_0 : decode cX0_goesOver 0 = .ok (.iconst 0, 1) := dk_3 (dk_at dksX0_goesOver_0 0 rfl rfl)
theorem dX0_goesOver_1 : decode cX0_goesOver 1 = .ok (.istore_n 2, 1) := dk_61 (dk_at dksX0_goesOver_0 1 rfl rfl)
theorem dX0_goesOver_2 : decode cX0_goesOver 2 = .ok (.iload_n 2, 1) := dk_28 (dk_at dksX0_goesOver_0 2 rfl rfl)
theorem dX0_goesOver_3 : decode cX0_goesOver 3 = .ok (.aload_n 0, 1) := dk_42 (dk_at dksX0_goesOver_0 3 rfl rfl)
theorem dX0_goesOver_4 : decode cX0_goesOver 4 = .ok (.getfield 40, 3) := dk_180 0 40 (dk_at dksX0_goesOver_0 4 rfl rfl)
theorem dX0_goesOver_7 : decode cX0_goesOver 7 = .ok (.if_icmp .ge 135, 3) := dk_162 0 135 (dk_at dksX0_goesOver_0 7 rfl rfl)
theorem dX0_goesOver_10 : decode cX0_goesOver 10 = .ok (.aload_n 0, 1) := dk_42 (dk_at dksX0_goesOver_0 10 rfl rfl)
theorem dX0_goesOver_11 : decode cX0_goesOver 11 = .ok (.getfield 43, 3) := dk_180 0 43 (dk_at dksX0_goesOver_0 11 rfl rfl)
theorem dX0_goesOver_14 : decode cX0_goesOver 14 = .ok (.iload_n 2, 1) := dk_28 (dk_at dksX0_goesOver_0 14 rfl rfl)
theorem dX0_goesOver_15 : decode cX0_goesOver 15 = .ok (.aaload, 1) := dk_50 (dk_at dksX0_goesOver_0 15 rfl rfl)
theorem dX0_goesOver_16 : decode cX0_goesOver 16 = .ok (.astore_n 3, 1) := dk_78 (dk_at dksX0_goesOver_0 16 rfl rfl)
theorem dX0_goesOver_17 : decode cX0_goesOver 17 = .ok (.aload_n 3, 1) := dk_45 (dk_at dksX0_goesOver_0 17 rfl rfl)
theorem dX0_goesOver_18 : decode cX0_goesOver 18 = .ok (.getfield 340, 3) := dk_180 1 84 (dk_at dksX0_goesOver_0 18 rfl rfl)
theorem dX0_goesOver_21 : decode cX0_goesOver 21 = .ok (.iconst 0, 1) := dk_3 (dk_at dksX0_goesOver_0 21 rfl rfl)
theorem dX0_goesOver_22 : decode cX0_goesOver 22 = .ok (.aload_n 0, 1) := dk_42 (dk_at dksX0_goesOver_0 22 rfl rfl)
theorem dX0_goesOver_23 : decode cX0_goesOver 23 = .ok (.getfield 343, 3) := dk_180 1 87 (dk_at dksX0_goesOver_1 0 rfl rfl)
theorem dX0_goesOver_26 : decode cX0_goesOver 26 = .ok (.iload_n 2, 1) := dk_28 (dk_at dksX0_goesOver_1 3 rfl rfl)
theorem dX0_goesOver_27 : decode cX0_goesOver 27 = .ok (.aaload, 1) := dk_50 (dk_at dksX0_goesOver_1 4 rfl rfl)
theorem dX0_goesOver_28 : decode cX0_goesOver 28 = .ok (.iconst 0, 1) := dk_3 (dk_at dksX0_goesOver_1 5 rfl rfl)
theorem dX0_goesOver_29 : decode cX0_goesOver 29 = .ok (.bipush 40, 2) := dk_16 40 (dk_at dksX0_goesOver_1 6 rfl rfl)
theorem dX0_goesOver_31 : decode cX0_goesOver 31 = .ok (.invokestatic 346, 3) := dk_184 1 90 (dk_at dksX0_goesOver_1 8 rfl rfl)
theorem dX0_goesOver_34 : decode cX0_goesOver 34 = .ok (.aload_n 3, 1) := dk_45 (dk_at dksX0_goesOver_1 11 rfl rfl)
theorem dX0_goesOver_35 : decode cX0_goesOver 35 = .ok (.getfield 352, 3) := dk_180 1 96 (dk_at dksX0_goesOver_1 12 rfl rfl)
theorem dX0_goesOver_38 : decode cX0_goesOver 38 = .ok (.iconst 0, 1) := dk_3 (dk_at dksX0_goesOver_1 15 rfl rfl)
theorem dX0_goesOver_39 : decode cX0_goesOver 39 = .ok (.aload_n 0, 1) := dk_42 (dk_at dksX0_goesOver_1 16 rfl rfl)
theorem dX0_goesOver_40 : decode cX0_goesOver 40 = .ok (.getfield 356, 3) := dk_180 1 100 (dk_at dksX0_goesOver_1 17 rfl rfl)
theorem dX0_goesOver_43 : decode cX0_goesOver 43 = .ok (.iload_n 2, 1) := dk_28 (dk_at dksX0_goesOver_1 20 rfl rfl)
theorem dX0_goesOver_44 : decode cX0_goesOver 44 = .ok (.aaload, 1) := dk_50 (dk_at dksX0_goesOver_1 21 rfl rfl)
theorem dX0_goesOver_45 : decode cX0_goesOver 45 = .ok (.iconst 0, 1) := dk_3 (dk_at dksX0_goesOver_1 22 rfl rfl)
theorem dX0_goesOver_46 : decode cX0_goesOver 46 = .ok (.bipush 40, 2) := dk_16 40 (dk_at dksX0_goesOver_2 0 rfl rfl)
theorem dX0_goesOver_48 : decode cX0_goesOver 48 = .ok (.invokestatic 346, 3) := dk_184 1 90 (dk_at dksX0_goesOver_2 2 rfl rfl)
theorem dX0_goesOver_51 : decode cX0_goesOver 51 = .ok (.aload_n 3, 1) := dk_45 (dk_at dksX0_goesOver_2 5 rfl rfl)
theorem dX0_goesOver_52 : decode cX0_goesOver 52 = .ok (.getfield 47, 3) := dk_180 0 47 (dk_at dksX0_goesOver_2 6 rfl rfl)
theorem dX0_goesOver_55 : decode cX0_goesOver 55 = .ok (.astore 4, 2) := dk_58 4 (dk_at dksX0_goesOver_2 9 rfl rfl)
theorem dX0_goesOver_57 : decode cX0_goesOver 57 = .ok (.aload_n 3, 1) := dk_45 (dk_at dksX0_goesOver_2 11 rfl rfl)
theorem dX0_goesOver_58 : decode cX0_goesOver 58 = .ok (.getfield 309, 3) := dk_180 1 53 (dk_at dksX0_goesOver_2 12 rfl rfl)
theorem dX0_goesOver_61 : decode cX0_goesOver 61 = .ok (.astore 5, 2) := dk_58 5 (dk_at dksX0_goesOver_2 15 rfl rfl)
theorem dX0_goesOver_63 : decode cX0_goesOver 63 = .ok (.aload 4, 2) := dk_25 4 (dk_at dksX0_goesOver_2 17 rfl rfl)
theorem dX0_goesOver_65 : decode cX0_goesOver 65 = .ok (.ifnull 35, 3) := dk_198 0 35 (dk_at dksX0_goesOver_2 19 rfl rfl)
theorem dX0_goesOver_68 : decode cX0_goesOver 68 = .ok (.aload_n 0, 1) := dk_42 (dk_at dksX0_goesOver_2 22 rfl rfl)
theorem dX0_goesOver_69 : decode cX0_goesOver 69 = .ok (.getfield 302, 3) := dk_180 1 46 (dk_at dksX0_goesOver_3 0 rfl rfl)
theorem dX0_goesOver_72 : decode cX0_goesOver 72 = .ok (.iload_n 2, 1) := dk_28 (dk_at dksX0_goesOver_3 3 rfl rfl)
theorem dX0_goesOver_73 : decode cX0_goesOver 73 = .ok (.aaload, 1) := dk_50 (dk_at dksX0_goesOver_3 4 rfl rfl)
theorem dX0_goesOver_74 : decode cX0_goesOver 74 = .ok (.ifnull 26, 3) := dk_198 0 26 (dk_at dksX0_goesOver_3 5 rfl rfl)
theorem dX0_goesOver_77 : decode cX0_goesOver 77 = .ok (.aload_n 0, 1) := dk_42 (dk_at dksX0_goesOver_3 8 rfl rfl)
theorem dX0_goesOver_78 : decode cX0_goesOver 78 = .ok (.getfield 302, 3) := dk_180 1 46 (dk_at dksX0_goesOver_3 9 rfl rfl)
theorem dX0_goesOver_81 : decode cX0_goesOver 81 = .ok (.iload_n 2, 1) := dk_28 (dk_at dksX0_goesOver_3 12 rfl rfl)
theorem dX0_goesOver_82 : decode cX0_goesOver 82 = .ok (.aaload, 1) := dk_50 (dk_at dksX0_goesOver_3 13 rfl rfl)
theorem dX0_goesOver_83 : decode cX0_goesOver 83 = .ok (.aload 4, 2) := dk_25 4 (dk_at dksX0_goesOver_3 14 rfl rfl)
theorem dX0_goesOver_85 : decode cX0_goesOver 85 = .ok (.if_acmp .eq 15, 3) := dk_165 0 15 (dk_at dksX0_goesOver_3 16 rfl rfl)
theorem dX0_goesOver_88 : decode cX0_goesOver 88 = .ok (.aload_n 0, 1) := dk_42 (dk_at dksX0_goesOver_3 19 rfl rfl)
theorem dX0_goesOver_89 : decode cX0_goesOver 89 = .ok (.aload_n 3, 1) := dk_45 (dk_at dksX0_goesOver_3 20 rfl rfl)
theorem dX0_goesOver_90 : decode cX0_goesOver 90 = .ok (.aload_n 0, 1) := dk_42 (dk_at dksX0_goesOver_3 21 rfl rfl)
theorem dX0_goesOver_91 : decode cX0_goesOver 91 = .ok (.getfield 302, 3) := dk_180 1 46 (dk_at dksX0_goesOver_4 0 rfl rfl)
theorem dX0_goesOver_94 : decode cX0_goesOver 94 = .ok (.iload_n 2, 1) := dk_28 (dk_at dksX0_goesOver_4 3 rfl rfl)
theorem dX0_goesOver_95 : decode cX0_goesOver 95 = .ok (.aaload, 1) := dk_50 (dk_at dksX0_goesOver_4 4 rfl rfl)
theorem dX0_goesOver_96 : decode cX0_goesOver 96 = .ok (.aload_n 1, 1) := dk_43 (dk_at dksX0_goesOver_4 5 rfl rfl)
theorem dX0_goesOver_97 : decode cX0_goesOver 97 = .ok (.invokevirtual 360, 3) := dk_182 1 104 (dk_at dksX0_goesOver_4 6 rfl rfl)
theorem dX0_goesOver_100 : decode cX0_goesOver 100 = .ok (.aload_n 3, 1) := dk_45 (dk_at dksX0_goesOver_4 9 rfl rfl)
theorem dX0_goesOver_101 : decode cX0_goesOver 101 = .ok (.aload_n 0, 1) := dk_42 (dk_at dksX0_goesOver_4 10 rfl rfl)
theorem dX0_goesOver_102 : decode cX0_goesOver 102 = .ok (.getfield 302, 3) := dk_180 1 46 (dk_at dksX0_goesOver_4 11 rfl rfl)
theorem dX0_goesOver_105 : decode cX0_goesOver 105 = .ok (.iload_n 2, 1) := dk_28 (dk_at dksX0_goesOver_4 14 rfl rfl)
theorem dX0_goesOver_106 : decode cX0_goesOver 106 = .ok (.aaload, 1) := dk_50 (dk_at dksX0_goesOver_4 15 rfl rfl)
theorem dX0_goesOver_107 : decode cX0_goesOver 107 = .ok (.putfield 47, 3) := dk_181 0 47 (dk_at dksX0_goesOver_4 16 rfl rfl)
theorem dX0_goesOver_110 : decode cX0_goesOver 110 = .ok (.aload_n 3, 1) := dk_45 (dk_at dksX0_goesOver_4 19 rfl rfl)
theorem dX0_goesOver_111 : decode cX0_goesOver 111 = .ok (.aload_n 0, 1) := dk_42 (dk_at dksX0_goesOver_4 20 rfl rfl)
theorem dX0_goesOver_112 : decode cX0_goesOver 112 = .ok (.getfield 305, 3) := dk_180 1 49 (dk_at dksX0_goesOver_4 21 rfl rfl)
theorem dX0_goesOver_115 : decode cX0_goesOver 115 = .ok (.iload_n 2, 1) := dk_28 (dk_at dksX0_goesOver_5 0 rfl rfl)
theorem dX0_goesOver_116 : decode cX0_goesOver 116 = .ok (.aaload, 1) := dk_50 (dk_at dksX0_goesOver_5 1 rfl rfl)
theorem dX0_goesOver_117 : decode cX0_goesOver 117 = .ok (.putfield 309, 3) := dk_181 1 53 (dk_at dksX0_goesOver_5 2 rfl rfl)
theorem dX0_goesOver_120 : decode cX0_goesOver 120 = .ok (.aload_n 0, 1) := dk_42 (dk_at dksX0_goesOver_5 5 rfl rfl)
theorem dX0_goesOver_121 : decode cX0_goesOver 121 = .ok (.getfield 302, 3) := dk_180 1 46 (dk_at dksX0_goesOver_5 6 rfl rfl)
theorem dX0_goesOver_124 : decode cX0_goesOver 124 = .ok (.iload_n 2, 1) := dk_28 (dk_at dksX0_goesOver_5 9 rfl rfl)
theorem dX0_goesOver_125 : decode cX0_goesOver 125 = .ok (.aload 4, 2) := dk_25 4 (dk_at dksX0_goesOver_5 10 rfl rfl)
theorem dX0_goesOver_127 : decode cX0_goesOver 127 = .ok (.aastore, 1) := dk_83 (dk_at dksX0_goesOver_5 12 rfl rfl)
theorem dX0_goesOver_128 : decode cX0_goesOver 128 = .ok (.aload_n 0, 1) := dk_42 (dk_at dksX0_goesOver_5 13 rfl rfl)
theorem dX0_goesOver_129 : decode cX0_goesOver 129 = .ok (.getfield 305, 3) := dk_180 1 49 (dk_at dksX0_goesOver_5 14 rfl rfl)
theorem dX0_goesOver_132 : decode cX0_goesOver 132 = .ok (.iload_n 2, 1) := dk_28 (dk_at dksX0_goesOver_5 17 rfl rfl)
theorem dX0_goesOver_133 : decode cX0_goesOver 133 = .ok (.aload 5, 2) := dk_25 5 (dk_at dksX0_goesOver_5 18 rfl rfl)
theorem dX0_goesOver_135 : decode cX0_goesOver 135 = .ok (.aastore, 1) := dk_83 (dk_at dksX0_goesOver_5 20 rfl rfl)
theorem dX0_goesOver_136 : decode cX0_goesOver 136 = .ok (.iinc 2 1, 3) := dk_132 2 1 (dk_at dksX0_goesOver_5 21 rfl rfl)
theorem dX0_goesOver_139 : decode cX0_goesOver 139 = .ok (.goto (-137), 3) := dk_167 255 119 (dk_at dksX0_goesOver_6 0 rfl rfl)
theorem dX0_goesOver_142 : decode cX0_goesOver 142 = .ok (.aload_n 0, 1) := dk_42 (dk_at dksX0_goesOver_6 3 rfl rfl)
theorem dX0_goesOver_143 : decode cX0_goesOver 143 = .ok (.aload_n 1, 1) := dk_43 (dk_at dksX0_goesOver_6 4 rfl rfl)
theorem dX0_goesOver_144 : decode cX0_goesOver 144 = .ok (.aload_n 0, 1) := dk_42 (dk_at dksX0_goesOver_6 5 rfl rfl)
theorem dX0_goesOver_145 : decode cX0_goesOver 145 = .ok (.getfield 28, 3) := dk_180 0 28 (dk_at dksX0_goesOver_6 6 rfl rfl)
theorem dX0_goesOver_148 : decode cX0_goesOver 148 = .ok (.invokestatic 364, 3) := dk_184 1 108 (dk_at dksX0_goesOver_6 9 rfl rfl)
theorem dX0_goesOver_151 : decode cX0_goesOver 151 = .ok (.putfield 28, 3) := dk_181 0 28 (dk_at dksX0_goesOver_6 12 rfl rfl)
theorem dX0_goesOver_154 : decode cX0_goesOver 154 = .ok (.aload_n 0, 1) := dk_42 (dk_at dksX0_goesOver_6 15 rfl rfl)
theorem dX0_goesOver_155 : decode cX0_goesOver 155 = .ok (.aload_n 1, 1) := dk_43 (dk_at dksX0_goesOver_6 16 rfl rfl)
theorem dX0_goesOver_156 : decode cX0_goesOver 156 = .ok (.putfield 213, 3) := dk_181 0 213 (dk_at dksX0_goesOver_6 17 rfl rfl)
theorem dX0_goesOver_159 : decode cX0_goesOver 159 = .ok (.return_, 1) := dk_177 (dk_at dksX0_goesOver_6 20 rfl rfl)
abbrev cX0_loses : ByteArray := prog_1_method_29_code
def yX0_loses : MethodName := ⟨RX0, "loses", "(LPondHouse$Creature;LPondHouse$Kind;[LPondHouse$Kind;)V"⟩
def dkwX0_loses_4 : List UInt8 := [132, 5, 1, 167, 255, 217, 177]
abbrev dktX0_loses_4 : List UInt8 := dkwX0_loses_4 ++ []
def dkwX0_loses_3 : List UInt8 := [154, 0, 23, 43, 43, 180, 0, 47, 21, 5, 182, 0, 194, 43, 180, 1, 53, 21, 5, 46, 182, 1, 112]
abbrev dktX0_loses_3 : List UInt8 := dkwX0_loses_3 ++ dktX0_loses_4
def dkwX0_loses_2 : List UInt8 := [4, 84, 132, 5, 1, 167, 255, 215, 3, 54, 5, 21, 5, 25, 4, 190, 162, 0, 37, 25, 4, 21, 5, 51]
abbrev dktX0_loses_2 : List UInt8 := dkwX0_loses_2 ++ dktX0_loses_3
def dkwX0_loses_1 : List UInt8 := [43, 180, 0, 47, 45, 42, 180, 0, 213, 184, 1, 63, 54, 6, 21, 6, 2, 159, 0, 9, 25, 4, 21, 6]
abbrev dktX0_loses_1 : List UInt8 := dkwX0_loses_1 ++ dktX0_loses_2
def dkwX0_loses_0 : List UInt8 := [43, 180, 1, 53, 190, 188, 4, 58, 4, 3, 54, 5, 21, 5, 44, 182, 1, 56, 162, 0, 38, 44, 21, 5]
abbrev dktX0_loses_0 : List UInt8 := dkwX0_loses_0 ++ dktX0_loses_1
theorem dksX0_loses_0 : cX0_loses.data.toList.drop 0 = dktX0_loses_0 := by decide +kernel
theorem dksX0_loses_1 : cX0_loses.data.toList.drop 24 = dktX0_loses_1 := dk_seg dksX0_loses_0 24 rfl rfl
theorem dksX0_loses_2 : cX0_loses.data.toList.drop 48 = dktX0_loses_2 := dk_seg dksX0_loses_1 24 rfl rfl
theorem dksX0_loses_3 : cX0_loses.data.toList.drop 72 = dktX0_loses_3 := dk_seg dksX0_loses_2 24 rfl rfl
theorem dksX0_loses_4 : cX0_loses.data.toList.drop 95 = dktX0_loses_4 := dk_seg dksX0_loses_3 23 rfl rfl
theorem dX0_loses_0 : decode cX0_loses 0 = .ok (.aload_n 1, 1) := dk_43 (dk_at dksX0_loses_0 0 rfl rfl)
theorem dX0_loses_1 : decode cX0_loses 1 = .ok (.getfield 309, 3) := dk_180 1 53 (dk_at dksX0_loses_0 1 rfl rfl)
theorem dX0_loses_4 : decode cX0_loses 4 = .ok (.arraylength, 1) := dk_190 (dk_at dksX0_loses_0 4 rfl rfl)
theorem dX0_loses_5 : decode cX0_loses 5 = .ok (.newarray .boolean, 2) := dk_188_4 (dk_at dksX0_loses_0 5 rfl rfl)
theorem dX0_loses_7 : decode cX0_loses 7 = .ok (.astore 4, 2) := dk_58 4 (dk_at dksX0_loses_0 7 rfl rfl)
theorem dX0_loses_9 : decode cX0_loses 9 = .ok (.iconst 0, 1) := dk_3 (dk_at dksX0_loses_0 9 rfl rfl)
theorem dX0_loses_10 : decode cX0_loses 10 = .ok (.istore 5, 2) := dk_54 5 (dk_at dksX0_loses_0 10 rfl rfl)
theorem dX0_loses_12 : decode cX0_loses 12 = .ok (.iload 5, 2) := dk_21 5 (dk_at dksX0_loses_0 12 rfl rfl)
theorem dX0_loses_14 : decode cX0_loses 14 = .ok (.aload_n 2, 1) := dk_44 (dk_at dksX0_loses_0 14 rfl rfl)
theorem dX0_loses_15 : decode cX0_loses 15 = .ok (.invokevirtual 312, 3) := dk_182 1 56 (dk_at dksX0_loses_0 15 rfl rfl)
theorem dX0_loses_18 : decode cX0_loses 18 = .ok (.if_icmp .ge 38, 3) := dk_162 0 38 (dk_at dksX0_loses_0 18 rfl rfl)
theorem dX0_loses_21 : decode cX0_loses 21 = .ok (.aload_n 2, 1) := dk_44 (dk_at dksX0_loses_0 21 rfl rfl)
theorem dX0_loses_22 : decode cX0_loses 22 = .ok (.iload 5, 2) := dk_21 5 (dk_at dksX0_loses_0 22 rfl rfl)
theorem dX0_loses_24 : decode cX0_loses 24 = .ok (.aload_n 1, 1) := dk_43 (dk_at dksX0_loses_1 0 rfl rfl)
theorem dX0_loses_25 : decode cX0_loses 25 = .ok (.getfield 47, 3) := dk_180 0 47 (dk_at dksX0_loses_1 1 rfl rfl)
theorem dX0_loses_28 : decode cX0_loses 28 = .ok (.aload_n 3, 1) := dk_45 (dk_at dksX0_loses_1 4 rfl rfl)
theorem dX0_loses_29 : decode cX0_loses 29 = .ok (.aload_n 0, 1) := dk_42 (dk_at dksX0_loses_1 5 rfl rfl)
theorem dX0_loses_30 : decode cX0_loses 30 = .ok (.getfield 213, 3) := dk_180 0 213 (dk_at dksX0_loses_1 6 rfl rfl)
theorem dX0_loses_33 : decode cX0_loses 33 = .ok (.invokestatic 319, 3) := dk_184 1 63 (dk_at dksX0_loses_1 9 rfl rfl)
theorem dX0_loses_36 : decode cX0_loses 36 = .ok (.istore 6, 2) := dk_54 6 (dk_at dksX0_loses_1 12 rfl rfl)
theorem dX0_loses_38 : decode cX0_loses 38 = .ok (.iload 6, 2) := dk_21 6 (dk_at dksX0_loses_1 14 rfl rfl)
theorem dX0_loses_40 : decode cX0_loses 40 = .ok (.iconst (-1), 1) := dk_2 (dk_at dksX0_loses_1 16 rfl rfl)
theorem dX0_loses_41 : decode cX0_loses 41 = .ok (.if_icmp .eq 9, 3) := dk_159 0 9 (dk_at dksX0_loses_1 17 rfl rfl)
theorem dX0_loses_44 : decode cX0_loses 44 = .ok (.aload 4, 2) := dk_25 4 (dk_at dksX0_loses_1 20 rfl rfl)
theorem dX0_loses_46 : decode cX0_loses 46 = .ok (.iload 6, 2) := dk_21 6 (dk_at dksX0_loses_1 22 rfl rfl)
theorem dX0_loses_48 : decode cX0_loses 48 = .ok (.iconst 1, 1) := dk_4 (dk_at dksX0_loses_2 0 rfl rfl)
theorem dX0_loses_49 : decode cX0_loses 49 = .ok (.bastore, 1) := dk_84 (dk_at dksX0_loses_2 1 rfl rfl)
theorem dX0_loses_50 : decode cX0_loses 50 = .ok (.iinc 5 1, 3) := dk_132 5 1 (dk_at dksX0_loses_2 2 rfl rfl)
theorem dX0_loses_53 : decode cX0_loses 53 = .ok (.goto (-41), 3) := dk_167 255 215 (dk_at dksX0_loses_2 5 rfl rfl)
theorem dX0_loses_56 : decode cX0_loses 56 = .ok (.iconst 0, 1) := dk_3 (dk_at dksX0_loses_2 8 rfl rfl)
theorem dX0_loses_57 : decode cX0_loses 57 = .ok (.istore 5, 2) := dk_54 5 (dk_at dksX0_loses_2 9 rfl rfl)
theorem dX0_loses_59 : decode cX0_loses 59 = .ok (.iload 5, 2) := dk_21 5 (dk_at dksX0_loses_2 11 rfl rfl)
theorem dX0_loses_61 : decode cX0_loses 61 = .ok (.aload 4, 2) := dk_25 4 (dk_at dksX0_loses_2 13 rfl rfl)
theorem dX0_loses_63 : decode cX0_loses 63 = .ok (.arraylength, 1) := dk_190 (dk_at dksX0_loses_2 15 rfl rfl)
theorem dX0_loses_64 : decode cX0_loses 64 = .ok (.if_icmp .ge 37, 3) := dk_162 0 37 (dk_at dksX0_loses_2 16 rfl rfl)
theorem dX0_loses_67 : decode cX0_loses 67 = .ok (.aload 4, 2) := dk_25 4 (dk_at dksX0_loses_2 19 rfl rfl)
theorem dX0_loses_69 : decode cX0_loses 69 = .ok (.iload 5, 2) := dk_21 5 (dk_at dksX0_loses_2 21 rfl rfl)
theorem dX0_loses_71 : decode cX0_loses 71 = .ok (.baload, 1) := dk_51 (dk_at dksX0_loses_2 23 rfl rfl)
theorem dX0_loses_72 : decode cX0_loses 72 = .ok (.ifCond .ne 23, 3) := dk_154 0 23 (dk_at dksX0_loses_3 0 rfl rfl)
theorem dX0_loses_75 : decode cX0_loses 75 = .ok (.aload_n 1, 1) := dk_43 (dk_at dksX0_loses_3 3 rfl rfl)
theorem dX0_loses_76 : decode cX0_loses 76 = .ok (.aload_n 1, 1) := dk_43 (dk_at dksX0_loses_3 4 rfl rfl)
theorem dX0_loses_77 : decode cX0_loses 77 = .ok (.getfield 47, 3) := dk_180 0 47 (dk_at dksX0_loses_3 5 rfl rfl)
theorem dX0_loses_80 : decode cX0_loses 80 = .ok (.iload 5, 2) := dk_21 5 (dk_at dksX0_loses_3 8 rfl rfl)
theorem dX0_loses_82 : decode cX0_loses 82 = .ok (.invokevirtual 194, 3) := dk_182 0 194 (dk_at dksX0_loses_3 10 rfl rfl)
theorem dX0_loses_85 : decode cX0_loses 85 = .ok (.aload_n 1, 1) := dk_43 (dk_at dksX0_loses_3 13 rfl rfl)
theorem dX0_loses_86 : decode cX0_loses 86 = .ok (.getfield 309, 3) := dk_180 1 53 (dk_at dksX0_loses_3 14 rfl rfl)
theorem dX0_loses_89 : decode cX0_loses 89 = .ok (.iload 5, 2) := dk_21 5 (dk_at dksX0_loses_3 17 rfl rfl)
theorem dX0_loses_91 : decode cX0_loses 91 = .ok (.iaload, 1) := dk_46 (dk_at dksX0_loses_3 19 rfl rfl)
theorem dX0_loses_92 : decode cX0_loses 92 = .ok (.invokevirtual 368, 3) := dk_182 1 112 (dk_at dksX0_loses_3 20 rfl rfl)
theorem dX0_loses_95 : decode cX0_loses 95 = .ok (.iinc 5 1, 3) := dk_132 5 1 (dk_at dksX0_loses_4 0 rfl rfl)
theorem dX0_loses_98 : decode cX0_loses 98 = .ok (.goto (-39), 3) := dk_167 255 217 (dk_at dksX0_loses_4 3 rfl rfl)
theorem dX0_loses_101 : decode cX0_loses 101 = .ok (.return_, 1) := dk_177 (dk_at dksX0_loses_4 6 rfl rfl)
abbrev cX0_fixedOf_2 : ByteArray := prog_1_method_30_code
def yX0_fixedOf_2 : MethodName := ⟨RX0, "fixedOf", "([LPondHouse$Kind;[LPondHouse$Fixed;)[LPondHouse$Fixed;"⟩
def dkwX0_fixedOf_2_6 : List UInt8 := [180, 1, 117, 183, 1, 120, 83, 132, 2, 1, 132, 8, 1, 167, 255, 176, 132, 6, 1, 167, 255, 153, 45, 176]
abbrev dktX0_fixedOf_2_6 : List UInt8 := dkwX0_fixedOf_2_6 ++ []
def dkwX0_fixedOf_2_5 : List UInt8 := [180, 1, 30, 21, 8, 46, 25, 9, 199, 0, 14, 25, 7, 180, 1, 115, 21, 8, 46, 167, 0, 8, 25, 9]
abbrev dktX0_fixedOf_2_5 : List UInt8 := dkwX0_fixedOf_2_5 ++ dktX0_fixedOf_2_6
def dkwX0_fixedOf_2_4 : List UInt8 := [180, 1, 30, 21, 8, 46, 184, 0, 32, 58, 9, 45, 28, 187, 0, 23, 89, 25, 7, 180, 0, 17, 25, 7]
abbrev dktX0_fixedOf_2_4 : List UInt8 := dkwX0_fixedOf_2_4 ++ dktX0_fixedOf_2_5
def dkwX0_fixedOf_2_3 : List UInt8 := [3, 54, 8, 21, 8, 25, 7, 180, 1, 30, 190, 162, 0, 75, 43, 25, 7, 180, 0, 17, 25, 7]
abbrev dktX0_fixedOf_2_3 : List UInt8 := dkwX0_fixedOf_2_3 ++ dktX0_fixedOf_2_4
def dkwX0_fixedOf_2_2 : List UInt8 := [58, 4, 25, 4, 190, 54, 5, 3, 54, 6, 21, 6, 21, 5, 162, 0, 102, 25, 4, 21, 6, 50, 58, 7]
abbrev dktX0_fixedOf_2_2 : List UInt8 := dkwX0_fixedOf_2_2 ++ dktX0_fixedOf_2_3
def dkwX0_fixedOf_2_1 : List UInt8 := [28, 25, 6, 180, 1, 30, 190, 96, 61, 132, 5, 1, 167, 255, 231, 28, 189, 0, 23, 78, 3, 61, 42]
abbrev dktX0_fixedOf_2_1 : List UInt8 := dkwX0_fixedOf_2_1 ++ dktX0_fixedOf_2_2
def dkwX0_fixedOf_2_0 : List UInt8 := [3, 61, 42, 78, 45, 190, 54, 4, 3, 54, 5, 21, 5, 21, 4, 162, 0, 24, 45, 21, 5, 50, 58, 6]
abbrev dktX0_fixedOf_2_0 : List UInt8 := dkwX0_fixedOf_2_0 ++ dktX0_fixedOf_2_1
theorem dksX0_fixedOf_2_0 : cX0_fixedOf_2.data.toList.drop 0 = dktX0_fixedOf_2_0 := by decide +kernel
theorem dksX0_fixedOf_2_1 : cX0_fixedOf_2.data.toList.drop 24 = dktX0_fixedOf_2_1 := dk_seg dksX0_fixedOf_2_0 24 rfl rfl
theorem dksX0_fixedOf_2_2 : cX0_fixedOf_2.data.toList.drop 47 = dktX0_fixedOf_2_2 := dk_seg dksX0_fixedOf_2_1 23 rfl rfl
theorem dksX0_fixedOf_2_3 : cX0_fixedOf_2.data.toList.drop 71 = dktX0_fixedOf_2_3 := dk_seg dksX0_fixedOf_2_2 24 rfl rfl
theorem dksX0_fixedOf_2_4 : cX0_fixedOf_2.data.toList.drop 93 = dktX0_fixedOf_2_4 := dk_seg dksX0_fixedOf_2_3 22 rfl rfl
theorem dksX0_fixedOf_2_5 : cX0_fixedOf_2.data.toList.drop 117 = dktX0_fixedOf_2_5 := dk_seg dksX0_fixedOf_2_4 24 rfl rfl
theorem dksX0_fixedOf_2_6 : cX0_fixedOf_2.data.toList.drop 141 = dktX0_fixedOf_2_6 := dk_seg dksX0_fixedOf_2_5 24 rfl rfl
theorem dX0_fixedOf_2_0 : decode cX0_fixedOf_2 0 = .ok (.iconst 0, 1) := dk_3 (dk_at dksX0_fixedOf_2_0 0 rfl rfl)
theorem dX0_fixedOf_2_1 : decode cX0_fixedOf_2 1 = .ok (.istore_n 2, 1) := dk_61 (dk_at dksX0_fixedOf_2_0 1 rfl rfl)
theorem dX0_fixedOf_2_2 : decode cX0_fixedOf_2 2 = .ok (.aload_n 0, 1) := dk_42 (dk_at dksX0_fixedOf_2_0 2 rfl rfl)
theorem dX0_fixedOf_2_3 : decode cX0_fixedOf_2 3 = .ok (.astore_n 3, 1) := dk_78 (dk_at dksX0_fixedOf_2_0 3 rfl rfl)
theorem dX0_fixedOf_2_4 : decode cX0_fixedOf_2 4 = .ok (.aload_n 3, 1) := dk_45 (dk_at dksX0_fixedOf_2_0 4 rfl rfl)
theorem dX0_fixedOf_2_5 : decode cX0_fixedOf_2 5 = .ok (.arraylength, 1) := dk_190 (dk_at dksX0_fixedOf_2_0 5 rfl rfl)
theorem dX0_fixedOf_2_6 : decode cX0_fixedOf_2 6 = .ok (.istore 4, 2) := dk_54 4 (dk_at dksX0_fixedOf_2_0 6 rfl rfl)
theorem dX0_fixedOf_2_8 : decode cX0_fixedOf_2 8 = .ok (.iconst 0, 1) := dk_3 (dk_at dksX0_fixedOf_2_0 8 rfl rfl)
theorem dX0_fixedOf_2_9 : decode cX0_fixedOf_2 9 = .ok (.istore 5, 2) := dk_54 5 (dk_at dksX0_fixedOf_2_0 9 rfl rfl)
theorem dX0_fixedOf_2_11 : decode cX0_fixedOf_2 11 = .ok (.iload 5, 2) := dk_21 5 (dk_at dksX0_fixedOf_2_0 11 rfl rfl)
theorem dX0_fixedOf_2_13 : decode cX0_fixedOf_2 13 = .ok (.iload 4, 2) := dk_21 4 (dk_at dksX0_fixedOf_2_0 13 rfl rfl)
theorem dX0_fixedOf_2_15 : decode cX0_fixedOf_2 15 = .ok (.if_icmp .ge 24, 3) := dk_162 0 24 (dk_at dksX0_fixedOf_2_0 15 rfl rfl)
theorem dX0_fixedOf_2_18 : decode cX0_fixedOf_2 18 = .ok (.aload_n 3, 1) := dk_45 (dk_at dksX0_fixedOf_2_0 18 rfl rfl)
theorem dX0_fixedOf_2_19 : decode cX0_fixedOf_2 19 = .ok (.iload 5, 2) := dk_21 5 (dk_at dksX0_fixedOf_2_0 19 rfl rfl)
theorem dX0_fixedOf_2_21 : decode cX0_fixedOf_2 21 = .ok (.aaload, 1) := dk_50 (dk_at dksX0_fixedOf_2_0 21 rfl rfl)
theorem dX0_fixedOf_2_22 : decode cX0_fixedOf_2 22 = .ok (.astore 6, 2) := dk_58 6 (dk_at dksX0_fixedOf_2_0 22 rfl rfl)
theorem dX0_fixedOf_2_24 : decode cX0_fixedOf_2 24 = .ok (.iload_n 2, 1) := dk_28 (dk_at dksX0_fixedOf_2_1 0 rfl rfl)
theorem dX0_fixedOf_2_25 : decode cX0_fixedOf_2 25 = .ok (.aload 6, 2) := dk_25 6 (dk_at dksX0_fixedOf_2_1 1 rfl rfl)
theorem dX0_fixedOf_2_27 : decode cX0_fixedOf_2 27 = .ok (.getfield 286, 3) := dk_180 1 30 (dk_at dksX0_fixedOf_2_1 3 rfl rfl)
theorem dX0_fixedOf_2_30 : decode cX0_fixedOf_2 30 = .ok (.arraylength, 1) := dk_190 (dk_at dksX0_fixedOf_2_1 6 rfl rfl)
theorem dX0_fixedOf_2_31 : decode cX0_fixedOf_2 31 = .ok (.iadd, 1) := dk_96 (dk_at dksX0_fixedOf_2_1 7 rfl rfl)
theorem dX0_fixedOf_2_32 : decode cX0_fixedOf_2 32 = .ok (.istore_n 2, 1) := dk_61 (dk_at dksX0_fixedOf_2_1 8 rfl rfl)
theorem dX0_fixedOf_2_33 : decode cX0_fixedOf_2 33 = .ok (.iinc 5 1, 3) := dk_132 5 1 (dk_at dksX0_fixedOf_2_1 9 rfl rfl)
theorem dX0_fixedOf_2_36 : decode cX0_fixedOf_2 36 = .ok (.goto (-25), 3) := dk_167 255 231 (dk_at dksX0_fixedOf_2_1 12 rfl rfl)
theorem dX0_fixedOf_2_39 : decode cX0_fixedOf_2 39 = .ok (.iload_n 2, 1) := dk_28 (dk_at dksX0_fixedOf_2_1 15 rfl rfl)
theorem dX0_fixedOf_2_40 : decode cX0_fixedOf_2 40 = .ok (.anewarray 23, 3) := dk_189 0 23 (dk_at dksX0_fixedOf_2_1 16 rfl rfl)
theorem dX0_fixedOf_2_43 : decode cX0_fixedOf_2 43 = .ok (.astore_n 3, 1) := dk_78 (dk_at dksX0_fixedOf_2_1 19 rfl rfl)
theorem dX0_fixedOf_2_44 : decode cX0_fixedOf_2 44 = .ok (.iconst 0, 1) := dk_3 (dk_at dksX0_fixedOf_2_1 20 rfl rfl)
theorem dX0_fixedOf_2_45 : decode cX0_fixedOf_2 45 = .ok (.istore_n 2, 1) := dk_61 (dk_at dksX0_fixedOf_2_1 21 rfl rfl)
theorem dX0_fixedOf_2_46 : decode cX0_fixedOf_2 46 = .ok (.aload_n 0, 1) := dk_42 (dk_at dksX0_fixedOf_2_1 22 rfl rfl)
theorem dX0_fixedOf_2_47 : decode cX0_fixedOf_2 47 = .ok (.astore 4, 2) := dk_58 4 (dk_at dksX0_fixedOf_2_2 0 rfl rfl)
theorem dX0_fixedOf_2_49 : decode cX0_fixedOf_2 49 = .ok (.aload 4, 2) := dk_25 4 (dk_at dksX0_fixedOf_2_2 2 rfl rfl)
theorem dX0_fixedOf_2_51 : decode cX0_fixedOf_2 51 = .ok (.arraylength, 1) := dk_190 (dk_at dksX0_fixedOf_2_2 4 rfl rfl)
theorem dX0_fixedOf_2_52 : decode cX0_fixedOf_2 52 = .ok (.istore 5, 2) := dk_54 5 (dk_at dksX0_fixedOf_2_2 5 rfl rfl)
theorem dX0_fixedOf_2_54 : decode cX0_fixedOf_2 54 = .ok (.iconst 0, 1) := dk_3 (dk_at dksX0_fixedOf_2_2 7 rfl rfl)
theorem dX0_fixedOf_2_55 : decode cX0_fixedOf_2 55 = .ok (.istore 6, 2) := dk_54 6 (dk_at dksX0_fixedOf_2_2 8 rfl rfl)
theorem dX0_fixedOf_2_57 : decode cX0_fixedOf_2 57 = .ok (.iload 6, 2) := dk_21 6 (dk_at dksX0_fixedOf_2_2 10 rfl rfl)
theorem dX0_fixedOf_2_59 : decode cX0_fixedOf_2 59 = .ok (.iload 5, 2) := dk_21 5 (dk_at dksX0_fixedOf_2_2 12 rfl rfl)
theorem dX0_fixedOf_2_61 : decode cX0_fixedOf_2 61 = .ok (.if_icmp .ge 102, 3) := dk_162 0 102 (dk_at dksX0_fixedOf_2_2 14 rfl rfl)
theorem dX0_fixedOf_2_64 : decode cX0_fixedOf_2 64 = .ok (.aload 4, 2) := dk_25 4 (dk_at dksX0_fixedOf_2_2 17 rfl rfl)
theorem dX0_fixedOf_2_66 : decode cX0_fixedOf_2 66 = .ok (.iload 6, 2) := dk_21 6 (dk_at dksX0_fixedOf_2_2 19 rfl rfl)
theorem dX0_fixedOf_2_68 : decode cX0_fixedOf_2 68 = .ok (.aaload, 1) := dk_50 (dk_at dksX0_fixedOf_2_2 21 rfl rfl)
theorem dX0_fixedOf_2_69 : decode cX0_fixedOf_2 69 = .ok (.astore 7, 2) := dk_58 7 (dk_at dksX0_fixedOf_2_2 22 rfl rfl)
theorem dX0_fixedOf_2_71 : decode cX0_fixedOf_2 71 = .ok (.iconst 0, 1) := dk_3 (dk_at dksX0_fixedOf_2_3 0 rfl rfl)
theorem dX0_fixedOf_2_72 : decode cX0_fixedOf_2 72 = .ok (.istore 8, 2) := dk_54 8 (dk_at dksX0_fixedOf_2_3 1 rfl rfl)
theorem dX0_fixedOf_2_74 : decode cX0_fixedOf_2 74 = .ok (.iload 8, 2) := dk_21 8 (dk_at dksX0_fixedOf_2_3 3 rfl rfl)
theorem dX0_fixedOf_2_76 : decode cX0_fixedOf_2 76 = .ok (.aload 7, 2) := dk_25 7 (dk_at dksX0_fixedOf_2_3 5 rfl rfl)
theorem dX0_fixedOf_2_78 : decode cX0_fixedOf_2 78 = .ok (.getfield 286, 3) := dk_180 1 30 (dk_at dksX0_fixedOf_2_3 7 rfl rfl)
theorem dX0_fixedOf_2_81 : decode cX0_fixedOf_2 81 = .ok (.arraylength, 1) := dk_190 (dk_at dksX0_fixedOf_2_3 10 rfl rfl)
theorem dX0_fixedOf_2_82 : decode cX0_fixedOf_2 82 = .ok (.if_icmp .ge 75, 3) := dk_162 0 75 (dk_at dksX0_fixedOf_2_3 11 rfl rfl)
theorem dX0_fixedOf_2_85 : decode cX0_fixedOf_2 85 = .ok (.aload_n 1, 1) := dk_43 (dk_at dksX0_fixedOf_2_3 14 rfl rfl)
theorem dX0_fixedOf_2_86 : decode cX0_fixedOf_2 86 = .ok (.aload 7, 2) := dk_25 7 (dk_at dksX0_fixedOf_2_3 15 rfl rfl)
theorem dX0_fixedOf_2_88 : decode cX0_fixedOf_2 88 = .ok (.getfield 17, 3) := dk_180 0 17 (dk_at dksX0_fixedOf_2_3 17 rfl rfl)
theorem dX0_fixedOf_2_91 : decode cX0_fixedOf_2 91 = .ok (.aload 7, 2) := dk_25 7 (dk_at dksX0_fixedOf_2_3 20 rfl rfl)
theorem dX0_fixedOf_2_93 : decode cX0_fixedOf_2 93 = .ok (.getfield 286, 3) := dk_180 1 30 (dk_at dksX0_fixedOf_2_4 0 rfl rfl)
theorem dX0_fixedOf_2_96 : decode cX0_fixedOf_2 96 = .ok (.iload 8, 2) := dk_21 8 (dk_at dksX0_fixedOf_2_4 3 rfl rfl)
theorem dX0_fixedOf_2_98 : decode cX0_fixedOf_2 98 = .ok (.iaload, 1) := dk_46 (dk_at dksX0_fixedOf_2_4 5 rfl rfl)
theorem dX0_fixedOf_2_99 : decode cX0_fixedOf_2 99 = .ok (.invokestatic 32, 3) := dk_184 0 32 (dk_at dksX0_fixedOf_2_4 6 rfl rfl)
theorem dX0_fixedOf_2_102 : decode cX0_fixedOf_2 102 = .ok (.astore 9, 2) := dk_58 9 (dk_at dksX0_fixedOf_2_4 9 rfl rfl)
theorem dX0_fixedOf_2_104 : decode cX0_fixedOf_2 104 = .ok (.aload_n 3, 1) := dk_45 (dk_at dksX0_fixedOf_2_4 11 rfl rfl)
theorem dX0_fixedOf_2_105 : decode cX0_fixedOf_2 105 = .ok (.iload_n 2, 1) := dk_28 (dk_at dksX0_fixedOf_2_4 12 rfl rfl)
theorem dX0_fixedOf_2_106 : decode cX0_fixedOf_2 106 = .ok (.new 23, 3) := dk_187 0 23 (dk_at dksX0_fixedOf_2_4 13 rfl rfl)
theorem dX0_fixedOf_2_109 : decode cX0_fixedOf_2 109 = .ok (.dup, 1) := dk_89 (dk_at dksX0_fixedOf_2_4 16 rfl rfl)
theorem dX0_fixedOf_2_110 : decode cX0_fixedOf_2 110 = .ok (.aload 7, 2) := dk_25 7 (dk_at dksX0_fixedOf_2_4 17 rfl rfl)
theorem dX0_fixedOf_2_112 : decode cX0_fixedOf_2 112 = .ok (.getfield 17, 3) := dk_180 0 17 (dk_at dksX0_fixedOf_2_4 19 rfl rfl)
theorem dX0_fixedOf_2_115 : decode cX0_fixedOf_2 115 = .ok (.aload 7, 2) := dk_25 7 (dk_at dksX0_fixedOf_2_4 22 rfl rfl)
theorem dX0_fixedOf_2_117 : decode cX0_fixedOf_2 117 = .ok (.getfield 286, 3) := dk_180 1 30 (dk_at dksX0_fixedOf_2_5 0 rfl rfl)
theorem dX0_fixedOf_2_120 : decode cX0_fixedOf_2 120 = .ok (.iload 8, 2) := dk_21 8 (dk_at dksX0_fixedOf_2_5 3 rfl rfl)
theorem dX0_fixedOf_2_122 : decode cX0_fixedOf_2 122 = .ok (.iaload, 1) := dk_46 (dk_at dksX0_fixedOf_2_5 5 rfl rfl)
theorem dX0_fixedOf_2_123 : decode cX0_fixedOf_2 123 = .ok (.aload 9, 2) := dk_25 9 (dk_at dksX0_fixedOf_2_5 6 rfl rfl)
theorem dX0_fixedOf_2_125 : decode cX0_fixedOf_2 125 = .ok (.ifnonnull 14, 3) := dk_199 0 14 (dk_at dksX0_fixedOf_2_5 8 rfl rfl)
theorem dX0_fixedOf_2_128 : decode cX0_fixedOf_2 128 = .ok (.aload 7, 2) := dk_25 7 (dk_at dksX0_fixedOf_2_5 11 rfl rfl)
theorem dX0_fixedOf_2_130 : decode cX0_fixedOf_2 130 = .ok (.getfield 371, 3) := dk_180 1 115 (dk_at dksX0_fixedOf_2_5 13 rfl rfl)
theorem dX0_fixedOf_2_133 : decode cX0_fixedOf_2 133 = .ok (.iload 8, 2) := dk_21 8 (dk_at dksX0_fixedOf_2_5 16 rfl rfl)
theorem dX0_fixedOf_2_135 : decode cX0_fixedOf_2 135 = .ok (.iaload, 1) := dk_46 (dk_at dksX0_fixedOf_2_5 18 rfl rfl)
theorem dX0_fixedOf_2_136 : decode cX0_fixedOf_2 136 = .ok (.goto 8, 3) := dk_167 0 8 (dk_at dksX0_fixedOf_2_5 19 rfl rfl)
theorem dX0_fixedOf_2_139 : decode cX0_fixedOf_2 139 = .ok (.aload 9, 2) := dk_25 9 (dk_at dksX0_fixedOf_2_5 22 rfl rfl)
theorem dX0_fixedOf_2_141 : decode cX0_fixedOf_2 141 = .ok (.getfield 373, 3) := dk_180 1 117 (dk_at dksX0_fixedOf_2_6 0 rfl rfl)
theorem dX0_fixedOf_2_144 : decode cX0_fixedOf_2 144 = .ok (.invokespecial 376, 3) := dk_183 1 120 (dk_at dksX0_fixedOf_2_6 3 rfl rfl)
theorem dX0_fixedOf_2_147 : decode cX0_fixedOf_2 147 = .ok (.aastore, 1) := dk_83 (dk_at dksX0_fixedOf_2_6 6 rfl rfl)
theorem dX0_fixedOf_2_148 : decode cX0_fixedOf_2 148 = .ok (.iinc 2 1, 3) := dk_132 2 1 (dk_at dksX0_fixedOf_2_6 7 rfl rfl)
theorem dX0_fixedOf_2_151 : decode cX0_fixedOf_2 151 = .ok (.iinc 8 1, 3) := dk_132 8 1 (dk_at dksX0_fixedOf_2_6 10 rfl rfl)
theorem dX0_fixedOf_2_154 : decode cX0_fixedOf_2 154 = .ok (.goto (-80), 3) := dk_167 255 176 (dk_at dksX0_fixedOf_2_6 13 rfl rfl)
theorem dX0_fixedOf_2_157 : decode cX0_fixedOf_2 157 = .ok (.iinc 6 1, 3) := dk_132 6 1 (dk_at dksX0_fixedOf_2_6 16 rfl rfl)
theorem dX0_fixedOf_2_160 : decode cX0_fixedOf_2 160 = .ok (.goto (-103), 3) := dk_167 255 153 (dk_at dksX0_fixedOf_2_6 19 rfl rfl)
theorem dX0_fixedOf_2_163 : decode cX0_fixedOf_2 163 = .ok (.aload_n 3, 1) := dk_45 (dk_at dksX0_fixedOf_2_6 22 rfl rfl)
theorem dX0_fixedOf_2_164 : decode cX0_fixedOf_2 164 = .ok (.areturn, 1) := dk_176 (dk_at dksX0_fixedOf_2_6 23 rfl rfl)
abbrev cX0_checks : ByteArray := prog_1_method_31_code
def yX0_checks : MethodName := ⟨RX0, "checks", "(LPondHouse$Patch;)V"⟩
def dkwX0_checks_4 : List UInt8 := [28, 21, 4, 182, 0, 246, 191, 132, 4, 1, 167, 255, 190, 132, 2, 1, 167, 255, 148, 177]
abbrev dktX0_checks_4 : List UInt8 := dkwX0_checks_4 ++ []
def dkwX0_checks_3 : List UInt8 := [180, 1, 38, 182, 1, 39, 153, 0, 25, 45, 192, 1, 123, 25, 5, 182, 1, 125, 154, 0, 13, 42, 16, 10]
abbrev dktX0_checks_3 : List UInt8 := dkwX0_checks_3 ++ dktX0_checks_4
def dkwX0_checks_2 : List UInt8 := [180, 0, 43, 21, 4, 50, 58, 5, 25, 5, 180, 0, 47, 198, 0, 40, 25, 5, 180, 0, 47, 45]
abbrev dktX0_checks_2 : List UInt8 := dkwX0_checks_2 ++ dktX0_checks_3
def dkwX0_checks_1 : List UInt8 := [78, 45, 193, 1, 123, 154, 0, 6, 167, 0, 75, 3, 54, 4, 21, 4, 42, 180, 0, 40, 162, 0, 63, 42]
abbrev dktX0_checks_1 : List UInt8 := dkwX0_checks_1 ++ dktX0_checks_2
def dkwX0_checks_0 : List UInt8 := [3, 61, 28, 43, 180, 0, 224, 182, 0, 147, 162, 0, 103, 43, 180, 0, 224, 28, 182, 0, 153, 192, 0, 230]
abbrev dktX0_checks_0 : List UInt8 := dkwX0_checks_0 ++ dktX0_checks_1
theorem dksX0_checks_0 : cX0_checks.data.toList.drop 0 = dktX0_checks_0 := by decide +kernel
theorem dksX0_checks_1 : cX0_checks.data.toList.drop 24 = dktX0_checks_1 := dk_seg dksX0_checks_0 24 rfl rfl
theorem dksX0_checks_2 : cX0_checks.data.toList.drop 48 = dktX0_checks_2 := dk_seg dksX0_checks_1 24 rfl rfl
theorem dksX0_checks_3 : cX0_checks.data.toList.drop 70 = dktX0_checks_3 := dk_seg dksX0_checks_2 22 rfl rfl
theorem dksX0_checks_4 : cX0_checks.data.toList.drop 94 = dktX0_checks_4 := dk_seg dksX0_checks_3 24 rfl rfl
theorem dX0_checks_0 : decode cX0_checks 0 = .ok (.iconst 0, 1) := dk_3 (dk_at dksX0_checks_0 0 rfl rfl)
theorem dX0_checks_1 : decode cX0_checks 1 = .ok (.istore_n 2, 1) := dk_61 (dk_at dksX0_checks_0 1 rfl rfl)
theorem dX0_checks_2 : decode cX0_checks 2 = .ok (.iload_n 2, 1) := dk_28 (dk_at dksX0_checks_0 2 rfl rfl)
theorem dX0_checks_3 : decode cX0_checks 3 = .ok (.aload_n 1, 1) := dk_43 (dk_at dksX0_checks_0 3 rfl rfl)
theorem dX0_checks_4 : decode cX0_checks 4 = .ok (.getfield 224, 3) := dk_180 0 224 (dk_at dksX0_checks_0 4 rfl rfl)
theorem dX0_checks_7 : decode cX0_checks 7 = .ok (.invokevirtual 147, 3) := dk_182 0 147 (dk_at dksX0_checks_0 7 rfl rfl)
theorem dX0_checks_10 : decode cX0_checks 10 = .ok (.if_icmp .ge 103, 3) := dk_162 0 103 (dk_at dksX0_checks_0 10 rfl rfl)
theorem dX0_checks_13 : decode cX0_checks 13 = .ok (.aload_n 1, 1) := dk_43 (dk_at dksX0_checks_0 13 rfl rfl)
theorem dX0_checks_14 : decode cX0_checks 14 = .ok (.getfield 224, 3) := dk_180 0 224 (dk_at dksX0_checks_0 14 rfl rfl)
theorem dX0_checks_17 : decode cX0_checks 17 = .ok (.iload_n 2, 1) := dk_28 (dk_at dksX0_checks_0 17 rfl rfl)
theorem dX0_checks_18 : decode cX0_checks 18 = .ok (.invokevirtual 153, 3) := dk_182 0 153 (dk_at dksX0_checks_0 18 rfl rfl)
theorem dX0_checks_21 : decode cX0_checks 21 = .ok (.checkcast 230, 3) := dk_192 0 230 (dk_at dksX0_checks_0 21 rfl rfl)
theorem dX0_checks_24 : decode cX0_checks 24 = .ok (.astore_n 3, 1) := dk_78 (dk_at dksX0_checks_1 0 rfl rfl)
theorem dX0_checks_25 : decode cX0_checks 25 = .ok (.aload_n 3, 1) := dk_45 (dk_at dksX0_checks_1 1 rfl rfl)
theorem dX0_checks_26 : decode cX0_checks 26 = .ok (.instanceof 379, 3) := dk_193 1 123 (dk_at dksX0_checks_1 2 rfl rfl)
theorem dX0_checks_29 : decode cX0_checks 29 = .ok (.ifCond .ne 6, 3) := dk_154 0 6 (dk_at dksX0_checks_1 5 rfl rfl)
theorem dX0_checks_32 : decode cX0_checks 32 = .ok (.goto 75, 3) := dk_167 0 75 (dk_at dksX0_checks_1 8 rfl rfl)
theorem dX0_checks_35 : decode cX0_checks 35 = .ok (.iconst 0, 1) := dk_3 (dk_at dksX0_checks_1 11 rfl rfl)
theorem dX0_checks_36 : decode cX0_checks 36 = .ok (.istore 4, 2) := dk_54 4 (dk_at dksX0_checks_1 12 rfl rfl)
theorem dX0_checks_38 : decode cX0_checks 38 = .ok (.iload 4, 2) := dk_21 4 (dk_at dksX0_checks_1 14 rfl rfl)
theorem dX0_checks_40 : decode cX0_checks 40 = .ok (.aload_n 0, 1) := dk_42 (dk_at dksX0_checks_1 16 rfl rfl)
theorem dX0_checks_41 : decode cX0_checks 41 = .ok (.getfield 40, 3) := dk_180 0 40 (dk_at dksX0_checks_1 17 rfl rfl)
theorem dX0_checks_44 : decode cX0_checks 44 = .ok (.if_icmp .ge 63, 3) := dk_162 0 63 (dk_at dksX0_checks_1 20 rfl rfl)
theorem dX0_checks_47 : decode cX0_checks 47 = .ok (.aload_n 0, 1) := dk_42 (dk_at dksX0_checks_1 23 rfl rfl)
theorem dX0_checks_48 : decode cX0_checks 48 = .ok (.getfield 43, 3) := dk_180 0 43 (dk_at dksX0_checks_2 0 rfl rfl)
theorem dX0_checks_51 : decode cX0_checks 51 = .ok (.iload 4, 2) := dk_21 4 (dk_at dksX0_checks_2 3 rfl rfl)
theorem dX0_checks_53 : decode cX0_checks 53 = .ok (.aaload, 1) := dk_50 (dk_at dksX0_checks_2 5 rfl rfl)
theorem dX0_checks_54 : decode cX0_checks 54 = .ok (.astore 5, 2) := dk_58 5 (dk_at dksX0_checks_2 6 rfl rfl)
theorem dX0_checks_56 : decode cX0_checks 56 = .ok (.aload 5, 2) := dk_25 5 (dk_at dksX0_checks_2 8 rfl rfl)
theorem dX0_checks_58 : decode cX0_checks 58 = .ok (.getfield 47, 3) := dk_180 0 47 (dk_at dksX0_checks_2 10 rfl rfl)
theorem dX0_checks_61 : decode cX0_checks 61 = .ok (.ifnull 40, 3) := dk_198 0 40 (dk_at dksX0_checks_2 13 rfl rfl)
theorem dX0_checks_64 : decode cX0_checks 64 = .ok (.aload 5, 2) := dk_25 5 (dk_at dksX0_checks_2 16 rfl rfl)
theorem dX0_checks_66 : decode cX0_checks 66 = .ok (.getfield 47, 3) := dk_180 0 47 (dk_at dksX0_checks_2 18 rfl rfl)
theorem dX0_checks_69 : decode cX0_checks 69 = .ok (.aload_n 3, 1) := dk_45 (dk_at dksX0_checks_2 21 rfl rfl)
theorem dX0_checks_70 : decode cX0_checks 70 = .ok (.getfield 294, 3) := dk_180 1 38 (dk_at dksX0_checks_3 0 rfl rfl)
theorem dX0_checks_73 : decode cX0_checks 73 = .ok (.invokevirtual 295, 3) := dk_182 1 39 (dk_at dksX0_checks_3 3 rfl rfl)
theorem dX0_checks_76 : decode cX0_checks 76 = .ok (.ifCond .eq 25, 3) := dk_153 0 25 (dk_at dksX0_checks_3 6 rfl rfl)
theorem dX0_checks_79 : decode cX0_checks 79 = .ok (.aload_n 3, 1) := dk_45 (dk_at dksX0_checks_3 9 rfl rfl)
theorem dX0_checks_80 : decode cX0_checks 80 = .ok (.checkcast 379, 3) := dk_192 1 123 (dk_at dksX0_checks_3 10 rfl rfl)
theorem dX0_checks_83 : decode cX0_checks 83 = .ok (.aload 5, 2) := dk_25 5 (dk_at dksX0_checks_3 13 rfl rfl)
theorem dX0_checks_85 : decode cX0_checks 85 = .ok (.invokevirtual 381, 3) := dk_182 1 125 (dk_at dksX0_checks_3 15 rfl rfl)
theorem dX0_checks_88 : decode cX0_checks 88 = .ok (.ifCond .ne 13, 3) := dk_154 0 13 (dk_at dksX0_checks_3 18 rfl rfl)
theorem dX0_checks_91 : decode cX0_checks 91 = .ok (.aload_n 0, 1) := dk_42 (dk_at dksX0_checks_3 21 rfl rfl)
theorem dX0_checks_92 : decode cX0_checks 92 = .ok (.bipush 10, 2) := dk_16 10 (dk_at dksX0_checks_3 22 rfl rfl)
theorem dX0_checks_94 : decode cX0_checks 94 = .ok (.iload_n 2, 1) := dk_28 (dk_at dksX0_checks_4 0 rfl rfl)
theorem dX0_checks_95 : decode cX0_checks 95 = .ok (.iload 4, 2) := dk_21 4 (dk_at dksX0_checks_4 1 rfl rfl)
theorem dX0_checks_97 : decode cX0_checks 97 = .ok (.invokevirtual 246, 3) := dk_182 0 246 (dk_at dksX0_checks_4 3 rfl rfl)
theorem dX0_checks_100 : decode cX0_checks 100 = .ok (.athrow, 1) := dk_191 (dk_at dksX0_checks_4 6 rfl rfl)
theorem dX0_checks_101 : decode cX0_checks 101 = .ok (.iinc 4 1, 3) := dk_132 4 1 (dk_at dksX0_checks_4 7 rfl rfl)
theorem dX0_checks_104 : decode cX0_checks 104 = .ok (.goto (-66), 3) := dk_167 255 190 (dk_at dksX0_checks_4 10 rfl rfl)
theorem dX0_checks_107 : decode cX0_checks 107 = .ok (.iinc 2 1, 3) := dk_132 2 1 (dk_at dksX0_checks_4 13 rfl rfl)
theorem dX0_checks_110 : decode cX0_checks 110 = .ok (.goto (-108), 3) := dk_167 255 148 (dk_at dksX0_checks_4 16 rfl rfl)
theorem dX0_checks_113 : decode cX0_checks 113 = .ok (.return_, 1) := dk_177 (dk_at dksX0_checks_4 19 rfl rfl)
abbrev cX0_takesBack : ByteArray := prog_1_method_32_code
def yX0_takesBack : MethodName := ⟨RX0, "takesBack", "([LPondHouse$Kind;[LPondHouse$Fixed;)V"⟩
def dkwX0_takesBack_3 : List UInt8 := [180, 1, 100, 29, 50, 3, 25, 4, 180, 1, 96, 3, 16, 40, 184, 1, 90, 132, 3, 1, 167, 255, 179, 177]
abbrev dktX0_takesBack_3 : List UInt8 := dkwX0_takesBack_3 ++ []
def dkwX0_takesBack_2 : List UInt8 := [181, 1, 53, 42, 180, 1, 87, 29, 50, 3, 25, 4, 180, 1, 84, 3, 16, 40, 184, 1, 90, 42]
abbrev dktX0_takesBack_2 : List UInt8 := dkwX0_takesBack_2 ++ dktX0_takesBack_3
def dkwX0_takesBack_1 : List UInt8 := [29, 50, 58, 4, 25, 4, 42, 180, 1, 46, 29, 50, 181, 0, 47, 25, 4, 42, 180, 1, 49, 29, 50]
abbrev dktX0_takesBack_1 : List UInt8 := dkwX0_takesBack_1 ++ dktX0_takesBack_2
def dkwX0_takesBack_0 : List UInt8 := [42, 43, 181, 0, 213, 42, 44, 181, 0, 28, 3, 62, 29, 42, 180, 0, 40, 162, 0, 75, 42, 180, 0, 43]
abbrev dktX0_takesBack_0 : List UInt8 := dkwX0_takesBack_0 ++ dktX0_takesBack_1
theorem dksX0_takesBack_0 : cX0_takesBack.data.toList.drop 0 = dktX0_takesBack_0 := by decide +kernel
theorem dksX0_takesBack_1 : cX0_takesBack.data.toList.drop 24 = dktX0_takesBack_1 := dk_seg dksX0_takesBack_0 24 rfl rfl
theorem dksX0_takesBack_2 : cX0_takesBack.data.toList.drop 47 = dktX0_takesBack_2 := dk_seg dksX0_takesBack_1 23 rfl rfl
theorem dksX0_takesBack_3 : cX0_takesBack.data.toList.drop 69 = dktX0_takesBack_3 := dk_seg dksX0_takesBack_2 22 rfl rfl
theorem dX0_takesBack_0 : decode cX0_takesBack 0 = .ok (.aload_n 0, 1) := dk_42 (dk_at dksX0_takesBack_0 0 rfl rfl)
theorem dX0_takesBack_1 : decode cX0_takesBack 1 = .ok (.aload_n 1, 1) := dk_43 (dk_at dksX0_takesBack_0 1 rfl rfl)
theorem dX0_takesBack_2 : decode cX0_takesBack 2 = .ok (.putfield 213, 3) := dk_181 0 213 (dk_at dksX0_takesBack_0 2 rfl rfl)
theorem dX0_takesBack_5 : decode cX0_takesBack 5 = .ok (.aload_n 0, 1) := dk_42 (dk_at dksX0_takesBack_0 5 rfl rfl)
theorem dX0_takesBack_6 : decode cX0_takesBack 6 = .ok (.aload_n 2, 1) := dk_44 (dk_at dksX0_takesBack_0 6 rfl rfl)
theorem dX0_takesBack_7 : decode cX0_takesBack 7 = .ok (.putfield 28, 3) := dk_181 0 28 (dk_at dksX0_takesBack_0 7 rfl rfl)
theorem dX0_takesBack_10 : decode cX0_takesBack 10 = .ok (.iconst 0, 1) := dk_3 (dk_at dksX0_takesBack_0 10 rfl rfl)
theorem dX0_takesBack_11 : decode cX0_takesBack 11 = .ok (.istore_n 3, 1) := dk_62 (dk_at dksX0_takesBack_0 11 rfl rfl)
theorem dX0_takesBack_12 : decode cX0_takesBack 12 = .ok (.iload_n 3, 1) := dk_29 (dk_at dksX0_takesBack_0 12 rfl rfl)
theorem dX0_takesBack_13 : decode cX0_takesBack 13 = .ok (.aload_n 0, 1) := dk_42 (dk_at dksX0_takesBack_0 13 rfl rfl)
theorem dX0_takesBack_14 : decode cX0_takesBack 14 = .ok (.getfield 40, 3) := dk_180 0 40 (dk_at dksX0_takesBack_0 14 rfl rfl)
theorem dX0_takesBack_17 : decode cX0_takesBack 17 = .ok (.if_icmp .ge 75, 3) := dk_162 0 75 (dk_at dksX0_takesBack_0 17 rfl rfl)
theorem dX0_takesBack_20 : decode cX0_takesBack 20 = .ok (.aload_n 0, 1) := dk_42 (dk_at dksX0_takesBack_0 20 rfl rfl)
theorem dX0_takesBack_21 : decode cX0_takesBack 21 = .ok (.getfield 43, 3) := dk_180 0 43 (dk_at dksX0_takesBack_0 21 rfl rfl)
theorem dX0_takesBack_24 : decode cX0_takesBack 24 = .ok (.iload_n 3, 1) := dk_29 (dk_at dksX0_takesBack_1 0 rfl rfl)
theorem dX0_takesBack_25 : decode cX0_takesBack 25 = .ok (.aaload, 1) := dk_50 (dk_at dksX0_takesBack_1 1 rfl rfl)
theorem dX0_takesBack_26 : decode cX0_takesBack 26 = .ok (.astore 4, 2) := dk_58 4 (dk_at dksX0_takesBack_1 2 rfl rfl)
theorem dX0_takesBack_28 : decode cX0_takesBack 28 = .ok (.aload 4, 2) := dk_25 4 (dk_at dksX0_takesBack_1 4 rfl rfl)
theorem dX0_takesBack_30 : decode cX0_takesBack 30 = .ok (.aload_n 0, 1) := dk_42 (dk_at dksX0_takesBack_1 6 rfl rfl)
theorem dX0_takesBack_31 : decode cX0_takesBack 31 = .ok (.getfield 302, 3) := dk_180 1 46 (dk_at dksX0_takesBack_1 7 rfl rfl)
theorem dX0_takesBack_34 : decode cX0_takesBack 34 = .ok (.iload_n 3, 1) := dk_29 (dk_at dksX0_takesBack_1 10 rfl rfl)
theorem dX0_takesBack_35 : decode cX0_takesBack 35 = .ok (.aaload, 1) := dk_50 (dk_at dksX0_takesBack_1 11 rfl rfl)
theorem dX0_takesBack_36 : decode cX0_takesBack 36 = .ok (.putfield 47, 3) := dk_181 0 47 (dk_at dksX0_takesBack_1 12 rfl rfl)
theorem dX0_takesBack_39 : decode cX0_takesBack 39 = .ok (.aload 4, 2) := dk_25 4 (dk_at dksX0_takesBack_1 15 rfl rfl)
theorem dX0_takesBack_41 : decode cX0_takesBack 41 = .ok (.aload_n 0, 1) := dk_42 (dk_at dksX0_takesBack_1 17 rfl rfl)
theorem dX0_takesBack_42 : decode cX0_takesBack 42 = .ok (.getfield 305, 3) := dk_180 1 49 (dk_at dksX0_takesBack_1 18 rfl rfl)
theorem dX0_takesBack_45 : decode cX0_takesBack 45 = .ok (.iload_n 3, 1) := dk_29 (dk_at dksX0_takesBack_1 21 rfl rfl)
theorem dX0_takesBack_46 : decode cX0_takesBack 46 = .ok (.aaload, 1) := dk_50 (dk_at dksX0_takesBack_1 22 rfl rfl)
theorem dX0_takesBack_47 : decode cX0_takesBack 47 = .ok (.putfield 309, 3) := dk_181 1 53 (dk_at dksX0_takesBack_2 0 rfl rfl)
theorem dX0_takesBack_50 : decode cX0_takesBack 50 = .ok (.aload_n 0, 1) := dk_42 (dk_at dksX0_takesBack_2 3 rfl rfl)
theorem dX0_takesBack_51 : decode cX0_takesBack 51 = .ok (.getfield 343, 3) := dk_180 1 87 (dk_at dksX0_takesBack_2 4 rfl rfl)
theorem dX0_takesBack_54 : decode cX0_takesBack 54 = .ok (.iload_n 3, 1) := dk_29 (dk_at dksX0_takesBack_2 7 rfl rfl)
theorem dX0_takesBack_55 : decode cX0_takesBack 55 = .ok (.aaload, 1) := dk_50 (dk_at dksX0_takesBack_2 8 rfl rfl)
theorem dX0_takesBack_56 : decode cX0_takesBack 56 = .ok (.iconst 0, 1) := dk_3 (dk_at dksX0_takesBack_2 9 rfl rfl)
theorem dX0_takesBack_57 : decode cX0_takesBack 57 = .ok (.aload 4, 2) := dk_25 4 (dk_at dksX0_takesBack_2 10 rfl rfl)
theorem dX0_takesBack_59 : decode cX0_takesBack 59 = .ok (.getfield 340, 3) := dk_180 1 84 (dk_at dksX0_takesBack_2 12 rfl rfl)
theorem dX0_takesBack_62 : decode cX0_takesBack 62 = .ok (.iconst 0, 1) := dk_3 (dk_at dksX0_takesBack_2 15 rfl rfl)
theorem dX0_takesBack_63 : decode cX0_takesBack 63 = .ok (.bipush 40, 2) := dk_16 40 (dk_at dksX0_takesBack_2 16 rfl rfl)
theorem dX0_takesBack_65 : decode cX0_takesBack 65 = .ok (.invokestatic 346, 3) := dk_184 1 90 (dk_at dksX0_takesBack_2 18 rfl rfl)
theorem dX0_takesBack_68 : decode cX0_takesBack 68 = .ok (.aload_n 0, 1) := dk_42 (dk_at dksX0_takesBack_2 21 rfl rfl)
theorem dX0_takesBack_69 : decode cX0_takesBack 69 = .ok (.getfield 356, 3) := dk_180 1 100 (dk_at dksX0_takesBack_3 0 rfl rfl)
theorem dX0_takesBack_72 : decode cX0_takesBack 72 = .ok (.iload_n 3, 1) := dk_29 (dk_at dksX0_takesBack_3 3 rfl rfl)
theorem dX0_takesBack_73 : decode cX0_takesBack 73 = .ok (.aaload, 1) := dk_50 (dk_at dksX0_takesBack_3 4 rfl rfl)
theorem dX0_takesBack_74 : decode cX0_takesBack 74 = .ok (.iconst 0, 1) := dk_3 (dk_at dksX0_takesBack_3 5 rfl rfl)
theorem dX0_takesBack_75 : decode cX0_takesBack 75 = .ok (.aload 4, 2) := dk_25 4 (dk_at dksX0_takesBack_3 6 rfl rfl)
theorem dX0_takesBack_77 : decode cX0_takesBack 77 = .ok (.getfield 352, 3) := dk_180 1 96 (dk_at dksX0_takesBack_3 8 rfl rfl)
theorem dX0_takesBack_80 : decode cX0_takesBack 80 = .ok (.iconst 0, 1) := dk_3 (dk_at dksX0_takesBack_3 11 rfl rfl)
theorem dX0_takesBack_81 : decode cX0_takesBack 81 = .ok (.bipush 40, 2) := dk_16 40 (dk_at dksX0_takesBack_3 12 rfl rfl)
theorem dX0_takesBack_83 : decode cX0_takesBack 83 = .ok (.invokestatic 346, 3) := dk_184 1 90 (dk_at dksX0_takesBack_3 14 rfl rfl)
theorem dX0_takesBack_86 : decode cX0_takesBack 86 = .ok (.iinc 3 1, 3) := dk_132 3 1 (dk_at dksX0_takesBack_3 17 rfl rfl)
theorem dX0_takesBack_89 : decode cX0_takesBack 89 = .ok (.goto (-77), 3) := dk_167 255 179 (dk_at dksX0_takesBack_3 20 rfl rfl)
theorem dX0_takesBack_92 : decode cX0_takesBack 92 = .ok (.return_, 1) := dk_177 (dk_at dksX0_takesBack_3 23 rfl rfl)
abbrev cX0_refusal : ByteArray := prog_1_method_46_code
def yX0_refusal : MethodName := ⟨RX0, "refusal", "(I)I"⟩
def dkwX0_refusal_1 : List UInt8 := [5, 160, 0, 10, 42, 180, 1, 225, 167, 0, 4, 2, 172]
abbrev dktX0_refusal_1 : List UInt8 := dkwX0_refusal_1 ++ []
def dkwX0_refusal_0 : List UInt8 := [27, 154, 0, 10, 42, 180, 1, 221, 167, 0, 28, 27, 4, 160, 0, 10, 42, 180, 1, 222, 167, 0, 16, 27]
abbrev dktX0_refusal_0 : List UInt8 := dkwX0_refusal_0 ++ dktX0_refusal_1
theorem dksX0_refusal_0 : cX0_refusal.data.toList.drop 0 = dktX0_refusal_0 := by decide +kernel
theorem dksX0_refusal_1 : cX0_refusal.data.toList.drop 24 = dktX0_refusal_1 := dk_seg dksX0_refusal_0 24 rfl rfl
theorem dX0_refusal_0 : decode cX0_refusal 0 = .ok (.iload_n 1, 1) := dk_27 (dk_at dksX0_refusal_0 0 rfl rfl)
theorem dX0_refusal_1 : decode cX0_refusal 1 = .ok (.ifCond .ne 10, 3) := dk_154 0 10 (dk_at dksX0_refusal_0 1 rfl rfl)
theorem dX0_refusal_4 : decode cX0_refusal 4 = .ok (.aload_n 0, 1) := dk_42 (dk_at dksX0_refusal_0 4 rfl rfl)
theorem dX0_refusal_5 : decode cX0_refusal 5 = .ok (.getfield 477, 3) := dk_180 1 221 (dk_at dksX0_refusal_0 5 rfl rfl)
theorem dX0_refusal_8 : decode cX0_refusal 8 = .ok (.goto 28, 3) := dk_167 0 28 (dk_at dksX0_refusal_0 8 rfl rfl)
theorem dX0_refusal_11 : decode cX0_refusal 11 = .ok (.iload_n 1, 1) := dk_27 (dk_at dksX0_refusal_0 11 rfl rfl)
theorem dX0_refusal_12 : decode cX0_refusal 12 = .ok (.iconst 1, 1) := dk_4 (dk_at dksX0_refusal_0 12 rfl rfl)
theorem dX0_refusal_13 : decode cX0_refusal 13 = .ok (.if_icmp .ne 10, 3) := dk_160 0 10 (dk_at dksX0_refusal_0 13 rfl rfl)
theorem dX0_refusal_16 : decode cX0_refusal 16 = .ok (.aload_n 0, 1) := dk_42 (dk_at dksX0_refusal_0 16 rfl rfl)
theorem dX0_refusal_17 : decode cX0_refusal 17 = .ok (.getfield 478, 3) := dk_180 1 222 (dk_at dksX0_refusal_0 17 rfl rfl)
theorem dX0_refusal_20 : decode cX0_refusal 20 = .ok (.goto 16, 3) := dk_167 0 16 (dk_at dksX0_refusal_0 20 rfl rfl)
theorem dX0_refusal_23 : decode cX0_refusal 23 = .ok (.iload_n 1, 1) := dk_27 (dk_at dksX0_refusal_0 23 rfl rfl)
theorem dX0_refusal_24 : decode cX0_refusal 24 = .ok (.iconst 2, 1) := dk_5 (dk_at dksX0_refusal_1 0 rfl rfl)
theorem dX0_refusal_25 : decode cX0_refusal 25 = .ok (.if_icmp .ne 10, 3) := dk_160 0 10 (dk_at dksX0_refusal_1 1 rfl rfl)
theorem dX0_refusal_28 : decode cX0_refusal 28 = .ok (.aload_n 0, 1) := dk_42 (dk_at dksX0_refusal_1 4 rfl rfl)
theorem dX0_refusal_29 : decode cX0_refusal 29 = .ok (.getfield 481, 3) := dk_180 1 225 (dk_at dksX0_refusal_1 5 rfl rfl)
theorem dX0_refusal_32 : decode cX0_refusal 32 = .ok (.goto 4, 3) := dk_167 0 4 (dk_at dksX0_refusal_1 8 rfl rfl)
theorem dX0_refusal_35 : decode cX0_refusal 35 = .ok (.iconst (-1), 1) := dk_2 (dk_at dksX0_refusal_1 11 rfl rfl)
theorem dX0_refusal_36 : decode cX0_refusal 36 = .ok (.ireturn, 1) := dk_172 (dk_at dksX0_refusal_1 12 rfl rfl)
abbrev cX0_apply : ByteArray := prog_1_method_47_code
def yX0_apply : MethodName := ⟨RX0, "apply", "(I)Z"⟩
def dkwX0_apply_2 : List UInt8 := [4, 172]
abbrev dktX0_apply_2 : List UInt8 := dkwX0_apply_2 ++ []
def dkwX0_apply_1 : List UInt8 := [180, 1, 231, 27, 50, 181, 1, 128, 42, 180, 1, 128, 4, 181, 1, 138, 42, 180, 1, 128, 3, 181, 1, 216]
abbrev dktX0_apply_1 : List UInt8 := dkwX0_apply_1 ++ dktX0_apply_2
def dkwX0_apply_0 : List UInt8 := [27, 155, 0, 18, 27, 42, 180, 1, 228, 162, 0, 10, 42, 180, 1, 128, 198, 0, 5, 3, 172, 42, 42]
abbrev dktX0_apply_0 : List UInt8 := dkwX0_apply_0 ++ dktX0_apply_1
theorem dksX0_apply_0 : cX0_apply.data.toList.drop 0 = dktX0_apply_0 := by decide +kernel
theorem dksX0_apply_1 : cX0_apply.data.toList.drop 23 = dktX0_apply_1 := dk_seg dksX0_apply_0 23 rfl rfl
theorem dksX0_apply_2 : cX0_apply.data.toList.drop 47 = dktX0_apply_2 := dk_seg dksX0_apply_1 24 rfl rfl
theorem dX0_apply_0 : decode cX0_apply 0 = .ok (.iload_n 1, 1) := dk_27 (dk_at dksX0_apply_0 0 rfl rfl)
theorem dX0_apply_1 : decode cX0_apply 1 = .ok (.ifCond .lt 18, 3) := dk_155 0 18 (dk_at dksX0_apply_0 1 rfl rfl)
theorem dX0_apply_4 : decode cX0_apply 4 = .ok (.iload_n 1, 1) := dk_27 (dk_at dksX0_apply_0 4 rfl rfl)
theorem dX0_apply_5 : decode cX0_apply 5 = .ok (.aload_n 0, 1) := dk_42 (dk_at dksX0_apply_0 5 rfl rfl)
theorem dX0_apply_6 : decode cX0_apply 6 = .ok (.getfield 484, 3) := dk_180 1 228 (dk_at dksX0_apply_0 6 rfl rfl)
theorem dX0_apply_9 : decode cX0_apply 9 = .ok (.if_icmp .ge 10, 3) := dk_162 0 10 (dk_at dksX0_apply_0 9 rfl rfl)
theorem dX0_apply_12 : decode cX0_apply 12 = .ok (.aload_n 0, 1) := dk_42 (dk_at dksX0_apply_0 12 rfl rfl)
theorem dX0_apply_13 : decode cX0_apply 13 = .ok (.getfield 384, 3) := dk_180 1 128 (dk_at dksX0_apply_0 13 rfl rfl)
theorem dX0_apply_16 : decode cX0_apply 16 = .ok (.ifnull 5, 3) := dk_198 0 5 (dk_at dksX0_apply_0 16 rfl rfl)
theorem dX0_apply_19 : decode cX0_apply 19 = .ok (.iconst 0, 1) := dk_3 (dk_at dksX0_apply_0 19 rfl rfl)
theorem dX0_apply_20 : decode cX0_apply 20 = .ok (.ireturn, 1) := dk_172 (dk_at dksX0_apply_0 20 rfl rfl)
theorem dX0_apply_21 : decode cX0_apply 21 = .ok (.aload_n 0, 1) := dk_42 (dk_at dksX0_apply_0 21 rfl rfl)
theorem dX0_apply_22 : decode cX0_apply 22 = .ok (.aload_n 0, 1) := dk_42 (dk_at dksX0_apply_0 22 rfl rfl)
theorem dX0_apply_23 : decode cX0_apply 23 = .ok (.getfield 487, 3) := dk_180 1 231 (dk_at dksX0_apply_1 0 rfl rfl)
theorem dX0_apply_26 : decode cX0_apply 26 = .ok (.iload_n 1, 1) := dk_27 (dk_at dksX0_apply_1 3 rfl rfl)
theorem dX0_apply_27 : decode cX0_apply 27 = .ok (.aaload, 1) := dk_50 (dk_at dksX0_apply_1 4 rfl rfl)
theorem dX0_apply_28 : decode cX0_apply 28 = .ok (.putfield 384, 3) := dk_181 1 128 (dk_at dksX0_apply_1 5 rfl rfl)
theorem dX0_apply_31 : decode cX0_apply 31 = .ok (.aload_n 0, 1) := dk_42 (dk_at dksX0_apply_1 8 rfl rfl)
theorem dX0_apply_32 : decode cX0_apply 32 = .ok (.getfield 384, 3) := dk_180 1 128 (dk_at dksX0_apply_1 9 rfl rfl)
theorem dX0_apply_35 : decode cX0_apply 35 = .ok (.iconst 1, 1) := dk_4 (dk_at dksX0_apply_1 12 rfl rfl)
theorem dX0_apply_36 : decode cX0_apply 36 = .ok (.putfield 394, 3) := dk_181 1 138 (dk_at dksX0_apply_1 13 rfl rfl)
theorem dX0_apply_39 : decode cX0_apply 39 = .ok (.aload_n 0, 1) := dk_42 (dk_at dksX0_apply_1 16 rfl rfl)
theorem dX0_apply_40 : decode cX0_apply 40 = .ok (.getfield 384, 3) := dk_180 1 128 (dk_at dksX0_apply_1 17 rfl rfl)
theorem dX0_apply_43 : decode cX0_apply 43 = .ok (.iconst 0, 1) := dk_3 (dk_at dksX0_apply_1 20 rfl rfl)
theorem dX0_apply_44 : decode cX0_apply 44 = .ok (.putfield 472, 3) := dk_181 1 216 (dk_at dksX0_apply_1 21 rfl rfl)
theorem dX0_apply_47 : decode cX0_apply 47 = .ok (.iconst 1, 1) := dk_4 (dk_at dksX0_apply_2 0 rfl rfl)
theorem dX0_apply_48 : decode cX0_apply 48 = .ok (.ireturn, 1) := dk_172 (dk_at dksX0_apply_2 1 rfl rfl)
abbrev cX0_applied : ByteArray := prog_1_method_48_code
def yX0_applied : MethodName := ⟨RX0, "applied", "(I)I"⟩
def dkwX0_applied_1 : List UInt8 := [2, 172]
abbrev dktX0_applied_1 : List UInt8 := dkwX0_applied_1 ++ []
def dkwX0_applied_0 : List UInt8 := [27, 155, 0, 23, 27, 42, 180, 1, 228, 162, 0, 15, 42, 180, 1, 231, 27, 50, 180, 1, 138, 167, 0, 4]
abbrev dktX0_applied_0 : List UInt8 := dkwX0_applied_0 ++ dktX0_applied_1
theorem dksX0_applied_0 : cX0_applied.data.toList.drop 0 = dktX0_applied_0 := by decide +kernel
theorem dksX0_applied_1 : cX0_applied.data.toList.drop 24 = dktX0_applied_1 := dk_seg dksX0_applied_0 24 rfl rfl
theorem dX0_applied_0 : decode cX0_applied 0 = .ok (.iload_n 1, 1) := dk_27 (dk_at dksX0_applied_0 0 rfl rfl)
theorem dX0_applied_1 : decode cX0_applied 1 = .ok (.ifCond .lt 23, 3) := dk_155 0 23 (dk_at dksX0_applied_0 1 rfl rfl)
theorem dX0_applied_4 : decode cX0_applied 4 = .ok (.iload_n 1, 1) := dk_27 (dk_at dksX0_applied_0 4 rfl rfl)
theorem dX0_applied_5 : decode cX0_applied 5 = .ok (.aload_n 0, 1) := dk_42 (dk_at dksX0_applied_0 5 rfl rfl)
theorem dX0_applied_6 : decode cX0_applied 6 = .ok (.getfield 484, 3) := dk_180 1 228 (dk_at dksX0_applied_0 6 rfl rfl)
theorem dX0_applied_9 : decode cX0_applied 9 = .ok (.if_icmp .ge 15, 3) := dk_162 0 15 (dk_at dksX0_applied_0 9 rfl rfl)
theorem dX0_applied_12 : decode cX0_applied 12 = .ok (.aload_n 0, 1) := dk_42 (dk_at dksX0_applied_0 12 rfl rfl)
theorem dX0_applied_13 : decode cX0_applied 13 = .ok (.getfield 487, 3) := dk_180 1 231 (dk_at dksX0_applied_0 13 rfl rfl)
theorem dX0_applied_16 : decode cX0_applied 16 = .ok (.iload_n 1, 1) := dk_27 (dk_at dksX0_applied_0 16 rfl rfl)
theorem dX0_applied_17 : decode cX0_applied 17 = .ok (.aaload, 1) := dk_50 (dk_at dksX0_applied_0 17 rfl rfl)
theorem dX0_applied_18 : decode cX0_applied 18 = .ok (.getfield 394, 3) := dk_180 1 138 (dk_at dksX0_applied_0 18 rfl rfl)
theorem dX0_applied_21 : decode cX0_applied 21 = .ok (.goto 4, 3) := dk_167 0 4 (dk_at dksX0_applied_0 21 rfl rfl)
theorem dX0_applied_24 : decode cX0_applied 24 = .ok (.iconst (-1), 1) := dk_2 (dk_at dksX0_applied_1 0 rfl rfl)
theorem dX0_applied_25 : decode cX0_applied 25 = .ok (.ireturn, 1) := dk_172 (dk_at dksX0_applied_1 1 rfl rfl)
abbrev cX0_outcome : ByteArray := prog_1_method_49_code
def yX0_outcome : MethodName := ⟨RX0, "outcome", "(I)I"⟩
def dkwX0_outcome_1 : List UInt8 := [180, 1, 192, 27, 46, 172]
abbrev dktX0_outcome_1 : List UInt8 := dkwX0_outcome_1 ++ []
def dkwX0_outcome_0 : List UInt8 := [42, 180, 1, 189, 153, 0, 15, 27, 155, 0, 11, 27, 42, 180, 0, 40, 161, 0, 7, 2, 167, 0, 9, 42]
abbrev dktX0_outcome_0 : List UInt8 := dkwX0_outcome_0 ++ dktX0_outcome_1
theorem dksX0_outcome_0 : cX0_outcome.data.toList.drop 0 = dktX0_outcome_0 := by decide +kernel
theorem dksX0_outcome_1 : cX0_outcome.data.toList.drop 24 = dktX0_outcome_1 := dk_seg dksX0_outcome_0 24 rfl rfl
theorem dX0_outcome_0 : decode cX0_outcome 0 = .ok (.aload_n 0, 1) := dk_42 (dk_at dksX0_outcome_0 0 rfl rfl)
theorem dX0_outcome_1 : decode cX0_outcome 1 = .ok (.getfield 445, 3) := dk_180 1 189 (dk_at dksX0_outcome_0 1 rfl rfl)
theorem dX0_outcome_4 : decode cX0_outcome 4 = .ok (.ifCond .eq 15, 3) := dk_153 0 15 (dk_at dksX0_outcome_0 4 rfl rfl)
theorem dX0_outcome_7 : decode cX0_outcome 7 = .ok (.iload_n 1, 1) := dk_27 (dk_at dksX0_outcome_0 7 rfl rfl)
theorem dX0_outcome_8 : decode cX0_outcome 8 = .ok (.ifCond .lt 11, 3) := dk_155 0 11 (dk_at dksX0_outcome_0 8 rfl rfl)
theorem dX0_outcome_11 : decode cX0_outcome 11 = .ok (.iload_n 1, 1) := dk_27 (dk_at dksX0_outcome_0 11 rfl rfl)
theorem dX0_outcome_12 : decode cX0_outcome 12 = .ok (.aload_n 0, 1) := dk_42 (dk_at dksX0_outcome_0 12 rfl rfl)
theorem dX0_outcome_13 : decode cX0_outcome 13 = .ok (.getfield 40, 3) := dk_180 0 40 (dk_at dksX0_outcome_0 13 rfl rfl)
theorem dX0_outcome_16 : decode cX0_outcome 16 = .ok (.if_icmp .lt 7, 3) := dk_161 0 7 (dk_at dksX0_outcome_0 16 rfl rfl)
theorem dX0_outcome_19 : decode cX0_outcome 19 = .ok (.iconst (-1), 1) := dk_2 (dk_at dksX0_outcome_0 19 rfl rfl)
theorem dX0_outcome_20 : decode cX0_outcome 20 = .ok (.goto 9, 3) := dk_167 0 9 (dk_at dksX0_outcome_0 20 rfl rfl)
theorem dX0_outcome_23 : decode cX0_outcome 23 = .ok (.aload_n 0, 1) := dk_42 (dk_at dksX0_outcome_0 23 rfl rfl)
theorem dX0_outcome_24 : decode cX0_outcome 24 = .ok (.getfield 448, 3) := dk_180 1 192 (dk_at dksX0_outcome_1 0 rfl rfl)
theorem dX0_outcome_27 : decode cX0_outcome 27 = .ok (.iload_n 1, 1) := dk_27 (dk_at dksX0_outcome_1 3 rfl rfl)
theorem dX0_outcome_28 : decode cX0_outcome 28 = .ok (.iaload, 1) := dk_46 (dk_at dksX0_outcome_1 4 rfl rfl)
theorem dX0_outcome_29 : decode cX0_outcome 29 = .ok (.ireturn, 1) := dk_172 (dk_at dksX0_outcome_1 5 rfl rfl)
abbrev cX0_ran : ByteArray := prog_1_method_50_code
def yX0_ran : MethodName := ⟨RX0, "ran", "(II)I"⟩
def dkwX0_ran_1 : List UInt8 := [180, 0, 73, 7, 27, 104, 28, 96, 46, 167, 0, 4, 2, 172]
abbrev dktX0_ran_1 : List UInt8 := dkwX0_ran_1 ++ []
def dkwX0_ran_0 : List UInt8 := [27, 155, 0, 33, 27, 42, 180, 0, 70, 162, 0, 25, 28, 155, 0, 21, 28, 7, 162, 0, 16, 42]
abbrev dktX0_ran_0 : List UInt8 := dkwX0_ran_0 ++ dktX0_ran_1
theorem dksX0_ran_0 : cX0_ran.data.toList.drop 0 = dktX0_ran_0 := by decide +kernel
theorem dksX0_ran_1 : cX0_ran.data.toList.drop 22 = dktX0_ran_1 := dk_seg dksX0_ran_0 22 rfl rfl
theorem dX0_ran_0 : decode cX0_ran 0 = .ok (.iload_n 1, 1) := dk_27 (dk_at dksX0_ran_0 0 rfl rfl)
theorem dX0_ran_1 : decode cX0_ran 1 = .ok (.ifCond .lt 33, 3) := dk_155 0 33 (dk_at dksX0_ran_0 1 rfl rfl)
theorem dX0_ran_4 : decode cX0_ran 4 = .ok (.iload_n 1, 1) := dk_27 (dk_at dksX0_ran_0 4 rfl rfl)
theorem dX0_ran_5 : decode cX0_ran 5 = .ok (.aload_n 0, 1) := dk_42 (dk_at dksX0_ran_0 5 rfl rfl)
theorem dX0_ran_6 : decode cX0_ran 6 = .ok (.getfield 70, 3) := dk_180 0 70 (dk_at dksX0_ran_0 6 rfl rfl)
theorem dX0_ran_9 : decode cX0_ran 9 = .ok (.if_icmp .ge 25, 3) := dk_162 0 25 (dk_at dksX0_ran_0 9 rfl rfl)
theorem dX0_ran_12 : decode cX0_ran 12 = .ok (.iload_n 2, 1) := dk_28 (dk_at dksX0_ran_0 12 rfl rfl)
theorem dX0_ran_13 : decode cX0_ran 13 = .ok (.ifCond .lt 21, 3) := dk_155 0 21 (dk_at dksX0_ran_0 13 rfl rfl)
theorem dX0_ran_16 : decode cX0_ran 16 = .ok (.iload_n 2, 1) := dk_28 (dk_at dksX0_ran_0 16 rfl rfl)
theorem dX0_ran_17 : decode cX0_ran 17 = .ok (.iconst 4, 1) := dk_7 (dk_at dksX0_ran_0 17 rfl rfl)
theorem dX0_ran_18 : decode cX0_ran 18 = .ok (.if_icmp .ge 16, 3) := dk_162 0 16 (dk_at dksX0_ran_0 18 rfl rfl)
theorem dX0_ran_21 : decode cX0_ran 21 = .ok (.aload_n 0, 1) := dk_42 (dk_at dksX0_ran_0 21 rfl rfl)
theorem dX0_ran_22 : decode cX0_ran 22 = .ok (.getfield 73, 3) := dk_180 0 73 (dk_at dksX0_ran_1 0 rfl rfl)
theorem dX0_ran_25 : decode cX0_ran 25 = .ok (.iconst 4, 1) := dk_7 (dk_at dksX0_ran_1 3 rfl rfl)
theorem dX0_ran_26 : decode cX0_ran 26 = .ok (.iload_n 1, 1) := dk_27 (dk_at dksX0_ran_1 4 rfl rfl)
theorem dX0_ran_27 : decode cX0_ran 27 = .ok (.imul, 1) := dk_104 (dk_at dksX0_ran_1 5 rfl rfl)
theorem dX0_ran_28 : decode cX0_ran 28 = .ok (.iload_n 2, 1) := dk_28 (dk_at dksX0_ran_1 6 rfl rfl)
theorem dX0_ran_29 : decode cX0_ran 29 = .ok (.iadd, 1) := dk_96 (dk_at dksX0_ran_1 7 rfl rfl)
theorem dX0_ran_30 : decode cX0_ran 30 = .ok (.iaload, 1) := dk_46 (dk_at dksX0_ran_1 8 rfl rfl)
theorem dX0_ran_31 : decode cX0_ran 31 = .ok (.goto 4, 3) := dk_167 0 4 (dk_at dksX0_ran_1 9 rfl rfl)
theorem dX0_ran_34 : decode cX0_ran 34 = .ok (.iconst (-1), 1) := dk_2 (dk_at dksX0_ran_1 12 rfl rfl)
theorem dX0_ran_35 : decode cX0_ran 35 = .ok (.ireturn, 1) := dk_172 (dk_at dksX0_ran_1 13 rfl rfl)
abbrev cX0_init : ByteArray := prog_1_method_51_code
def yX0_init : MethodName := ⟨RX0, "<init>", "()V"⟩
def dkwX0_init_16 : List UInt8 := [180, 0, 102, 27, 187, 0, 107, 89, 183, 1, 175, 83, 132, 1, 1, 167, 255, 234, 177]
abbrev dktX0_init_16 : List UInt8 := dkwX0_init_16 ++ []
def dkwX0_init_15 : List UInt8 := [181, 1, 192, 42, 2, 181, 1, 222, 42, 2, 181, 1, 225, 3, 60, 27, 16, 20, 163, 0, 22, 42]
abbrev dktX0_init_15 : List UInt8 := dkwX0_init_15 ++ dktX0_init_16
def dkwX0_init_14 : List UInt8 := [181, 1, 49, 42, 16, 10, 189, 1, 146, 181, 1, 141, 42, 2, 181, 1, 186, 42, 16, 40, 188, 10]
abbrev dktX0_init_14 : List UInt8 := dkwX0_init_14 ++ dktX0_init_15
def dkwX0_init_13 : List UInt8 := [16, 40, 197, 2, 45, 2, 181, 1, 100, 42, 16, 40, 189, 0, 18, 181, 1, 46, 42, 16, 40, 189, 2, 46]
abbrev dktX0_init_13 : List UInt8 := dkwX0_init_13 ++ dktX0_init_14
def dkwX0_init_12 : List UInt8 := [16, 6, 189, 0, 225, 181, 1, 231, 42, 16, 40, 16, 40, 197, 2, 44, 2, 181, 1, 87, 42, 16, 40]
abbrev dktX0_init_12 : List UInt8 := dkwX0_init_12 ++ dktX0_init_13
def dkwX0_init_11 : List UInt8 := [42, 187, 2, 34, 89, 42, 183, 2, 36, 181, 2, 39, 42, 187, 0, 165, 89, 183, 2, 43, 181, 0, 160, 42]
abbrev dktX0_init_11 : List UInt8 := dkwX0_init_11 ++ dktX0_init_12
def dkwX0_init_10 : List UInt8 := [17, 3, 232, 188, 8, 181, 2, 26, 42, 2, 181, 2, 30, 42, 187, 0, 142, 89, 183, 2, 33, 181, 0, 137]
abbrev dktX0_init_10 : List UInt8 := dkwX0_init_10 ++ dktX0_init_11
def dkwX0_init_9 : List UInt8 := [181, 1, 74, 42, 187, 0, 56, 89, 183, 2, 25, 181, 0, 51, 42, 17, 0, 200, 188, 10, 181, 0, 73, 42]
abbrev dktX0_init_9 : List UInt8 := dkwX0_init_9 ++ dktX0_init_10
def dkwX0_init_8 : List UInt8 := [189, 0, 48, 181, 0, 43, 42, 16, 21, 189, 0, 107, 181, 0, 102, 42, 187, 0, 107, 89, 183, 1, 175]
abbrev dktX0_init_8 : List UInt8 := dkwX0_init_8 ++ dktX0_init_9
def dkwX0_init_7 : List UInt8 := [83, 181, 2, 22, 42, 3, 189, 0, 18, 181, 0, 213, 42, 3, 189, 0, 23, 181, 0, 28, 42, 16, 40]
abbrev dktX0_init_7 : List UInt8 := dkwX0_init_7 ++ dktX0_init_8
def dkwX0_init_6 : List UInt8 := [19, 2, 14, 83, 89, 16, 19, 19, 2, 16, 83, 89, 16, 20, 19, 2, 18, 83, 89, 16, 21, 19, 2, 20]
abbrev dktX0_init_6 : List UInt8 := dkwX0_init_6 ++ dktX0_init_7
def dkwX0_init_5 : List UInt8 := [16, 15, 19, 2, 9, 83, 89, 16, 16, 19, 2, 11, 83, 89, 16, 17, 19, 2, 12, 83, 89, 16, 18]
abbrev dktX0_init_5 : List UInt8 := dkwX0_init_5 ++ dktX0_init_6
def dkwX0_init_4 : List UInt8 := [83, 89, 16, 12, 19, 2, 3, 83, 89, 16, 13, 19, 2, 5, 83, 89, 16, 14, 19, 2, 7, 83, 89]
abbrev dktX0_init_4 : List UInt8 := dkwX0_init_4 ++ dktX0_init_5
def dkwX0_init_3 : List UInt8 := [19, 1, 252, 83, 89, 16, 9, 19, 1, 253, 83, 89, 16, 10, 19, 1, 255, 83, 89, 16, 11, 19, 2, 1]
abbrev dktX0_init_3 : List UInt8 := dkwX0_init_3 ++ dktX0_init_4
def dkwX0_init_2 : List UInt8 := [83, 89, 8, 19, 1, 246, 83, 89, 16, 6, 19, 1, 248, 83, 89, 16, 7, 19, 1, 250, 83, 89, 16, 8]
abbrev dktX0_init_2 : List UInt8 := dkwX0_init_2 ++ dktX0_init_3
def dkwX0_init_1 : List UInt8 := [83, 89, 4, 19, 1, 239, 83, 89, 5, 19, 1, 241, 83, 89, 6, 19, 1, 242, 83, 89, 7, 19, 1, 244]
abbrev dktX0_init_1 : List UInt8 := dkwX0_init_1 ++ dktX0_init_2
def dkwX0_init_0 : List UInt8 := [42, 183, 1, 235, 42, 16, 40, 189, 0, 2, 181, 0, 13, 42, 16, 22, 189, 0, 2, 89, 3, 19, 1, 238]
abbrev dktX0_init_0 : List UInt8 := dkwX0_init_0 ++ dktX0_init_1
theorem dksX0_init_0 : cX0_init.data.toList.drop 0 = dktX0_init_0 := by decide +kernel
theorem dksX0_init_1 : cX0_init.data.toList.drop 24 = dktX0_init_1 := dk_seg dksX0_init_0 24 rfl rfl
theorem dksX0_init_2 : cX0_init.data.toList.drop 48 = dktX0_init_2 := dk_seg dksX0_init_1 24 rfl rfl
theorem dksX0_init_3 : cX0_init.data.toList.drop 72 = dktX0_init_3 := dk_seg dksX0_init_2 24 rfl rfl
theorem dksX0_init_4 : cX0_init.data.toList.drop 96 = dktX0_init_4 := dk_seg dksX0_init_3 24 rfl rfl
theorem dksX0_init_5 : cX0_init.data.toList.drop 119 = dktX0_init_5 := dk_seg dksX0_init_4 23 rfl rfl
theorem dksX0_init_6 : cX0_init.data.toList.drop 142 = dktX0_init_6 := dk_seg dksX0_init_5 23 rfl rfl
theorem dksX0_init_7 : cX0_init.data.toList.drop 166 = dktX0_init_7 := dk_seg dksX0_init_6 24 rfl rfl
theorem dksX0_init_8 : cX0_init.data.toList.drop 189 = dktX0_init_8 := dk_seg dksX0_init_7 23 rfl rfl
theorem dksX0_init_9 : cX0_init.data.toList.drop 212 = dktX0_init_9 := dk_seg dksX0_init_8 23 rfl rfl
theorem dksX0_init_10 : cX0_init.data.toList.drop 236 = dktX0_init_10 := dk_seg dksX0_init_9 24 rfl rfl
theorem dksX0_init_11 : cX0_init.data.toList.drop 260 = dktX0_init_11 := dk_seg dksX0_init_10 24 rfl rfl
theorem dksX0_init_12 : cX0_init.data.toList.drop 284 = dktX0_init_12 := dk_seg dksX0_init_11 24 rfl rfl
theorem dksX0_init_13 : cX0_init.data.toList.drop 307 = dktX0_init_13 := dk_seg dksX0_init_12 23 rfl rfl
theorem dksX0_init_14 : cX0_init.data.toList.drop 331 = dktX0_init_14 := dk_seg dksX0_init_13 24 rfl rfl
theorem dksX0_init_15 : cX0_init.data.toList.drop 353 = dktX0_init_15 := dk_seg dksX0_init_14 22 rfl rfl
theorem dksX0_init_16 : cX0_init.data.toList.drop 375 = dktX0_init_16 := dk_seg dksX0_init_15 22 rfl rfl
theorem dX0_init_0 : decode cX0_init 0 = .ok (.aload_n 0, 1) := dk_42 (dk_at dksX0_init_0 0 rfl rfl)
theorem dX0_init_1 : decode cX0_init 1 = .ok (.invokespecial 491, 3) := dk_183 1 235 (dk_at dksX0_init_0 1 rfl rfl)
theorem dX0_init_4 : decode cX0_init 4 = .ok (.aload_n 0, 1) := dk_42 (dk_at dksX0_init_0 4 rfl rfl)
theorem dX0_init_5 : decode cX0_init 5 = .ok (.bipush 40, 2) := dk_16 40 (dk_at dksX0_init_0 5 rfl rfl)
theorem dX0_init_7 : decode cX0_init 7 = .ok (.anewarray 2, 3) := dk_189 0 2 (dk_at dksX0_init_0 7 rfl rfl)
theorem dX0_init_10 : decode cX0_init 10 = .ok (.putfield 13, 3) := dk_181 0 13 (dk_at dksX0_init_0 10 rfl rfl)
theorem dX0_init_13 : decode cX0_init 13 = .ok (.aload_n 0, 1) := dk_42 (dk_at dksX0_init_0 13 rfl rfl)
theorem dX0_init_14 : decode cX0_init 14 = .ok (.bipush 22, 2) := dk_16 22 (dk_at dksX0_init_0 14 rfl rfl)
theorem dX0_init_16 : decode cX0_init 16 = .ok (.anewarray 2, 3) := dk_189 0 2 (dk_at dksX0_init_0 16 rfl rfl)
theorem dX0_init_19 : decode cX0_init 19 = .ok (.dup, 1) := dk_89 (dk_at dksX0_init_0 19 rfl rfl)
theorem dX0_init_20 : decode cX0_init 20 = .ok (.iconst 0, 1) := dk_3 (dk_at dksX0_init_0 20 rfl rfl)
theorem dX0_init_21 : decode cX0_init 21 = .ok (.ldc_w 494, 3) := dk_19 1 238 (dk_at dksX0_init_0 21 rfl rfl)
theorem dX0_init_24 : decode cX0_init 24 = .ok (.aastore, 1) := dk_83 (dk_at dksX0_init_1 0 rfl rfl)
theorem dX0_init_25 : decode cX0_init 25 = .ok (.dup, 1) := dk_89 (dk_at dksX0_init_1 1 rfl rfl)
theorem dX0_init_26 : decode cX0_init 26 = .ok (.iconst 1, 1) := dk_4 (dk_at dksX0_init_1 2 rfl rfl)
theorem dX0_init_27 : decode cX0_init 27 = .ok (.ldc_w 495, 3) := dk_19 1 239 (dk_at dksX0_init_1 3 rfl rfl)
theorem dX0_init_30 : decode cX0_init 30 = .ok (.aastore, 1) := dk_83 (dk_at dksX0_init_1 6 rfl rfl)
theorem dX0_init_31 : decode cX0_init 31 = .ok (.dup, 1) := dk_89 (dk_at dksX0_init_1 7 rfl rfl)
theorem dX0_init_32 : decode cX0_init 32 = .ok (.iconst 2, 1) := dk_5 (dk_at dksX0_init_1 8 rfl rfl)
theorem dX0_init_33 : decode cX0_init 33 = .ok (.ldc_w 497, 3) := dk_19 1 241 (dk_at dksX0_init_1 9 rfl rfl)
theorem dX0_init_36 : decode cX0_init 36 = .ok (.aastore, 1) := dk_83 (dk_at dksX0_init_1 12 rfl rfl)
theorem dX0_init_37 : decode cX0_init 37 = .ok (.dup, 1) := dk_89 (dk_at dksX0_init_1 13 rfl rfl)
theorem dX0_init_38 : decode cX0_init 38 = .ok (.iconst 3, 1) := dk_6 (dk_at dksX0_init_1 14 rfl rfl)
theorem dX0_init_39 : decode cX0_init 39 = .ok (.ldc_w 498, 3) := dk_19 1 242 (dk_at dksX0_init_1 15 rfl rfl)
theorem dX0_init_42 : decode cX0_init 42 = .ok (.aastore, 1) := dk_83 (dk_at dksX0_init_1 18 rfl rfl)
theorem dX0_init_43 : decode cX0_init 43 = .ok (.dup, 1) := dk_89 (dk_at dksX0_init_1 19 rfl rfl)
theorem dX0_init_44 : decode cX0_init 44 = .ok (.iconst 4, 1) := dk_7 (dk_at dksX0_init_1 20 rfl rfl)
theorem dX0_init_45 : decode cX0_init 45 = .ok (.ldc_w 500, 3) := dk_19 1 244 (dk_at dksX0_init_1 21 rfl rfl)
theorem dX0_init_48 : decode cX0_init 48 = .ok (.aastore, 1) := dk_83 (dk_at dksX0_init_2 0 rfl rfl)
theorem dX0_init_49 : decode cX0_init 49 = .ok (.dup, 1) := dk_89 (dk_at dksX0_init_2 1 rfl rfl)
theorem dX0_init_50 : decode cX0_init 50 = .ok (.iconst 5, 1) := dk_8 (dk_at dksX0_init_2 2 rfl rfl)
theorem dX0_init_51 : decode cX0_init 51 = .ok (.ldc_w 502, 3) := dk_19 1 246 (dk_at dksX0_init_2 3 rfl rfl)
theorem dX0_init_54 : decode cX0_init 54 = .ok (.aastore, 1) := dk_83 (dk_at dksX0_init_2 6 rfl rfl)
theorem dX0_init_55 : decode cX0_init 55 = .ok (.dup, 1) := dk_89 (dk_at dksX0_init_2 7 rfl rfl)
theorem dX0_init_56 : decode cX0_init 56 = .ok (.bipush 6, 2) := dk_16 6 (dk_at dksX0_init_2 8 rfl rfl)
theorem dX0_init_58 : decode cX0_init 58 = .ok (.ldc_w 504, 3) := dk_19 1 248 (dk_at dksX0_init_2 10 rfl rfl)
theorem dX0_init_61 : decode cX0_init 61 = .ok (.aastore, 1) := dk_83 (dk_at dksX0_init_2 13 rfl rfl)
theorem dX0_init_62 : decode cX0_init 62 = .ok (.dup, 1) := dk_89 (dk_at dksX0_init_2 14 rfl rfl)
theorem dX0_init_63 : decode cX0_init 63 = .ok (.bipush 7, 2) := dk_16 7 (dk_at dksX0_init_2 15 rfl rfl)
theorem dX0_init_65 : decode cX0_init 65 = .ok (.ldc_w 506, 3) := dk_19 1 250 (dk_at dksX0_init_2 17 rfl rfl)
theorem dX0_init_68 : decode cX0_init 68 = .ok (.aastore, 1) := dk_83 (dk_at dksX0_init_2 20 rfl rfl)
theorem dX0_init_69 : decode cX0_init 69 = .ok (.dup, 1) := dk_89 (dk_at dksX0_init_2 21 rfl rfl)
theorem dX0_init_70 : decode cX0_init 70 = .ok (.bipush 8, 2) := dk_16 8 (dk_at dksX0_init_2 22 rfl rfl)
theorem dX0_init_72 : decode cX0_init 72 = .ok (.ldc_w 508, 3) := dk_19 1 252 (dk_at dksX0_init_3 0 rfl rfl)
theorem dX0_init_75 : decode cX0_init 75 = .ok (.aastore, 1) := dk_83 (dk_at dksX0_init_3 3 rfl rfl)
theorem dX0_init_76 : decode cX0_init 76 = .ok (.dup, 1) := dk_89 (dk_at dksX0_init_3 4 rfl rfl)
theorem dX0_init_77 : decode cX0_init 77 = .ok (.bipush 9, 2) := dk_16 9 (dk_at dksX0_init_3 5 rfl rfl)
theorem dX0_init_79 : decode cX0_init 79 = .ok (.ldc_w 509, 3) := dk_19 1 253 (dk_at dksX0_init_3 7 rfl rfl)
theorem dX0_init_82 : decode cX0_init 82 = .ok (.aastore, 1) := dk_83 (dk_at dksX0_init_3 10 rfl rfl)
theorem dX0_init_83 : decode cX0_init 83 = .ok (.dup, 1) := dk_89 (dk_at dksX0_init_3 11 rfl rfl)
theorem dX0_init_84 : decode cX0_init 84 = .ok (.bipush 10, 2) := dk_16 10 (dk_at dksX0_init_3 12 rfl rfl)
theorem dX0_init_86 : decode cX0_init 86 = .ok (.ldc_w 511, 3) := dk_19 1 255 (dk_at dksX0_init_3 14 rfl rfl)
theorem dX0_init_89 : decode cX0_init 89 = .ok (.aastore, 1) := dk_83 (dk_at dksX0_init_3 17 rfl rfl)
theorem dX0_init_90 : decode cX0_init 90 = .ok (.dup, 1) := dk_89 (dk_at dksX0_init_3 18 rfl rfl)
theorem dX0_init_91 : decode cX0_init 91 = .ok (.bipush 11, 2) := dk_16 11 (dk_at dksX0_init_3 19 rfl rfl)
theorem dX0_init_93 : decode cX0_init 93 = .ok (.ldc_w 513, 3) := dk_19 2 1 (dk_at dksX0_init_3 21 rfl rfl)
theorem dX0_init_96 : decode cX0_init 96 = .ok (.aastore, 1) := dk_83 (dk_at dksX0_init_4 0 rfl rfl)
theorem dX0_init_97 : decode cX0_init 97 = .ok (.dup, 1) := dk_89 (dk_at dksX0_init_4 1 rfl rfl)
theorem dX0_init_98 : decode cX0_init 98 = .ok (.bipush 12, 2) := dk_16 12 (dk_at dksX0_init_4 2 rfl rfl)
theorem dX0_init_100 : decode cX0_init 100 = .ok (.ldc_w 515, 3) := dk_19 2 3 (dk_at dksX0_init_4 4 rfl rfl)
theorem dX0_init_103 : decode cX0_init 103 = .ok (.aastore, 1) := dk_83 (dk_at dksX0_init_4 7 rfl rfl)
theorem dX0_init_104 : decode cX0_init 104 = .ok (.dup, 1) := dk_89 (dk_at dksX0_init_4 8 rfl rfl)
theorem dX0_init_105 : decode cX0_init 105 = .ok (.bipush 13, 2) := dk_16 13 (dk_at dksX0_init_4 9 rfl rfl)
theorem dX0_init_107 : decode cX0_init 107 = .ok (.ldc_w 517, 3) := dk_19 2 5 (dk_at dksX0_init_4 11 rfl rfl)
theorem dX0_init_110 : decode cX0_init 110 = .ok (.aastore, 1) := dk_83 (dk_at dksX0_init_4 14 rfl rfl)
theorem dX0_init_111 : decode cX0_init 111 = .ok (.dup, 1) := dk_89 (dk_at dksX0_init_4 15 rfl rfl)
theorem dX0_init_112 : decode cX0_init 112 = .ok (.bipush 14, 2) := dk_16 14 (dk_at dksX0_init_4 16 rfl rfl)
theorem dX0_init_114 : decode cX0_init 114 = .ok (.ldc_w 519, 3) := dk_19 2 7 (dk_at dksX0_init_4 18 rfl rfl)
theorem dX0_init_117 : decode cX0_init 117 = .ok (.aastore, 1) := dk_83 (dk_at dksX0_init_4 21 rfl rfl)
theorem dX0_init_118 : decode cX0_init 118 = .ok (.dup, 1) := dk_89 (dk_at dksX0_init_4 22 rfl rfl)
theorem dX0_init_119 : decode cX0_init 119 = .ok (.bipush 15, 2) := dk_16 15 (dk_at dksX0_init_5 0 rfl rfl)
theorem dX0_init_121 : decode cX0_init 121 = .ok (.ldc_w 521, 3) := dk_19 2 9 (dk_at dksX0_init_5 2 rfl rfl)
theorem dX0_init_124 : decode cX0_init 124 = .ok (.aastore, 1) := dk_83 (dk_at dksX0_init_5 5 rfl rfl)
theorem dX0_init_125 : decode cX0_init 125 = .ok (.dup, 1) := dk_89 (dk_at dksX0_init_5 6 rfl rfl)
theorem dX0_init_126 : decode cX0_init 126 = .ok (.bipush 16, 2) := dk_16 16 (dk_at dksX0_init_5 7 rfl rfl)
theorem dX0_init_128 : decode cX0_init 128 = .ok (.ldc_w 523, 3) := dk_19 2 11 (dk_at dksX0_init_5 9 rfl rfl)
theorem dX0_init_131 : decode cX0_init 131 = .ok (.aastore, 1) := dk_83 (dk_at dksX0_init_5 12 rfl rfl)
theorem dX0_init_132 : decode cX0_init 132 = .ok (.dup, 1) := dk_89 (dk_at dksX0_init_5 13 rfl rfl)
theorem dX0_init_133 : decode cX0_init 133 = .ok (.bipush 17, 2) := dk_16 17 (dk_at dksX0_init_5 14 rfl rfl)
theorem dX0_init_135 : decode cX0_init 135 = .ok (.ldc_w 524, 3) := dk_19 2 12 (dk_at dksX0_init_5 16 rfl rfl)
theorem dX0_init_138 : decode cX0_init 138 = .ok (.aastore, 1) := dk_83 (dk_at dksX0_init_5 19 rfl rfl)
theorem dX0_init_139 : decode cX0_init 139 = .ok (.dup, 1) := dk_89 (dk_at dksX0_init_5 20 rfl rfl)
theorem dX0_init_140 : decode cX0_init 140 = .ok (.bipush 18, 2) := dk_16 18 (dk_at dksX0_init_5 21 rfl rfl)
theorem dX0_init_142 : decode cX0_init 142 = .ok (.ldc_w 526, 3) := dk_19 2 14 (dk_at dksX0_init_6 0 rfl rfl)
theorem dX0_init_145 : decode cX0_init 145 = .ok (.aastore, 1) := dk_83 (dk_at dksX0_init_6 3 rfl rfl)
theorem dX0_init_146 : decode cX0_init 146 = .ok (.dup, 1) := dk_89 (dk_at dksX0_init_6 4 rfl rfl)
theorem dX0_init_147 : decode cX0_init 147 = .ok (.bipush 19, 2) := dk_16 19 (dk_at dksX0_init_6 5 rfl rfl)
theorem dX0_init_149 : decode cX0_init 149 = .ok (.ldc_w 528, 3) := dk_19 2 16 (dk_at dksX0_init_6 7 rfl rfl)
theorem dX0_init_152 : decode cX0_init 152 = .ok (.aastore, 1) := dk_83 (dk_at dksX0_init_6 10 rfl rfl)
theorem dX0_init_153 : decode cX0_init 153 = .ok (.dup, 1) := dk_89 (dk_at dksX0_init_6 11 rfl rfl)
theorem dX0_init_154 : decode cX0_init 154 = .ok (.bipush 20, 2) := dk_16 20 (dk_at dksX0_init_6 12 rfl rfl)
theorem dX0_init_156 : decode cX0_init 156 = .ok (.ldc_w 530, 3) := dk_19 2 18 (dk_at dksX0_init_6 14 rfl rfl)
theorem dX0_init_159 : decode cX0_init 159 = .ok (.aastore, 1) := dk_83 (dk_at dksX0_init_6 17 rfl rfl)
theorem dX0_init_160 : decode cX0_init 160 = .ok (.dup, 1) := dk_89 (dk_at dksX0_init_6 18 rfl rfl)
theorem dX0_init_161 : decode cX0_init 161 = .ok (.bipush 21, 2) := dk_16 21 (dk_at dksX0_init_6 19 rfl rfl)
theorem dX0_init_163 : decode cX0_init 163 = .ok (.ldc_w 532, 3) := dk_19 2 20 (dk_at dksX0_init_6 21 rfl rfl)
theorem dX0_init_166 : decode cX0_init 166 = .ok (.aastore, 1) := dk_83 (dk_at dksX0_init_7 0 rfl rfl)
theorem dX0_init_167 : decode cX0_init 167 = .ok (.putfield 534, 3) := dk_181 2 22 (dk_at dksX0_init_7 1 rfl rfl)
theorem dX0_init_170 : decode cX0_init 170 = .ok (.aload_n 0, 1) := dk_42 (dk_at dksX0_init_7 4 rfl rfl)
theorem dX0_init_171 : decode cX0_init 171 = .ok (.iconst 0, 1) := dk_3 (dk_at dksX0_init_7 5 rfl rfl)
theorem dX0_init_172 : decode cX0_init 172 = .ok (.anewarray 18, 3) := dk_189 0 18 (dk_at dksX0_init_7 6 rfl rfl)
theorem dX0_init_175 : decode cX0_init 175 = .ok (.putfield 213, 3) := dk_181 0 213 (dk_at dksX0_init_7 9 rfl rfl)
theorem dX0_init_178 : decode cX0_init 178 = .ok (.aload_n 0, 1) := dk_42 (dk_at dksX0_init_7 12 rfl rfl)
theorem dX0_init_179 : decode cX0_init 179 = .ok (.iconst 0, 1) := dk_3 (dk_at dksX0_init_7 13 rfl rfl)
theorem dX0_init_180 : decode cX0_init 180 = .ok (.anewarray 23, 3) := dk_189 0 23 (dk_at dksX0_init_7 14 rfl rfl)
theorem dX0_init_183 : decode cX0_init 183 = .ok (.putfield 28, 3) := dk_181 0 28 (dk_at dksX0_init_7 17 rfl rfl)
theorem dX0_init_186 : decode cX0_init 186 = .ok (.aload_n 0, 1) := dk_42 (dk_at dksX0_init_7 20 rfl rfl)
theorem dX0_init_187 : decode cX0_init 187 = .ok (.bipush 40, 2) := dk_16 40 (dk_at dksX0_init_7 21 rfl rfl)
theorem dX0_init_189 : decode cX0_init 189 = .ok (.anewarray 48, 3) := dk_189 0 48 (dk_at dksX0_init_8 0 rfl rfl)
theorem dX0_init_192 : decode cX0_init 192 = .ok (.putfield 43, 3) := dk_181 0 43 (dk_at dksX0_init_8 3 rfl rfl)
theorem dX0_init_195 : decode cX0_init 195 = .ok (.aload_n 0, 1) := dk_42 (dk_at dksX0_init_8 6 rfl rfl)
theorem dX0_init_196 : decode cX0_init 196 = .ok (.bipush 21, 2) := dk_16 21 (dk_at dksX0_init_8 7 rfl rfl)
theorem dX0_init_198 : decode cX0_init 198 = .ok (.anewarray 107, 3) := dk_189 0 107 (dk_at dksX0_init_8 9 rfl rfl)
theorem dX0_init_201 : decode cX0_init 201 = .ok (.putfield 102, 3) := dk_181 0 102 (dk_at dksX0_init_8 12 rfl rfl)
theorem dX0_init_204 : decode cX0_init 204 = .ok (.aload_n 0, 1) := dk_42 (dk_at dksX0_init_8 15 rfl rfl)
theorem dX0_init_205 : decode cX0_init 205 = .ok (.new 107, 3) := dk_187 0 107 (dk_at dksX0_init_8 16 rfl rfl)
theorem dX0_init_208 : decode cX0_init 208 = .ok (.dup, 1) := dk_89 (dk_at dksX0_init_8 19 rfl rfl)
theorem dX0_init_209 : decode cX0_init 209 = .ok (.invokespecial 431, 3) := dk_183 1 175 (dk_at dksX0_init_8 20 rfl rfl)
theorem dX0_init_212 : decode cX0_init 212 = .ok (.putfield 330, 3) := dk_181 1 74 (dk_at dksX0_init_9 0 rfl rfl)
theorem dX0_init_215 : decode cX0_init 215 = .ok (.aload_n 0, 1) := dk_42 (dk_at dksX0_init_9 3 rfl rfl)
theorem dX0_init_216 : decode cX0_init 216 = .ok (.new 56, 3) := dk_187 0 56 (dk_at dksX0_init_9 4 rfl rfl)
theorem dX0_init_219 : decode cX0_init 219 = .ok (.dup, 1) := dk_89 (dk_at dksX0_init_9 7 rfl rfl)
theorem dX0_init_220 : decode cX0_init 220 = .ok (.invokespecial 537, 3) := dk_183 2 25 (dk_at dksX0_init_9 8 rfl rfl)
theorem dX0_init_223 : decode cX0_init 223 = .ok (.putfield 51, 3) := dk_181 0 51 (dk_at dksX0_init_9 11 rfl rfl)
theorem dX0_init_226 : decode cX0_init 226 = .ok (.aload_n 0, 1) := dk_42 (dk_at dksX0_init_9 14 rfl rfl)
theorem dX0_init_227 : decode cX0_init 227 = .ok (.sipush 200, 3) := dk_17 0 200 (dk_at dksX0_init_9 15 rfl rfl)
theorem dX0_init_230 : decode cX0_init 230 = .ok (.newarray .int, 2) := dk_188_10 (dk_at dksX0_init_9 18 rfl rfl)
theorem dX0_init_232 : decode cX0_init 232 = .ok (.putfield 73, 3) := dk_181 0 73 (dk_at dksX0_init_9 20 rfl rfl)
theorem dX0_init_235 : decode cX0_init 235 = .ok (.aload_n 0, 1) := dk_42 (dk_at dksX0_init_9 23 rfl rfl)
theorem dX0_init_236 : decode cX0_init 236 = .ok (.sipush 1000, 3) := dk_17 3 232 (dk_at dksX0_init_10 0 rfl rfl)
theorem dX0_init_239 : decode cX0_init 239 = .ok (.newarray .byte, 2) := dk_188_8 (dk_at dksX0_init_10 3 rfl rfl)
theorem dX0_init_241 : decode cX0_init 241 = .ok (.putfield 538, 3) := dk_181 2 26 (dk_at dksX0_init_10 5 rfl rfl)
theorem dX0_init_244 : decode cX0_init 244 = .ok (.aload_n 0, 1) := dk_42 (dk_at dksX0_init_10 8 rfl rfl)
theorem dX0_init_245 : decode cX0_init 245 = .ok (.iconst (-1), 1) := dk_2 (dk_at dksX0_init_10 9 rfl rfl)
theorem dX0_init_246 : decode cX0_init 246 = .ok (.putfield 542, 3) := dk_181 2 30 (dk_at dksX0_init_10 10 rfl rfl)
theorem dX0_init_249 : decode cX0_init 249 = .ok (.aload_n 0, 1) := dk_42 (dk_at dksX0_init_10 13 rfl rfl)
theorem dX0_init_250 : decode cX0_init 250 = .ok (.new 142, 3) := dk_187 0 142 (dk_at dksX0_init_10 14 rfl rfl)
theorem dX0_init_253 : decode cX0_init 253 = .ok (.dup, 1) := dk_89 (dk_at dksX0_init_10 17 rfl rfl)
theorem dX0_init_254 : decode cX0_init 254 = .ok (.invokespecial 545, 3) := dk_183 2 33 (dk_at dksX0_init_10 18 rfl rfl)
theorem dX0_init_257 : decode cX0_init 257 = .ok (.putfield 137, 3) := dk_181 0 137 (dk_at dksX0_init_10 21 rfl rfl)
theorem dX0_init_260 : decode cX0_init 260 = .ok (.aload_n 0, 1) := dk_42 (dk_at dksX0_init_11 0 rfl rfl)
theorem dX0_init_261 : decode cX0_init 261 = .ok (.new 546, 3) := dk_187 2 34 (dk_at dksX0_init_11 1 rfl rfl)
theorem dX0_init_264 : decode cX0_init 264 = .ok (.dup, 1) := dk_89 (dk_at dksX0_init_11 4 rfl rfl)
theorem dX0_init_265 : decode cX0_init 265 = .ok (.aload_n 0, 1) := dk_42 (dk_at dksX0_init_11 5 rfl rfl)
theorem dX0_init_266 : decode cX0_init 266 = .ok (.invokespecial 548, 3) := dk_183 2 36 (dk_at dksX0_init_11 6 rfl rfl)
theorem dX0_init_269 : decode cX0_init 269 = .ok (.putfield 551, 3) := dk_181 2 39 (dk_at dksX0_init_11 9 rfl rfl)
theorem dX0_init_272 : decode cX0_init 272 = .ok (.aload_n 0, 1) := dk_42 (dk_at dksX0_init_11 12 rfl rfl)
theorem dX0_init_273 : decode cX0_init 273 = .ok (.new 165, 3) := dk_187 0 165 (dk_at dksX0_init_11 13 rfl rfl)
theorem dX0_init_276 : decode cX0_init 276 = .ok (.dup, 1) := dk_89 (dk_at dksX0_init_11 16 rfl rfl)
theorem dX0_init_277 : decode cX0_init 277 = .ok (.invokespecial 555, 3) := dk_183 2 43 (dk_at dksX0_init_11 17 rfl rfl)
theorem dX0_init_280 : decode cX0_init 280 = .ok (.putfield 160, 3) := dk_181 0 160 (dk_at dksX0_init_11 20 rfl rfl)
theorem dX0_init_283 : decode cX0_init 283 = .ok (.aload_n 0, 1) := dk_42 (dk_at dksX0_init_11 23 rfl rfl)
theorem dX0_init_284 : decode cX0_init 284 = .ok (.bipush 6, 2) := dk_16 6 (dk_at dksX0_init_12 0 rfl rfl)
theorem dX0_init_286 : decode cX0_init 286 = .ok (.anewarray 225, 3) := dk_189 0 225 (dk_at dksX0_init_12 2 rfl rfl)
theorem dX0_init_289 : decode cX0_init 289 = .ok (.putfield 487, 3) := dk_181 1 231 (dk_at dksX0_init_12 5 rfl rfl)
theorem dX0_init_292 : decode cX0_init 292 = .ok (.aload_n 0, 1) := dk_42 (dk_at dksX0_init_12 8 rfl rfl)
theorem dX0_init_293 : decode cX0_init 293 = .ok (.bipush 40, 2) := dk_16 40 (dk_at dksX0_init_12 9 rfl rfl)
theorem dX0_init_295 : decode cX0_init 295 = .ok (.bipush 40, 2) := dk_16 40 (dk_at dksX0_init_12 11 rfl rfl)
theorem dX0_init_297 : decode cX0_init 297 = .ok (.multianewarray 556 2, 4) := by decide +kernel
theorem dX0_init_301 : decode cX0_init 301 = .ok (.putfield 343, 3) := dk_181 1 87 (dk_at dksX0_init_12 17 rfl rfl)
theorem dX0_init_304 : decode cX0_init 304 = .ok (.aload_n 0, 1) := dk_42 (dk_at dksX0_init_12 20 rfl rfl)
theorem dX0_init_305 : decode cX0_init 305 = .ok (.bipush 40, 2) := dk_16 40 (dk_at dksX0_init_12 21 rfl rfl)
theorem dX0_init_307 : decode cX0_init 307 = .ok (.bipush 40, 2) := dk_16 40 (dk_at dksX0_init_13 0 rfl rfl)
theorem dX0_init_309 : decode cX0_init 309 = .ok (.multianewarray 557 2, 4) := by decide +kernel
theorem dX0_init_313 : decode cX0_init 313 = .ok (.putfield 356, 3) := dk_181 1 100 (dk_at dksX0_init_13 6 rfl rfl)
theorem dX0_init_316 : decode cX0_init 316 = .ok (.aload_n 0, 1) := dk_42 (dk_at dksX0_init_13 9 rfl rfl)
theorem dX0_init_317 : decode cX0_init 317 = .ok (.bipush 40, 2) := dk_16 40 (dk_at dksX0_init_13 10 rfl rfl)
theorem dX0_init_319 : decode cX0_init 319 = .ok (.anewarray 18, 3) := dk_189 0 18 (dk_at dksX0_init_13 12 rfl rfl)
theorem dX0_init_322 : decode cX0_init 322 = .ok (.putfield 302, 3) := dk_181 1 46 (dk_at dksX0_init_13 15 rfl rfl)
theorem dX0_init_325 : decode cX0_init 325 = .ok (.aload_n 0, 1) := dk_42 (dk_at dksX0_init_13 18 rfl rfl)
theorem dX0_init_326 : decode cX0_init 326 = .ok (.bipush 40, 2) := dk_16 40 (dk_at dksX0_init_13 19 rfl rfl)
theorem dX0_init_328 : decode cX0_init 328 = .ok (.anewarray 558, 3) := dk_189 2 46 (dk_at dksX0_init_13 21 rfl rfl)
theorem dX0_init_331 : decode cX0_init 331 = .ok (.putfield 305, 3) := dk_181 1 49 (dk_at dksX0_init_14 0 rfl rfl)
theorem dX0_init_334 : decode cX0_init 334 = .ok (.aload_n 0, 1) := dk_42 (dk_at dksX0_init_14 3 rfl rfl)
theorem dX0_init_335 : decode cX0_init 335 = .ok (.bipush 10, 2) := dk_16 10 (dk_at dksX0_init_14 4 rfl rfl)
theorem dX0_init_337 : decode cX0_init 337 = .ok (.anewarray 402, 3) := dk_189 1 146 (dk_at dksX0_init_14 6 rfl rfl)
theorem dX0_init_340 : decode cX0_init 340 = .ok (.putfield 397, 3) := dk_181 1 141 (dk_at dksX0_init_14 9 rfl rfl)
theorem dX0_init_343 : decode cX0_init 343 = .ok (.aload_n 0, 1) := dk_42 (dk_at dksX0_init_14 12 rfl rfl)
theorem dX0_init_344 : decode cX0_init 344 = .ok (.iconst (-1), 1) := dk_2 (dk_at dksX0_init_14 13 rfl rfl)
theorem dX0_init_345 : decode cX0_init 345 = .ok (.putfield 442, 3) := dk_181 1 186 (dk_at dksX0_init_14 14 rfl rfl)
theorem dX0_init_348 : decode cX0_init 348 = .ok (.aload_n 0, 1) := dk_42 (dk_at dksX0_init_14 17 rfl rfl)
theorem dX0_init_349 : decode cX0_init 349 = .ok (.bipush 40, 2) := dk_16 40 (dk_at dksX0_init_14 18 rfl rfl)
theorem dX0_init_351 : decode cX0_init 351 = .ok (.newarray .int, 2) := dk_188_10 (dk_at dksX0_init_14 20 rfl rfl)
theorem dX0_init_353 : decode cX0_init 353 = .ok (.putfield 448, 3) := dk_181 1 192 (dk_at dksX0_init_15 0 rfl rfl)
theorem dX0_init_356 : decode cX0_init 356 = .ok (.aload_n 0, 1) := dk_42 (dk_at dksX0_init_15 3 rfl rfl)
theorem dX0_init_357 : decode cX0_init 357 = .ok (.iconst (-1), 1) := dk_2 (dk_at dksX0_init_15 4 rfl rfl)
theorem dX0_init_358 : decode cX0_init 358 = .ok (.putfield 478, 3) := dk_181 1 222 (dk_at dksX0_init_15 5 rfl rfl)
theorem dX0_init_361 : decode cX0_init 361 = .ok (.aload_n 0, 1) := dk_42 (dk_at dksX0_init_15 8 rfl rfl)
theorem dX0_init_362 : decode cX0_init 362 = .ok (.iconst (-1), 1) := dk_2 (dk_at dksX0_init_15 9 rfl rfl)
theorem dX0_init_363 : decode cX0_init 363 = .ok (.putfield 481, 3) := dk_181 1 225 (dk_at dksX0_init_15 10 rfl rfl)
theorem dX0_init_366 : decode cX0_init 366 = .ok (.iconst 0, 1) := dk_3 (dk_at dksX0_init_15 13 rfl rfl)
theorem dX0_init_367 : decode cX0_init 367 = .ok (.istore_n 1, 1) := dk_60 (dk_at dksX0_init_15 14 rfl rfl)
theorem dX0_init_368 : decode cX0_init 368 = .ok (.iload_n 1, 1) := dk_27 (dk_at dksX0_init_15 15 rfl rfl)
theorem dX0_init_369 : decode cX0_init 369 = .ok (.bipush 20, 2) := dk_16 20 (dk_at dksX0_init_15 16 rfl rfl)
theorem dX0_init_371 : decode cX0_init 371 = .ok (.if_icmp .gt 22, 3) := dk_163 0 22 (dk_at dksX0_init_15 18 rfl rfl)
theorem dX0_init_374 : decode cX0_init 374 = .ok (.aload_n 0, 1) := dk_42 (dk_at dksX0_init_15 21 rfl rfl)
theorem dX0_init_375 : decode cX0_init 375 = .ok (.getfield 102, 3) := dk_180 0 102 (dk_at dksX0_init_16 0 rfl rfl)
theorem dX0_init_378 : decode cX0_init 378 = .ok (.iload_n 1, 1) := dk_27 (dk_at dksX0_init_16 3 rfl rfl)
theorem dX0_init_379 : decode cX0_init 379 = .ok (.new 107, 3) := dk_187 0 107 (dk_at dksX0_init_16 4 rfl rfl)
theorem dX0_init_382 : decode cX0_init 382 = .ok (.dup, 1) := dk_89 (dk_at dksX0_init_16 7 rfl rfl)
theorem dX0_init_383 : decode cX0_init 383 = .ok (.invokespecial 431, 3) := dk_183 1 175 (dk_at dksX0_init_16 8 rfl rfl)
theorem dX0_init_386 : decode cX0_init 386 = .ok (.aastore, 1) := dk_83 (dk_at dksX0_init_16 11 rfl rfl)
theorem dX0_init_387 : decode cX0_init 387 = .ok (.iinc 1 1, 3) := dk_132 1 1 (dk_at dksX0_init_16 12 rfl rfl)
theorem dX0_init_390 : decode cX0_init 390 = .ok (.goto (-22), 3) := dk_167 255 234 (dk_at dksX0_init_16 15 rfl rfl)
theorem dX0_init_393 : decode cX0_init 393 = .ok (.return_, 1) := dk_177 (dk_at dksX0_init_16 18 rfl rfl)
abbrev cX0_feed : ByteArray := prog_1_method_53_code
def yX0_feed : MethodName := ⟨RX0, "feed", "(IIIII)I"⟩
def dkwX0_feed_2 : List UInt8 := [172]
abbrev dktX0_feed_2 : List UInt8 := dkwX0_feed_2 ++ []
def dkwX0_feed_1 : List UInt8 := [182, 2, 50, 42, 29, 182, 2, 50, 42, 21, 4, 182, 2, 50, 42, 21, 5, 182, 2, 50, 42, 180, 2, 47]
abbrev dktX0_feed_1 : List UInt8 := dkwX0_feed_1 ++ dktX0_feed_2
def dkwX0_feed_0 : List UInt8 := [42, 180, 2, 47, 16, 20, 96, 17, 3, 232, 164, 0, 5, 2, 172, 42, 27, 182, 2, 50, 42, 28]
abbrev dktX0_feed_0 : List UInt8 := dkwX0_feed_0 ++ dktX0_feed_1
theorem dksX0_feed_0 : cX0_feed.data.toList.drop 0 = dktX0_feed_0 := by decide +kernel
theorem dksX0_feed_1 : cX0_feed.data.toList.drop 22 = dktX0_feed_1 := dk_seg dksX0_feed_0 22 rfl rfl
theorem dksX0_feed_2 : cX0_feed.data.toList.drop 46 = dktX0_feed_2 := dk_seg dksX0_feed_1 24 rfl rfl
theorem dX0_feed_0 : decode cX0_feed 0 = .ok (.aload_n 0, 1) := dk_42 (dk_at dksX0_feed_0 0 rfl rfl)
theorem dX0_feed_1 : decode cX0_feed 1 = .ok (.getfield 559, 3) := dk_180 2 47 (dk_at dksX0_feed_0 1 rfl rfl)
theorem dX0_feed_4 : decode cX0_feed 4 = .ok (.bipush 20, 2) := dk_16 20 (dk_at dksX0_feed_0 4 rfl rfl)
theorem dX0_feed_6 : decode cX0_feed 6 = .ok (.iadd, 1) := dk_96 (dk_at dksX0_feed_0 6 rfl rfl)
theorem dX0_feed_7 : decode cX0_feed 7 = .ok (.sipush 1000, 3) := dk_17 3 232 (dk_at dksX0_feed_0 7 rfl rfl)
theorem dX0_feed_10 : decode cX0_feed 10 = .ok (.if_icmp .le 5, 3) := dk_164 0 5 (dk_at dksX0_feed_0 10 rfl rfl)
theorem dX0_feed_13 : decode cX0_feed 13 = .ok (.iconst (-1), 1) := dk_2 (dk_at dksX0_feed_0 13 rfl rfl)
theorem dX0_feed_14 : decode cX0_feed 14 = .ok (.ireturn, 1) := dk_172 (dk_at dksX0_feed_0 14 rfl rfl)
theorem dX0_feed_15 : decode cX0_feed 15 = .ok (.aload_n 0, 1) := dk_42 (dk_at dksX0_feed_0 15 rfl rfl)
theorem dX0_feed_16 : decode cX0_feed 16 = .ok (.iload_n 1, 1) := dk_27 (dk_at dksX0_feed_0 16 rfl rfl)
theorem dX0_feed_17 : decode cX0_feed 17 = .ok (.invokevirtual 562, 3) := dk_182 2 50 (dk_at dksX0_feed_0 17 rfl rfl)
theorem dX0_feed_20 : decode cX0_feed 20 = .ok (.aload_n 0, 1) := dk_42 (dk_at dksX0_feed_0 20 rfl rfl)
theorem dX0_feed_21 : decode cX0_feed 21 = .ok (.iload_n 2, 1) := dk_28 (dk_at dksX0_feed_0 21 rfl rfl)
theorem dX0_feed_22 : decode cX0_feed 22 = .ok (.invokevirtual 562, 3) := dk_182 2 50 (dk_at dksX0_feed_1 0 rfl rfl)
theorem dX0_feed_25 : decode cX0_feed 25 = .ok (.aload_n 0, 1) := dk_42 (dk_at dksX0_feed_1 3 rfl rfl)
theorem dX0_feed_26 : decode cX0_feed 26 = .ok (.iload_n 3, 1) := dk_29 (dk_at dksX0_feed_1 4 rfl rfl)
theorem dX0_feed_27 : decode cX0_feed 27 = .ok (.invokevirtual 562, 3) := dk_182 2 50 (dk_at dksX0_feed_1 5 rfl rfl)
theorem dX0_feed_30 : decode cX0_feed 30 = .ok (.aload_n 0, 1) := dk_42 (dk_at dksX0_feed_1 8 rfl rfl)
theorem dX0_feed_31 : decode cX0_feed 31 = .ok (.iload 4, 2) := dk_21 4 (dk_at dksX0_feed_1 9 rfl rfl)
theorem dX0_feed_33 : decode cX0_feed 33 = .ok (.invokevirtual 562, 3) := dk_182 2 50 (dk_at dksX0_feed_1 11 rfl rfl)
theorem dX0_feed_36 : decode cX0_feed 36 = .ok (.aload_n 0, 1) := dk_42 (dk_at dksX0_feed_1 14 rfl rfl)
theorem dX0_feed_37 : decode cX0_feed 37 = .ok (.iload 5, 2) := dk_21 5 (dk_at dksX0_feed_1 15 rfl rfl)
theorem dX0_feed_39 : decode cX0_feed 39 = .ok (.invokevirtual 562, 3) := dk_182 2 50 (dk_at dksX0_feed_1 17 rfl rfl)
theorem dX0_feed_42 : decode cX0_feed 42 = .ok (.aload_n 0, 1) := dk_42 (dk_at dksX0_feed_1 20 rfl rfl)
theorem dX0_feed_43 : decode cX0_feed 43 = .ok (.getfield 559, 3) := dk_180 2 47 (dk_at dksX0_feed_1 21 rfl rfl)
theorem dX0_feed_46 : decode cX0_feed 46 = .ok (.ireturn, 1) := dk_172 (dk_at dksX0_feed_2 0 rfl rfl)
abbrev cX0_puts : ByteArray := prog_1_method_52_code
def yX0_puts : MethodName := ⟨RX0, "puts", "(I)V"⟩
def dkwX0_puts_1 : List UInt8 := [180, 2, 47, 4, 96, 181, 2, 47, 132, 2, 248, 167, 255, 226, 177]
abbrev dktX0_puts_1 : List UInt8 := dkwX0_puts_1 ++ []
def dkwX0_puts_0 : List UInt8 := [16, 24, 61, 28, 155, 0, 32, 42, 180, 2, 26, 42, 180, 2, 47, 27, 28, 122, 145, 84, 42, 89]
abbrev dktX0_puts_0 : List UInt8 := dkwX0_puts_0 ++ dktX0_puts_1
theorem dksX0_puts_0 : cX0_puts.data.toList.drop 0 = dktX0_puts_0 := by decide +kernel
theorem dksX0_puts_1 : cX0_puts.data.toList.drop 22 = dktX0_puts_1 := dk_seg dksX0_puts_0 22 rfl rfl
theorem dX0_puts_0 : decode cX0_puts 0 = .ok (.bipush 24, 2) := dk_16 24 (dk_at dksX0_puts_0 0 rfl rfl)
theorem dX0_puts_2 : decode cX0_puts 2 = .ok (.istore_n 2, 1) := dk_61 (dk_at dksX0_puts_0 2 rfl rfl)
theorem dX0_puts_3 : decode cX0_puts 3 = .ok (.iload_n 2, 1) := dk_28 (dk_at dksX0_puts_0 3 rfl rfl)
theorem dX0_puts_4 : decode cX0_puts 4 = .ok (.ifCond .lt 32, 3) := dk_155 0 32 (dk_at dksX0_puts_0 4 rfl rfl)
theorem dX0_puts_7 : decode cX0_puts 7 = .ok (.aload_n 0, 1) := dk_42 (dk_at dksX0_puts_0 7 rfl rfl)
theorem dX0_puts_8 : decode cX0_puts 8 = .ok (.getfield 538, 3) := dk_180 2 26 (dk_at dksX0_puts_0 8 rfl rfl)
theorem dX0_puts_11 : decode cX0_puts 11 = .ok (.aload_n 0, 1) := dk_42 (dk_at dksX0_puts_0 11 rfl rfl)
theorem dX0_puts_12 : decode cX0_puts 12 = .ok (.getfield 559, 3) := dk_180 2 47 (dk_at dksX0_puts_0 12 rfl rfl)
theorem dX0_puts_15 : decode cX0_puts 15 = .ok (.iload_n 1, 1) := dk_27 (dk_at dksX0_puts_0 15 rfl rfl)
theorem dX0_puts_16 : decode cX0_puts 16 = .ok (.iload_n 2, 1) := dk_28 (dk_at dksX0_puts_0 16 rfl rfl)
theorem dX0_puts_17 : decode cX0_puts 17 = .ok (.ishr, 1) := dk_122 (dk_at dksX0_puts_0 17 rfl rfl)
theorem dX0_puts_18 : decode cX0_puts 18 = .ok (.i2b, 1) := dk_145 (dk_at dksX0_puts_0 18 rfl rfl)
theorem dX0_puts_19 : decode cX0_puts 19 = .ok (.bastore, 1) := dk_84 (dk_at dksX0_puts_0 19 rfl rfl)
theorem dX0_puts_20 : decode cX0_puts 20 = .ok (.aload_n 0, 1) := dk_42 (dk_at dksX0_puts_0 20 rfl rfl)
theorem dX0_puts_21 : decode cX0_puts 21 = .ok (.dup, 1) := dk_89 (dk_at dksX0_puts_0 21 rfl rfl)
theorem dX0_puts_22 : decode cX0_puts 22 = .ok (.getfield 559, 3) := dk_180 2 47 (dk_at dksX0_puts_1 0 rfl rfl)
theorem dX0_puts_25 : decode cX0_puts 25 = .ok (.iconst 1, 1) := dk_4 (dk_at dksX0_puts_1 3 rfl rfl)
theorem dX0_puts_26 : decode cX0_puts 26 = .ok (.iadd, 1) := dk_96 (dk_at dksX0_puts_1 4 rfl rfl)
theorem dX0_puts_27 : decode cX0_puts 27 = .ok (.putfield 559, 3) := dk_181 2 47 (dk_at dksX0_puts_1 5 rfl rfl)
theorem dX0_puts_30 : decode cX0_puts 30 = .ok (.iinc 2 (-8), 3) := dk_132 2 248 (dk_at dksX0_puts_1 8 rfl rfl)
theorem dX0_puts_33 : decode cX0_puts 33 = .ok (.goto (-30), 3) := dk_167 255 226 (dk_at dksX0_puts_1 11 rfl rfl)
theorem dX0_puts_36 : decode cX0_puts 36 = .ok (.return_, 1) := dk_177 (dk_at dksX0_puts_1 14 rfl rfl)
abbrev cX0_end : ByteArray := prog_1_method_54_code
def yX0_end : MethodName := ⟨RX0, "end", "(I)Z"⟩
def dkwX0_end_0 : List UInt8 := [27, 155, 0, 11, 27, 42, 180, 2, 47, 164, 0, 5, 3, 172, 42, 27, 181, 2, 47, 4, 172]
abbrev dktX0_end_0 : List UInt8 := dkwX0_end_0 ++ []
theorem dksX0_end_0 : cX0_end.data.toList.drop 0 = dktX0_end_0 := by decide +kernel
theorem dX0_end_0 : decode cX0_end 0 = .ok (.iload_n 1, 1) := dk_27 (dk_at dksX0_end_0 0 rfl rfl)
theorem dX0_end_1 : decode cX0_end 1 = .ok (.ifCond .lt 11, 3) := dk_155 0 11 (dk_at dksX0_end_0 1 rfl rfl)
theorem dX0_end_4 : decode cX0_end 4 = .ok (.iload_n 1, 1) := dk_27 (dk_at dksX0_end_0 4 rfl rfl)
theorem dX0_end_5 : decode cX0_end 5 = .ok (.aload_n 0, 1) := dk_42 (dk_at dksX0_end_0 5 rfl rfl)
theorem dX0_end_6 : decode cX0_end 6 = .ok (.getfield 559, 3) := dk_180 2 47 (dk_at dksX0_end_0 6 rfl rfl)
theorem dX0_end_9 : decode cX0_end 9 = .ok (.if_icmp .le 5, 3) := dk_164 0 5 (dk_at dksX0_end_0 9 rfl rfl)
theorem dX0_end_12 : decode cX0_end 12 = .ok (.iconst 0, 1) := dk_3 (dk_at dksX0_end_0 12 rfl rfl)
theorem dX0_end_13 : decode cX0_end 13 = .ok (.ireturn, 1) := dk_172 (dk_at dksX0_end_0 13 rfl rfl)
theorem dX0_end_14 : decode cX0_end 14 = .ok (.aload_n 0, 1) := dk_42 (dk_at dksX0_end_0 14 rfl rfl)
theorem dX0_end_15 : decode cX0_end 15 = .ok (.iload_n 1, 1) := dk_27 (dk_at dksX0_end_0 15 rfl rfl)
theorem dX0_end_16 : decode cX0_end 16 = .ok (.putfield 559, 3) := dk_181 2 47 (dk_at dksX0_end_0 16 rfl rfl)
theorem dX0_end_19 : decode cX0_end 19 = .ok (.iconst 1, 1) := dk_4 (dk_at dksX0_end_0 19 rfl rfl)
theorem dX0_end_20 : decode cX0_end 20 = .ok (.ireturn, 1) := dk_172 (dk_at dksX0_end_0 20 rfl rfl)
abbrev cX0_word : ByteArray := prog_1_method_55_code
def yX0_word : MethodName := ⟨RX0, "word", "()I"⟩
def dkwX0_word_2 : List UInt8 := [28, 172, 78, 42, 3, 181, 2, 47, 45, 191]
abbrev dktX0_word_2 : List UInt8 := dkwX0_word_2 ++ []
def dkwX0_word_1 : List UInt8 := [154, 0, 7, 27, 167, 0, 4, 2, 61, 42, 3, 181, 2, 47, 28, 172, 76, 2, 61, 42, 3, 181, 2, 47]
abbrev dktX0_word_1 : List UInt8 := dkwX0_word_1 ++ dktX0_word_2
def dkwX0_word_0 : List UInt8 := [42, 180, 2, 39, 182, 2, 54, 42, 180, 2, 39, 182, 2, 55, 60, 42, 180, 2, 39, 180, 2, 58]
abbrev dktX0_word_0 : List UInt8 := dkwX0_word_0 ++ dktX0_word_1
theorem dksX0_word_0 : cX0_word.data.toList.drop 0 = dktX0_word_0 := by decide +kernel
theorem dksX0_word_1 : cX0_word.data.toList.drop 22 = dktX0_word_1 := dk_seg dksX0_word_0 22 rfl rfl
theorem dksX0_word_2 : cX0_word.data.toList.drop 46 = dktX0_word_2 := dk_seg dksX0_word_1 24 rfl rfl
theorem dX0_word_0 : decode cX0_word 0 = .ok (.aload_n 0, 1) := dk_42 (dk_at dksX0_word_0 0 rfl rfl)
theorem dX0_word_1 : decode cX0_word 1 = .ok (.getfield 551, 3) := dk_180 2 39 (dk_at dksX0_word_0 1 rfl rfl)
theorem dX0_word_4 : decode cX0_word 4 = .ok (.invokevirtual 566, 3) := dk_182 2 54 (dk_at dksX0_word_0 4 rfl rfl)
theorem dX0_word_7 : decode cX0_word 7 = .ok (.aload_n 0, 1) := dk_42 (dk_at dksX0_word_0 7 rfl rfl)
theorem dX0_word_8 : decode cX0_word 8 = .ok (.getfield 551, 3) := dk_180 2 39 (dk_at dksX0_word_0 8 rfl rfl)
theorem dX0_word_11 : decode cX0_word 11 = .ok (.invokevirtual 567, 3) := dk_182 2 55 (dk_at dksX0_word_0 11 rfl rfl)
theorem dX0_word_14 : decode cX0_word 14 = .ok (.istore_n 1, 1) := dk_60 (dk_at dksX0_word_0 14 rfl rfl)
theorem dX0_word_15 : decode cX0_word 15 = .ok (.aload_n 0, 1) := dk_42 (dk_at dksX0_word_0 15 rfl rfl)
theorem dX0_word_16 : decode cX0_word 16 = .ok (.getfield 551, 3) := dk_180 2 39 (dk_at dksX0_word_0 16 rfl rfl)
theorem dX0_word_19 : decode cX0_word 19 = .ok (.getfield 570, 3) := dk_180 2 58 (dk_at dksX0_word_0 19 rfl rfl)
theorem dX0_word_22 : decode cX0_word 22 = .ok (.ifCond .ne 7, 3) := dk_154 0 7 (dk_at dksX0_word_1 0 rfl rfl)
theorem dX0_word_25 : decode cX0_word 25 = .ok (.iload_n 1, 1) := dk_27 (dk_at dksX0_word_1 3 rfl rfl)
theorem dX0_word_26 : decode cX0_word 26 = .ok (.goto 4, 3) := dk_167 0 4 (dk_at dksX0_word_1 4 rfl rfl)
theorem dX0_word_29 : decode cX0_word 29 = .ok (.iconst (-1), 1) := dk_2 (dk_at dksX0_word_1 7 rfl rfl)
theorem dX0_word_30 : decode cX0_word 30 = .ok (.istore_n 2, 1) := dk_61 (dk_at dksX0_word_1 8 rfl rfl)
theorem dX0_word_31 : decode cX0_word 31 = .ok (.aload_n 0, 1) := dk_42 (dk_at dksX0_word_1 9 rfl rfl)
theorem dX0_word_32 : decode cX0_word 32 = .ok (.iconst 0, 1) := dk_3 (dk_at dksX0_word_1 10 rfl rfl)
theorem dX0_word_33 : decode cX0_word 33 = .ok (.putfield 559, 3) := dk_181 2 47 (dk_at dksX0_word_1 11 rfl rfl)
theorem dX0_word_36 : decode cX0_word 36 = .ok (.iload_n 2, 1) := dk_28 (dk_at dksX0_word_1 14 rfl rfl)
theorem dX0_word_37 : decode cX0_word 37 = .ok (.ireturn, 1) := dk_172 (dk_at dksX0_word_1 15 rfl rfl)
theorem dX0_word_38 : decode cX0_word 38 = .ok (.astore_n 1, 1) := dk_76 (dk_at dksX0_word_1 16 rfl rfl)
theorem dX0_word_39 : decode cX0_word 39 = .ok (.iconst (-1), 1) := dk_2 (dk_at dksX0_word_1 17 rfl rfl)
theorem dX0_word_40 : decode cX0_word 40 = .ok (.istore_n 2, 1) := dk_61 (dk_at dksX0_word_1 18 rfl rfl)
theorem dX0_word_41 : decode cX0_word 41 = .ok (.aload_n 0, 1) := dk_42 (dk_at dksX0_word_1 19 rfl rfl)
theorem dX0_word_42 : decode cX0_word 42 = .ok (.iconst 0, 1) := dk_3 (dk_at dksX0_word_1 20 rfl rfl)
theorem dX0_word_43 : decode cX0_word 43 = .ok (.putfield 559, 3) := dk_181 2 47 (dk_at dksX0_word_1 21 rfl rfl)
theorem dX0_word_46 : decode cX0_word 46 = .ok (.iload_n 2, 1) := dk_28 (dk_at dksX0_word_2 0 rfl rfl)
theorem dX0_word_47 : decode cX0_word 47 = .ok (.ireturn, 1) := dk_172 (dk_at dksX0_word_2 1 rfl rfl)
theorem dX0_word_48 : decode cX0_word 48 = .ok (.astore_n 3, 1) := dk_78 (dk_at dksX0_word_2 2 rfl rfl)
theorem dX0_word_49 : decode cX0_word 49 = .ok (.aload_n 0, 1) := dk_42 (dk_at dksX0_word_2 3 rfl rfl)
theorem dX0_word_50 : decode cX0_word 50 = .ok (.iconst 0, 1) := dk_3 (dk_at dksX0_word_2 4 rfl rfl)
theorem dX0_word_51 : decode cX0_word 51 = .ok (.putfield 559, 3) := dk_181 2 47 (dk_at dksX0_word_2 5 rfl rfl)
theorem dX0_word_54 : decode cX0_word 54 = .ok (.aload_n 3, 1) := dk_45 (dk_at dksX0_word_2 8 rfl rfl)
theorem dX0_word_55 : decode cX0_word 55 = .ok (.athrow, 1) := dk_191 (dk_at dksX0_word_2 9 rfl rfl)
abbrev cX0_isAmong : ByteArray := prog_1_method_1_code
def yX0_isAmong : MethodName := ⟨RX0, "isAmong", "([Ljava/lang/String;Ljava/lang/String;)Z"⟩
def dkwX0_isAmong_1 : List UInt8 := [182, 0, 1, 153, 0, 5, 4, 172, 132, 4, 1, 167, 255, 230, 3, 172]
abbrev dktX0_isAmong_1 : List UInt8 := dkwX0_isAmong_1 ++ []
def dkwX0_isAmong_0 : List UInt8 := [42, 77, 44, 190, 62, 3, 54, 4, 21, 4, 29, 162, 0, 26, 44, 21, 4, 50, 58, 5, 25, 5, 43]
abbrev dktX0_isAmong_0 : List UInt8 := dkwX0_isAmong_0 ++ dktX0_isAmong_1
theorem dksX0_isAmong_0 : cX0_isAmong.data.toList.drop 0 = dktX0_isAmong_0 := by decide +kernel
theorem dksX0_isAmong_1 : cX0_isAmong.data.toList.drop 23 = dktX0_isAmong_1 := dk_seg dksX0_isAmong_0 23 rfl rfl
theorem dX0_isAmong_0 : decode cX0_isAmong 0 = .ok (.aload_n 0, 1) := dk_42 (dk_at dksX0_isAmong_0 0 rfl rfl)
theorem dX0_isAmong_1 : decode cX0_isAmong 1 = .ok (.astore_n 2, 1) := dk_77 (dk_at dksX0_isAmong_0 1 rfl rfl)
theorem dX0_isAmong_2 : decode cX0_isAmong 2 = .ok (.aload_n 2, 1) := dk_44 (dk_at dksX0_isAmong_0 2 rfl rfl)
theorem dX0_isAmong_3 : decode cX0_isAmong 3 = .ok (.arraylength, 1) := dk_190 (dk_at dksX0_isAmong_0 3 rfl rfl)
theorem dX0_isAmong_4 : decode cX0_isAmong 4 = .ok (.istore_n 3, 1) := dk_62 (dk_at dksX0_isAmong_0 4 rfl rfl)
theorem dX0_isAmong_5 : decode cX0_isAmong 5 = .ok (.iconst 0, 1) := dk_3 (dk_at dksX0_isAmong_0 5 rfl rfl)
theorem dX0_isAmong_6 : decode cX0_isAmong 6 = .ok (.istore 4, 2) := dk_54 4 (dk_at dksX0_isAmong_0 6 rfl rfl)
theorem dX0_isAmong_8 : decode cX0_isAmong 8 = .ok (.iload 4, 2) := dk_21 4 (dk_at dksX0_isAmong_0 8 rfl rfl)
theorem dX0_isAmong_10 : decode cX0_isAmong 10 = .ok (.iload_n 3, 1) := dk_29 (dk_at dksX0_isAmong_0 10 rfl rfl)
theorem dX0_isAmong_11 : decode cX0_isAmong 11 = .ok (.if_icmp .ge 26, 3) := dk_162 0 26 (dk_at dksX0_isAmong_0 11 rfl rfl)
theorem dX0_isAmong_14 : decode cX0_isAmong 14 = .ok (.aload_n 2, 1) := dk_44 (dk_at dksX0_isAmong_0 14 rfl rfl)
theorem dX0_isAmong_15 : decode cX0_isAmong 15 = .ok (.iload 4, 2) := dk_21 4 (dk_at dksX0_isAmong_0 15 rfl rfl)
theorem dX0_isAmong_17 : decode cX0_isAmong 17 = .ok (.aaload, 1) := dk_50 (dk_at dksX0_isAmong_0 17 rfl rfl)
theorem dX0_isAmong_18 : decode cX0_isAmong 18 = .ok (.astore 5, 2) := dk_58 5 (dk_at dksX0_isAmong_0 18 rfl rfl)
theorem dX0_isAmong_20 : decode cX0_isAmong 20 = .ok (.aload 5, 2) := dk_25 5 (dk_at dksX0_isAmong_0 20 rfl rfl)
theorem dX0_isAmong_22 : decode cX0_isAmong 22 = .ok (.aload_n 1, 1) := dk_43 (dk_at dksX0_isAmong_0 22 rfl rfl)
theorem dX0_isAmong_23 : decode cX0_isAmong 23 = .ok (.invokevirtual 1, 3) := dk_182 0 1 (dk_at dksX0_isAmong_1 0 rfl rfl)
theorem dX0_isAmong_26 : decode cX0_isAmong 26 = .ok (.ifCond .eq 5, 3) := dk_153 0 5 (dk_at dksX0_isAmong_1 3 rfl rfl)
theorem dX0_isAmong_29 : decode cX0_isAmong 29 = .ok (.iconst 1, 1) := dk_4 (dk_at dksX0_isAmong_1 6 rfl rfl)
theorem dX0_isAmong_30 : decode cX0_isAmong 30 = .ok (.ireturn, 1) := dk_172 (dk_at dksX0_isAmong_1 7 rfl rfl)
theorem dX0_isAmong_31 : decode cX0_isAmong 31 = .ok (.iinc 4 1, 3) := dk_132 4 1 (dk_at dksX0_isAmong_1 8 rfl rfl)
theorem dX0_isAmong_34 : decode cX0_isAmong 34 = .ok (.goto (-26), 3) := dk_167 255 230 (dk_at dksX0_isAmong_1 11 rfl rfl)
theorem dX0_isAmong_37 : decode cX0_isAmong 37 = .ok (.iconst 0, 1) := dk_3 (dk_at dksX0_isAmong_1 14 rfl rfl)
theorem dX0_isAmong_38 : decode cX0_isAmong 38 = .ok (.ireturn, 1) := dk_172 (dk_at dksX0_isAmong_1 15 rfl rfl)
abbrev cX0_refused : ByteArray := prog_1_method_15_code
def yX0_refused : MethodName := ⟨RX0, "refused", "(II)LPondHouse$Fault;"⟩
def dkwX0_refused_0 : List UInt8 := [42, 180, 0, 137, 27, 181, 0, 141, 42, 180, 0, 137, 28, 181, 0, 144, 42, 180, 0, 137, 176]
abbrev dktX0_refused_0 : List UInt8 := dkwX0_refused_0 ++ []
theorem dksX0_refused_0 : cX0_refused.data.toList.drop 0 = dktX0_refused_0 := by decide +kernel
theorem dX0_refused_0 : decode cX0_refused 0 = .ok (.aload_n 0, 1) := dk_42 (dk_at dksX0_refused_0 0 rfl rfl)
theorem dX0_refused_1 : decode cX0_refused 1 = .ok (.getfield 137, 3) := dk_180 0 137 (dk_at dksX0_refused_0 1 rfl rfl)
theorem dX0_refused_4 : decode cX0_refused 4 = .ok (.iload_n 1, 1) := dk_27 (dk_at dksX0_refused_0 4 rfl rfl)
theorem dX0_refused_5 : decode cX0_refused 5 = .ok (.putfield 141, 3) := dk_181 0 141 (dk_at dksX0_refused_0 5 rfl rfl)
theorem dX0_refused_8 : decode cX0_refused 8 = .ok (.aload_n 0, 1) := dk_42 (dk_at dksX0_refused_0 8 rfl rfl)
theorem dX0_refused_9 : decode cX0_refused 9 = .ok (.getfield 137, 3) := dk_180 0 137 (dk_at dksX0_refused_0 9 rfl rfl)
theorem dX0_refused_12 : decode cX0_refused 12 = .ok (.iload_n 2, 1) := dk_28 (dk_at dksX0_refused_0 12 rfl rfl)
theorem dX0_refused_13 : decode cX0_refused 13 = .ok (.putfield 144, 3) := dk_181 0 144 (dk_at dksX0_refused_0 13 rfl rfl)
theorem dX0_refused_16 : decode cX0_refused 16 = .ok (.aload_n 0, 1) := dk_42 (dk_at dksX0_refused_0 16 rfl rfl)
theorem dX0_refused_17 : decode cX0_refused 17 = .ok (.getfield 137, 3) := dk_180 0 137 (dk_at dksX0_refused_0 17 rfl rfl)
theorem dX0_refused_20 : decode cX0_refused 20 = .ok (.areturn, 1) := dk_176 (dk_at dksX0_refused_0 20 rfl rfl)
abbrev cX0_number : ByteArray := prog_1_method_2_code
def yX0_number : MethodName := ⟨RX0, "number", "(Ljava/lang/String;)I"⟩
def dkwX0_number_2 : List UInt8 := [180, 0, 7, 43, 83, 42, 89, 180, 0, 7, 4, 96, 181, 0, 7, 42, 180, 0, 7, 4, 100, 172]
abbrev dktX0_number_2 : List UInt8 := dkwX0_number_2 ++ []
def dkwX0_number_1 : List UInt8 := [172, 132, 2, 1, 167, 255, 230, 42, 180, 0, 7, 16, 40, 160, 0, 5, 2, 172, 42, 180, 0, 13, 42]
abbrev dktX0_number_1 : List UInt8 := dkwX0_number_1 ++ dktX0_number_2
def dkwX0_number_0 : List UInt8 := [3, 61, 28, 42, 180, 0, 7, 162, 0, 24, 42, 180, 0, 13, 28, 50, 43, 182, 0, 1, 153, 0, 5, 28]
abbrev dktX0_number_0 : List UInt8 := dkwX0_number_0 ++ dktX0_number_1
theorem dksX0_number_0 : cX0_number.data.toList.drop 0 = dktX0_number_0 := by decide +kernel
theorem dksX0_number_1 : cX0_number.data.toList.drop 24 = dktX0_number_1 := dk_seg dksX0_number_0 24 rfl rfl
theorem dksX0_number_2 : cX0_number.data.toList.drop 47 = dktX0_number_2 := dk_seg dksX0_number_1 23 rfl rfl
theorem dX0_number_0 : decode cX0_number 0 = .ok (.iconst 0, 1) := dk_3 (dk_at dksX0_number_0 0 rfl rfl)
theorem dX0_number_1 : decode cX0_number 1 = .ok (.istore_n 2, 1) := dk_61 (dk_at dksX0_number_0 1 rfl rfl)
theorem dX0_number_2 : decode cX0_number 2 = .ok (.iload_n 2, 1) := dk_28 (dk_at dksX0_number_0 2 rfl rfl)
theorem dX0_number_3 : decode cX0_number 3 = .ok (.aload_n 0, 1) := dk_42 (dk_at dksX0_number_0 3 rfl rfl)
theorem dX0_number_4 : decode cX0_number 4 = .ok (.getfield 7, 3) := dk_180 0 7 (dk_at dksX0_number_0 4 rfl rfl)
theorem dX0_number_7 : decode cX0_number 7 = .ok (.if_icmp .ge 24, 3) := dk_162 0 24 (dk_at dksX0_number_0 7 rfl rfl)
theorem dX0_number_10 : decode cX0_number 10 = .ok (.aload_n 0, 1) := dk_42 (dk_at dksX0_number_0 10 rfl rfl)
theorem dX0_number_11 : decode cX0_number 11 = .ok (.getfield 13, 3) := dk_180 0 13 (dk_at dksX0_number_0 11 rfl rfl)
theorem dX0_number_14 : decode cX0_number 14 = .ok (.iload_n 2, 1) := dk_28 (dk_at dksX0_number_0 14 rfl rfl)
theorem dX0_number_15 : decode cX0_number 15 = .ok (.aaload, 1) := dk_50 (dk_at dksX0_number_0 15 rfl rfl)
theorem dX0_number_16 : decode cX0_number 16 = .ok (.aload_n 1, 1) := dk_43 (dk_at dksX0_number_0 16 rfl rfl)
theorem dX0_number_17 : decode cX0_number 17 = .ok (.invokevirtual 1, 3) := dk_182 0 1 (dk_at dksX0_number_0 17 rfl rfl)
theorem dX0_number_20 : decode cX0_number 20 = .ok (.ifCond .eq 5, 3) := dk_153 0 5 (dk_at dksX0_number_0 20 rfl rfl)
theorem dX0_number_23 : decode cX0_number 23 = .ok (.iload_n 2, 1) := dk_28 (dk_at dksX0_number_0 23 rfl rfl)
theorem dX0_number_24 : decode cX0_number 24 = .ok (.ireturn, 1) := dk_172 (dk_at dksX0_number_1 0 rfl rfl)
theorem dX0_number_25 : decode cX0_number 25 = .ok (.iinc 2 1, 3) := dk_132 2 1 (dk_at dksX0_number_1 1 rfl rfl)
theorem dX0_number_28 : decode cX0_number 28 = .ok (.goto (-26), 3) := dk_167 255 230 (dk_at dksX0_number_1 4 rfl rfl)
theorem dX0_number_31 : decode cX0_number 31 = .ok (.aload_n 0, 1) := dk_42 (dk_at dksX0_number_1 7 rfl rfl)
theorem dX0_number_32 : decode cX0_number 32 = .ok (.getfield 7, 3) := dk_180 0 7 (dk_at dksX0_number_1 8 rfl rfl)
theorem dX0_number_35 : decode cX0_number 35 = .ok (.bipush 40, 2) := dk_16 40 (dk_at dksX0_number_1 11 rfl rfl)
theorem dX0_number_37 : decode cX0_number 37 = .ok (.if_icmp .ne 5, 3) := dk_160 0 5 (dk_at dksX0_number_1 13 rfl rfl)
theorem dX0_number_40 : decode cX0_number 40 = .ok (.iconst (-1), 1) := dk_2 (dk_at dksX0_number_1 16 rfl rfl)
theorem dX0_number_41 : decode cX0_number 41 = .ok (.ireturn, 1) := dk_172 (dk_at dksX0_number_1 17 rfl rfl)
theorem dX0_number_42 : decode cX0_number 42 = .ok (.aload_n 0, 1) := dk_42 (dk_at dksX0_number_1 18 rfl rfl)
theorem dX0_number_43 : decode cX0_number 43 = .ok (.getfield 13, 3) := dk_180 0 13 (dk_at dksX0_number_1 19 rfl rfl)
theorem dX0_number_46 : decode cX0_number 46 = .ok (.aload_n 0, 1) := dk_42 (dk_at dksX0_number_1 22 rfl rfl)
theorem dX0_number_47 : decode cX0_number 47 = .ok (.getfield 7, 3) := dk_180 0 7 (dk_at dksX0_number_2 0 rfl rfl)
theorem dX0_number_50 : decode cX0_number 50 = .ok (.aload_n 1, 1) := dk_43 (dk_at dksX0_number_2 3 rfl rfl)
theorem dX0_number_51 : decode cX0_number 51 = .ok (.aastore, 1) := dk_83 (dk_at dksX0_number_2 4 rfl rfl)
theorem dX0_number_52 : decode cX0_number 52 = .ok (.aload_n 0, 1) := dk_42 (dk_at dksX0_number_2 5 rfl rfl)
theorem dX0_number_53 : decode cX0_number 53 = .ok (.dup, 1) := dk_89 (dk_at dksX0_number_2 6 rfl rfl)
theorem dX0_number_54 : decode cX0_number 54 = .ok (.getfield 7, 3) := dk_180 0 7 (dk_at dksX0_number_2 7 rfl rfl)
theorem dX0_number_57 : decode cX0_number 57 = .ok (.iconst 1, 1) := dk_4 (dk_at dksX0_number_2 10 rfl rfl)
theorem dX0_number_58 : decode cX0_number 58 = .ok (.iadd, 1) := dk_96 (dk_at dksX0_number_2 11 rfl rfl)
theorem dX0_number_59 : decode cX0_number 59 = .ok (.putfield 7, 3) := dk_181 0 7 (dk_at dksX0_number_2 12 rfl rfl)
theorem dX0_number_62 : decode cX0_number 62 = .ok (.aload_n 0, 1) := dk_42 (dk_at dksX0_number_2 15 rfl rfl)
theorem dX0_number_63 : decode cX0_number 63 = .ok (.getfield 7, 3) := dk_180 0 7 (dk_at dksX0_number_2 16 rfl rfl)
theorem dX0_number_66 : decode cX0_number 66 = .ok (.iconst 1, 1) := dk_4 (dk_at dksX0_number_2 19 rfl rfl)
theorem dX0_number_67 : decode cX0_number 67 = .ok (.isub, 1) := dk_100 (dk_at dksX0_number_2 20 rfl rfl)
theorem dX0_number_68 : decode cX0_number 68 = .ok (.ireturn, 1) := dk_172 (dk_at dksX0_number_2 21 rfl rfl)
abbrev cX0_pond : ByteArray := prog_1_method_58_code
def yX0_pond : MethodName := ⟨RX0, "pond", "()I"⟩
def dkwX0_pond_5 : List UInt8 := [172, 76, 42, 43, 182, 2, 74, 61, 42, 3, 181, 2, 47, 28, 172, 78, 42, 3, 181, 2, 47, 45, 191]
abbrev dktX0_pond_5 : List UInt8 := dkwX0_pond_5 ++ []
def dkwX0_pond_4 : List UInt8 := [2, 181, 1, 186, 42, 180, 1, 141, 1, 184, 2, 71, 42, 180, 0, 213, 190, 61, 42, 3, 181, 2, 47, 28]
abbrev dktX0_pond_4 : List UInt8 := dkwX0_pond_4 ++ dktX0_pond_5
def dkwX0_pond_3 : List UInt8 := [181, 0, 40, 42, 3, 181, 1, 228, 42, 1, 181, 1, 128, 42, 1, 181, 1, 16, 42, 3, 181, 0, 236, 42]
abbrev dktX0_pond_3 : List UInt8 := dkwX0_pond_3 ++ dktX0_pond_4
def dkwX0_pond_2 : List UInt8 := [181, 0, 213, 42, 42, 180, 0, 213, 3, 189, 0, 23, 184, 1, 108, 181, 0, 28, 42, 182, 2, 68, 42, 3]
abbrev dktX0_pond_2 : List UInt8 := dkwX0_pond_2 ++ dktX0_pond_3
def dkwX0_pond_1 : List UInt8 := [192, 0, 157, 4, 181, 0, 183, 132, 2, 1, 167, 255, 233, 42, 42, 43, 3, 189, 0, 18, 3, 182, 0, 239]
abbrev dktX0_pond_1 : List UInt8 := dkwX0_pond_1 ++ dktX0_pond_2
def dkwX0_pond_0 : List UInt8 := [42, 180, 2, 39, 182, 2, 64, 76, 3, 61, 28, 43, 182, 0, 147, 162, 0, 21, 43, 28, 182, 0, 153]
abbrev dktX0_pond_0 : List UInt8 := dkwX0_pond_0 ++ dktX0_pond_1
theorem dksX0_pond_0 : cX0_pond.data.toList.drop 0 = dktX0_pond_0 := by decide +kernel
theorem dksX0_pond_1 : cX0_pond.data.toList.drop 23 = dktX0_pond_1 := dk_seg dksX0_pond_0 23 rfl rfl
theorem dksX0_pond_2 : cX0_pond.data.toList.drop 47 = dktX0_pond_2 := dk_seg dksX0_pond_1 24 rfl rfl
theorem dksX0_pond_3 : cX0_pond.data.toList.drop 71 = dktX0_pond_3 := dk_seg dksX0_pond_2 24 rfl rfl
theorem dksX0_pond_4 : cX0_pond.data.toList.drop 95 = dktX0_pond_4 := dk_seg dksX0_pond_3 24 rfl rfl
theorem dksX0_pond_5 : cX0_pond.data.toList.drop 119 = dktX0_pond_5 := dk_seg dksX0_pond_4 24 rfl rfl
theorem dX0_pond_0 : decode cX0_pond 0 = .ok (.aload_n 0, 1) := dk_42 (dk_at dksX0_pond_0 0 rfl rfl)
theorem dX0_pond_1 : decode cX0_pond 1 = .ok (.getfield 551, 3) := dk_180 2 39 (dk_at dksX0_pond_0 1 rfl rfl)
theorem dX0_pond_4 : decode cX0_pond 4 = .ok (.invokevirtual 576, 3) := dk_182 2 64 (dk_at dksX0_pond_0 4 rfl rfl)
theorem dX0_pond_7 : decode cX0_pond 7 = .ok (.astore_n 1, 1) := dk_76 (dk_at dksX0_pond_0 7 rfl rfl)
theorem dX0_pond_8 : decode cX0_pond 8 = .ok (.iconst 0, 1) := dk_3 (dk_at dksX0_pond_0 8 rfl rfl)
theorem dX0_pond_9 : decode cX0_pond 9 = .ok (.istore_n 2, 1) := dk_61 (dk_at dksX0_pond_0 9 rfl rfl)
theorem dX0_pond_10 : decode cX0_pond 10 = .ok (.iload_n 2, 1) := dk_28 (dk_at dksX0_pond_0 10 rfl rfl)
theorem dX0_pond_11 : decode cX0_pond 11 = .ok (.aload_n 1, 1) := dk_43 (dk_at dksX0_pond_0 11 rfl rfl)
theorem dX0_pond_12 : decode cX0_pond 12 = .ok (.invokevirtual 147, 3) := dk_182 0 147 (dk_at dksX0_pond_0 12 rfl rfl)
theorem dX0_pond_15 : decode cX0_pond 15 = .ok (.if_icmp .ge 21, 3) := dk_162 0 21 (dk_at dksX0_pond_0 15 rfl rfl)
theorem dX0_pond_18 : decode cX0_pond 18 = .ok (.aload_n 1, 1) := dk_43 (dk_at dksX0_pond_0 18 rfl rfl)
theorem dX0_pond_19 : decode cX0_pond 19 = .ok (.iload_n 2, 1) := dk_28 (dk_at dksX0_pond_0 19 rfl rfl)
theorem dX0_pond_20 : decode cX0_pond 20 = .ok (.invokevirtual 153, 3) := dk_182 0 153 (dk_at dksX0_pond_0 20 rfl rfl)
theorem dX0_pond_23 : decode cX0_pond 23 = .ok (.checkcast 157, 3) := dk_192 0 157 (dk_at dksX0_pond_1 0 rfl rfl)
theorem dX0_pond_26 : decode cX0_pond 26 = .ok (.iconst 1, 1) := dk_4 (dk_at dksX0_pond_1 3 rfl rfl)
theorem dX0_pond_27 : decode cX0_pond 27 = .ok (.putfield 183, 3) := dk_181 0 183 (dk_at dksX0_pond_1 4 rfl rfl)
theorem dX0_pond_30 : decode cX0_pond 30 = .ok (.iinc 2 1, 3) := dk_132 2 1 (dk_at dksX0_pond_1 7 rfl rfl)
theorem dX0_pond_33 : decode cX0_pond 33 = .ok (.goto (-23), 3) := dk_167 255 233 (dk_at dksX0_pond_1 10 rfl rfl)
theorem dX0_pond_36 : decode cX0_pond 36 = .ok (.aload_n 0, 1) := dk_42 (dk_at dksX0_pond_1 13 rfl rfl)
theorem dX0_pond_37 : decode cX0_pond 37 = .ok (.aload_n 0, 1) := dk_42 (dk_at dksX0_pond_1 14 rfl rfl)
theorem dX0_pond_38 : decode cX0_pond 38 = .ok (.aload_n 1, 1) := dk_43 (dk_at dksX0_pond_1 15 rfl rfl)
theorem dX0_pond_39 : decode cX0_pond 39 = .ok (.iconst 0, 1) := dk_3 (dk_at dksX0_pond_1 16 rfl rfl)
theorem dX0_pond_40 : decode cX0_pond 40 = .ok (.anewarray 18, 3) := dk_189 0 18 (dk_at dksX0_pond_1 17 rfl rfl)
theorem dX0_pond_43 : decode cX0_pond 43 = .ok (.iconst 0, 1) := dk_3 (dk_at dksX0_pond_1 20 rfl rfl)
theorem dX0_pond_44 : decode cX0_pond 44 = .ok (.invokevirtual 239, 3) := dk_182 0 239 (dk_at dksX0_pond_1 21 rfl rfl)
theorem dX0_pond_47 : decode cX0_pond 47 = .ok (.putfield 213, 3) := dk_181 0 213 (dk_at dksX0_pond_2 0 rfl rfl)
theorem dX0_pond_50 : decode cX0_pond 50 = .ok (.aload_n 0, 1) := dk_42 (dk_at dksX0_pond_2 3 rfl rfl)
theorem dX0_pond_51 : decode cX0_pond 51 = .ok (.aload_n 0, 1) := dk_42 (dk_at dksX0_pond_2 4 rfl rfl)
theorem dX0_pond_52 : decode cX0_pond 52 = .ok (.getfield 213, 3) := dk_180 0 213 (dk_at dksX0_pond_2 5 rfl rfl)
theorem dX0_pond_55 : decode cX0_pond 55 = .ok (.iconst 0, 1) := dk_3 (dk_at dksX0_pond_2 8 rfl rfl)
theorem dX0_pond_56 : decode cX0_pond 56 = .ok (.anewarray 23, 3) := dk_189 0 23 (dk_at dksX0_pond_2 9 rfl rfl)
theorem dX0_pond_59 : decode cX0_pond 59 = .ok (.invokestatic 364, 3) := dk_184 1 108 (dk_at dksX0_pond_2 12 rfl rfl)
theorem dX0_pond_62 : decode cX0_pond 62 = .ok (.putfield 28, 3) := dk_181 0 28 (dk_at dksX0_pond_2 15 rfl rfl)
theorem dX0_pond_65 : decode cX0_pond 65 = .ok (.aload_n 0, 1) := dk_42 (dk_at dksX0_pond_2 18 rfl rfl)
theorem dX0_pond_66 : decode cX0_pond 66 = .ok (.invokevirtual 580, 3) := dk_182 2 68 (dk_at dksX0_pond_2 19 rfl rfl)
theorem dX0_pond_69 : decode cX0_pond 69 = .ok (.aload_n 0, 1) := dk_42 (dk_at dksX0_pond_2 22 rfl rfl)
theorem dX0_pond_70 : decode cX0_pond 70 = .ok (.iconst 0, 1) := dk_3 (dk_at dksX0_pond_2 23 rfl rfl)
theorem dX0_pond_71 : decode cX0_pond 71 = .ok (.putfield 40, 3) := dk_181 0 40 (dk_at dksX0_pond_3 0 rfl rfl)
theorem dX0_pond_74 : decode cX0_pond 74 = .ok (.aload_n 0, 1) := dk_42 (dk_at dksX0_pond_3 3 rfl rfl)
theorem dX0_pond_75 : decode cX0_pond 75 = .ok (.iconst 0, 1) := dk_3 (dk_at dksX0_pond_3 4 rfl rfl)
theorem dX0_pond_76 : decode cX0_pond 76 = .ok (.putfield 484, 3) := dk_181 1 228 (dk_at dksX0_pond_3 5 rfl rfl)
theorem dX0_pond_79 : decode cX0_pond 79 = .ok (.aload_n 0, 1) := dk_42 (dk_at dksX0_pond_3 8 rfl rfl)
theorem dX0_pond_80 : decode cX0_pond 80 = .ok (.aconst_null, 1) := dk_1 (dk_at dksX0_pond_3 9 rfl rfl)
theorem dX0_pond_81 : decode cX0_pond 81 = .ok (.putfield 384, 3) := dk_181 1 128 (dk_at dksX0_pond_3 10 rfl rfl)
theorem dX0_pond_84 : decode cX0_pond 84 = .ok (.aload_n 0, 1) := dk_42 (dk_at dksX0_pond_3 13 rfl rfl)
theorem dX0_pond_85 : decode cX0_pond 85 = .ok (.aconst_null, 1) := dk_1 (dk_at dksX0_pond_3 14 rfl rfl)
theorem dX0_pond_86 : decode cX0_pond 86 = .ok (.putfield 272, 3) := dk_181 1 16 (dk_at dksX0_pond_3 15 rfl rfl)
theorem dX0_pond_89 : decode cX0_pond 89 = .ok (.aload_n 0, 1) := dk_42 (dk_at dksX0_pond_3 18 rfl rfl)
theorem dX0_pond_90 : decode cX0_pond 90 = .ok (.iconst 0, 1) := dk_3 (dk_at dksX0_pond_3 19 rfl rfl)
theorem dX0_pond_91 : decode cX0_pond 91 = .ok (.putfield 236, 3) := dk_181 0 236 (dk_at dksX0_pond_3 20 rfl rfl)
theorem dX0_pond_94 : decode cX0_pond 94 = .ok (.aload_n 0, 1) := dk_42 (dk_at dksX0_pond_3 23 rfl rfl)
theorem dX0_pond_95 : decode cX0_pond 95 = .ok (.iconst (-1), 1) := dk_2 (dk_at dksX0_pond_4 0 rfl rfl)
theorem dX0_pond_96 : decode cX0_pond 96 = .ok (.putfield 442, 3) := dk_181 1 186 (dk_at dksX0_pond_4 1 rfl rfl)
theorem dX0_pond_99 : decode cX0_pond 99 = .ok (.aload_n 0, 1) := dk_42 (dk_at dksX0_pond_4 4 rfl rfl)
theorem dX0_pond_100 : decode cX0_pond 100 = .ok (.getfield 397, 3) := dk_180 1 141 (dk_at dksX0_pond_4 5 rfl rfl)
theorem dX0_pond_103 : decode cX0_pond 103 = .ok (.aconst_null, 1) := dk_1 (dk_at dksX0_pond_4 8 rfl rfl)
theorem dX0_pond_104 : decode cX0_pond 104 = .ok (.invokestatic 583, 3) := dk_184 2 71 (dk_at dksX0_pond_4 9 rfl rfl)
theorem dX0_pond_107 : decode cX0_pond 107 = .ok (.aload_n 0, 1) := dk_42 (dk_at dksX0_pond_4 12 rfl rfl)
theorem dX0_pond_108 : decode cX0_pond 108 = .ok (.getfield 213, 3) := dk_180 0 213 (dk_at dksX0_pond_4 13 rfl rfl)
theorem dX0_pond_111 : decode cX0_pond 111 = .ok (.arraylength, 1) := dk_190 (dk_at dksX0_pond_4 16 rfl rfl)
theorem dX0_pond_112 : decode cX0_pond 112 = .ok (.istore_n 2, 1) := dk_61 (dk_at dksX0_pond_4 17 rfl rfl)
theorem dX0_pond_113 : decode cX0_pond 113 = .ok (.aload_n 0, 1) := dk_42 (dk_at dksX0_pond_4 18 rfl rfl)
theorem dX0_pond_114 : decode cX0_pond 114 = .ok (.iconst 0, 1) := dk_3 (dk_at dksX0_pond_4 19 rfl rfl)
theorem dX0_pond_115 : decode cX0_pond 115 = .ok (.putfield 559, 3) := dk_181 2 47 (dk_at dksX0_pond_4 20 rfl rfl)
theorem dX0_pond_118 : decode cX0_pond 118 = .ok (.iload_n 2, 1) := dk_28 (dk_at dksX0_pond_4 23 rfl rfl)
theorem dX0_pond_119 : decode cX0_pond 119 = .ok (.ireturn, 1) := dk_172 (dk_at dksX0_pond_5 0 rfl rfl)
theorem dX0_pond_120 : decode cX0_pond 120 = .ok (.astore_n 1, 1) := dk_76 (dk_at dksX0_pond_5 1 rfl rfl)
theorem dX0_pond_121 : decode cX0_pond 121 = .ok (.aload_n 0, 1) := dk_42 (dk_at dksX0_pond_5 2 rfl rfl)
theorem dX0_pond_122 : decode cX0_pond 122 = .ok (.aload_n 1, 1) := dk_43 (dk_at dksX0_pond_5 3 rfl rfl)
theorem dX0_pond_123 : decode cX0_pond 123 = .ok (.invokevirtual 586, 3) := dk_182 2 74 (dk_at dksX0_pond_5 4 rfl rfl)
theorem dX0_pond_126 : decode cX0_pond 126 = .ok (.istore_n 2, 1) := dk_61 (dk_at dksX0_pond_5 7 rfl rfl)
theorem dX0_pond_127 : decode cX0_pond 127 = .ok (.aload_n 0, 1) := dk_42 (dk_at dksX0_pond_5 8 rfl rfl)
theorem dX0_pond_128 : decode cX0_pond 128 = .ok (.iconst 0, 1) := dk_3 (dk_at dksX0_pond_5 9 rfl rfl)
theorem dX0_pond_129 : decode cX0_pond 129 = .ok (.putfield 559, 3) := dk_181 2 47 (dk_at dksX0_pond_5 10 rfl rfl)
theorem dX0_pond_132 : decode cX0_pond 132 = .ok (.iload_n 2, 1) := dk_28 (dk_at dksX0_pond_5 13 rfl rfl)
theorem dX0_pond_133 : decode cX0_pond 133 = .ok (.ireturn, 1) := dk_172 (dk_at dksX0_pond_5 14 rfl rfl)
theorem dX0_pond_134 : decode cX0_pond 134 = .ok (.astore_n 3, 1) := dk_78 (dk_at dksX0_pond_5 15 rfl rfl)
theorem dX0_pond_135 : decode cX0_pond 135 = .ok (.aload_n 0, 1) := dk_42 (dk_at dksX0_pond_5 16 rfl rfl)
theorem dX0_pond_136 : decode cX0_pond 136 = .ok (.iconst 0, 1) := dk_3 (dk_at dksX0_pond_5 17 rfl rfl)
theorem dX0_pond_137 : decode cX0_pond 137 = .ok (.putfield 559, 3) := dk_181 2 47 (dk_at dksX0_pond_5 18 rfl rfl)
theorem dX0_pond_140 : decode cX0_pond 140 = .ok (.aload_n 3, 1) := dk_45 (dk_at dksX0_pond_5 21 rfl rfl)
theorem dX0_pond_141 : decode cX0_pond 141 = .ok (.athrow, 1) := dk_191 (dk_at dksX0_pond_5 22 rfl rfl)
abbrev cX0_fine : ByteArray := prog_1_method_56_code
def yX0_fine : MethodName := ⟨RX0, "fine", "()V"⟩
def dkwX0_fine_0 : List UInt8 := [42, 3, 181, 2, 61, 42, 2, 181, 2, 30, 177]
abbrev dktX0_fine_0 : List UInt8 := dkwX0_fine_0 ++ []
theorem dksX0_fine_0 : cX0_fine.data.toList.drop 0 = dktX0_fine_0 := by decide +kernel
theorem dX0_fine_0 : decode cX0_fine 0 = .ok (.aload_n 0, 1) := dk_42 (dk_at dksX0_fine_0 0 rfl rfl)
theorem dX0_fine_1 : decode cX0_fine 1 = .ok (.iconst 0, 1) := dk_3 (dk_at dksX0_fine_0 1 rfl rfl)
theorem dX0_fine_2 : decode cX0_fine 2 = .ok (.putfield 573, 3) := dk_181 2 61 (dk_at dksX0_fine_0 2 rfl rfl)
theorem dX0_fine_5 : decode cX0_fine 5 = .ok (.aload_n 0, 1) := dk_42 (dk_at dksX0_fine_0 5 rfl rfl)
theorem dX0_fine_6 : decode cX0_fine 6 = .ok (.iconst (-1), 1) := dk_2 (dk_at dksX0_fine_0 6 rfl rfl)
theorem dX0_fine_7 : decode cX0_fine 7 = .ok (.putfield 542, 3) := dk_181 2 30 (dk_at dksX0_fine_0 7 rfl rfl)
theorem dX0_fine_10 : decode cX0_fine 10 = .ok (.return_, 1) := dk_177 (dk_at dksX0_fine_0 10 rfl rfl)
abbrev cX0_faulty : ByteArray := prog_1_method_57_code
def yX0_faulty : MethodName := ⟨RX0, "faulty", "(LPondHouse$Fault;)I"⟩
def dkwX0_faulty_0 : List UInt8 := [42, 43, 180, 0, 141, 181, 2, 61, 42, 43, 180, 0, 144, 181, 2, 30, 2, 172]
abbrev dktX0_faulty_0 : List UInt8 := dkwX0_faulty_0 ++ []
theorem dksX0_faulty_0 : cX0_faulty.data.toList.drop 0 = dktX0_faulty_0 := by decide +kernel
theorem dX0_faulty_0 : decode cX0_faulty 0 = .ok (.aload_n 0, 1) := dk_42 (dk_at dksX0_faulty_0 0 rfl rfl)
theorem dX0_faulty_1 : decode cX0_faulty 1 = .ok (.aload_n 1, 1) := dk_43 (dk_at dksX0_faulty_0 1 rfl rfl)
theorem dX0_faulty_2 : decode cX0_faulty 2 = .ok (.getfield 141, 3) := dk_180 0 141 (dk_at dksX0_faulty_0 2 rfl rfl)
theorem dX0_faulty_5 : decode cX0_faulty 5 = .ok (.putfield 573, 3) := dk_181 2 61 (dk_at dksX0_faulty_0 5 rfl rfl)
theorem dX0_faulty_8 : decode cX0_faulty 8 = .ok (.aload_n 0, 1) := dk_42 (dk_at dksX0_faulty_0 8 rfl rfl)
theorem dX0_faulty_9 : decode cX0_faulty 9 = .ok (.aload_n 1, 1) := dk_43 (dk_at dksX0_faulty_0 9 rfl rfl)
theorem dX0_faulty_10 : decode cX0_faulty 10 = .ok (.getfield 144, 3) := dk_180 0 144 (dk_at dksX0_faulty_0 10 rfl rfl)
theorem dX0_faulty_13 : decode cX0_faulty 13 = .ok (.putfield 542, 3) := dk_181 2 30 (dk_at dksX0_faulty_0 13 rfl rfl)
theorem dX0_faulty_16 : decode cX0_faulty 16 = .ok (.iconst (-1), 1) := dk_2 (dk_at dksX0_faulty_0 16 rfl rfl)
theorem dX0_faulty_17 : decode cX0_faulty 17 = .ok (.ireturn, 1) := dk_172 (dk_at dksX0_faulty_0 17 rfl rfl)
abbrev cX0_patch : ByteArray := prog_1_method_59_code
def yX0_patch : MethodName := ⟨RX0, "patch", "()I"⟩
def dkwX0_patch_3 : List UInt8 := [43, 182, 2, 74, 61, 42, 3, 181, 2, 47, 28, 172, 78, 42, 3, 181, 2, 47, 45, 191]
abbrev dktX0_patch_3 : List UInt8 := dkwX0_patch_3 ++ []
def dkwX0_patch_2 : List UInt8 := [180, 1, 228, 4, 96, 181, 1, 228, 42, 180, 1, 228, 4, 100, 60, 42, 3, 181, 2, 47, 27, 172, 76, 42]
abbrev dktX0_patch_2 : List UInt8 := dkwX0_patch_2 ++ dktX0_patch_3
def dkwX0_patch_1 : List UInt8 := [180, 1, 231, 42, 180, 1, 228, 187, 0, 225, 89, 42, 180, 2, 39, 182, 2, 78, 183, 2, 81, 83, 42, 89]
abbrev dktX0_patch_1 : List UInt8 := dkwX0_patch_1 ++ dktX0_patch_2
def dkwX0_patch_0 : List UInt8 := [42, 182, 2, 68, 42, 180, 1, 228, 16, 6, 160, 0, 12, 2, 60, 42, 3, 181, 2, 47, 27, 172, 42]
abbrev dktX0_patch_0 : List UInt8 := dkwX0_patch_0 ++ dktX0_patch_1
theorem dksX0_patch_0 : cX0_patch.data.toList.drop 0 = dktX0_patch_0 := by decide +kernel
theorem dksX0_patch_1 : cX0_patch.data.toList.drop 23 = dktX0_patch_1 := dk_seg dksX0_patch_0 23 rfl rfl
theorem dksX0_patch_2 : cX0_patch.data.toList.drop 47 = dktX0_patch_2 := dk_seg dksX0_patch_1 24 rfl rfl
theorem dksX0_patch_3 : cX0_patch.data.toList.drop 71 = dktX0_patch_3 := dk_seg dksX0_patch_2 24 rfl rfl
theorem dX0_patch_0 : decode cX0_patch 0 = .ok (.aload_n 0, 1) := dk_42 (dk_at dksX0_patch_0 0 rfl rfl)
theorem dX0_patch_1 : decode cX0_patch 1 = .ok (.invokevirtual 580, 3) := dk_182 2 68 (dk_at dksX0_patch_0 1 rfl rfl)
theorem dX0_patch_4 : decode cX0_patch 4 = .ok (.aload_n 0, 1) := dk_42 (dk_at dksX0_patch_0 4 rfl rfl)
theorem dX0_patch_5 : decode cX0_patch 5 = .ok (.getfield 484, 3) := dk_180 1 228 (dk_at dksX0_patch_0 5 rfl rfl)
theorem dX0_patch_8 : decode cX0_patch 8 = .ok (.bipush 6, 2) := dk_16 6 (dk_at dksX0_patch_0 8 rfl rfl)
theorem dX0_patch_10 : decode cX0_patch 10 = .ok (.if_icmp .ne 12, 3) := dk_160 0 12 (dk_at dksX0_patch_0 10 rfl rfl)
theorem dX0_patch_13 : decode cX0_patch 13 = .ok (.iconst (-1), 1) := dk_2 (dk_at dksX0_patch_0 13 rfl rfl)
theorem dX0_patch_14 : decode cX0_patch 14 = .ok (.istore_n 1, 1) := dk_60 (dk_at dksX0_patch_0 14 rfl rfl)
theorem dX0_patch_15 : decode cX0_patch 15 = .ok (.aload_n 0, 1) := dk_42 (dk_at dksX0_patch_0 15 rfl rfl)
theorem dX0_patch_16 : decode cX0_patch 16 = .ok (.iconst 0, 1) := dk_3 (dk_at dksX0_patch_0 16 rfl rfl)
theorem dX0_patch_17 : decode cX0_patch 17 = .ok (.putfield 559, 3) := dk_181 2 47 (dk_at dksX0_patch_0 17 rfl rfl)
theorem dX0_patch_20 : decode cX0_patch 20 = .ok (.iload_n 1, 1) := dk_27 (dk_at dksX0_patch_0 20 rfl rfl)
theorem dX0_patch_21 : decode cX0_patch 21 = .ok (.ireturn, 1) := dk_172 (dk_at dksX0_patch_0 21 rfl rfl)
theorem dX0_patch_22 : decode cX0_patch 22 = .ok (.aload_n 0, 1) := dk_42 (dk_at dksX0_patch_0 22 rfl rfl)
theorem dX0_patch_23 : decode cX0_patch 23 = .ok (.getfield 487, 3) := dk_180 1 231 (dk_at dksX0_patch_1 0 rfl rfl)
theorem dX0_patch_26 : decode cX0_patch 26 = .ok (.aload_n 0, 1) := dk_42 (dk_at dksX0_patch_1 3 rfl rfl)
theorem dX0_patch_27 : decode cX0_patch 27 = .ok (.getfield 484, 3) := dk_180 1 228 (dk_at dksX0_patch_1 4 rfl rfl)
theorem dX0_patch_30 : decode cX0_patch 30 = .ok (.new 225, 3) := dk_187 0 225 (dk_at dksX0_patch_1 7 rfl rfl)
theorem dX0_patch_33 : decode cX0_patch 33 = .ok (.dup, 1) := dk_89 (dk_at dksX0_patch_1 10 rfl rfl)
theorem dX0_patch_34 : decode cX0_patch 34 = .ok (.aload_n 0, 1) := dk_42 (dk_at dksX0_patch_1 11 rfl rfl)
theorem dX0_patch_35 : decode cX0_patch 35 = .ok (.getfield 551, 3) := dk_180 2 39 (dk_at dksX0_patch_1 12 rfl rfl)
theorem dX0_patch_38 : decode cX0_patch 38 = .ok (.invokevirtual 590, 3) := dk_182 2 78 (dk_at dksX0_patch_1 15 rfl rfl)
theorem dX0_patch_41 : decode cX0_patch 41 = .ok (.invokespecial 593, 3) := dk_183 2 81 (dk_at dksX0_patch_1 18 rfl rfl)
theorem dX0_patch_44 : decode cX0_patch 44 = .ok (.aastore, 1) := dk_83 (dk_at dksX0_patch_1 21 rfl rfl)
theorem dX0_patch_45 : decode cX0_patch 45 = .ok (.aload_n 0, 1) := dk_42 (dk_at dksX0_patch_1 22 rfl rfl)
theorem dX0_patch_46 : decode cX0_patch 46 = .ok (.dup, 1) := dk_89 (dk_at dksX0_patch_1 23 rfl rfl)
theorem dX0_patch_47 : decode cX0_patch 47 = .ok (.getfield 484, 3) := dk_180 1 228 (dk_at dksX0_patch_2 0 rfl rfl)
theorem dX0_patch_50 : decode cX0_patch 50 = .ok (.iconst 1, 1) := dk_4 (dk_at dksX0_patch_2 3 rfl rfl)
theorem dX0_patch_51 : decode cX0_patch 51 = .ok (.iadd, 1) := dk_96 (dk_at dksX0_patch_2 4 rfl rfl)
theorem dX0_patch_52 : decode cX0_patch 52 = .ok (.putfield 484, 3) := dk_181 1 228 (dk_at dksX0_patch_2 5 rfl rfl)
theorem dX0_patch_55 : decode cX0_patch 55 = .ok (.aload_n 0, 1) := dk_42 (dk_at dksX0_patch_2 8 rfl rfl)
theorem dX0_patch_56 : decode cX0_patch 56 = .ok (.getfield 484, 3) := dk_180 1 228 (dk_at dksX0_patch_2 9 rfl rfl)
theorem dX0_patch_59 : decode cX0_patch 59 = .ok (.iconst 1, 1) := dk_4 (dk_at dksX0_patch_2 12 rfl rfl)
theorem dX0_patch_60 : decode cX0_patch 60 = .ok (.isub, 1) := dk_100 (dk_at dksX0_patch_2 13 rfl rfl)
theorem dX0_patch_61 : decode cX0_patch 61 = .ok (.istore_n 1, 1) := dk_60 (dk_at dksX0_patch_2 14 rfl rfl)
theorem dX0_patch_62 : decode cX0_patch 62 = .ok (.aload_n 0, 1) := dk_42 (dk_at dksX0_patch_2 15 rfl rfl)
theorem dX0_patch_63 : decode cX0_patch 63 = .ok (.iconst 0, 1) := dk_3 (dk_at dksX0_patch_2 16 rfl rfl)
theorem dX0_patch_64 : decode cX0_patch 64 = .ok (.putfield 559, 3) := dk_181 2 47 (dk_at dksX0_patch_2 17 rfl rfl)
theorem dX0_patch_67 : decode cX0_patch 67 = .ok (.iload_n 1, 1) := dk_27 (dk_at dksX0_patch_2 20 rfl rfl)
theorem dX0_patch_68 : decode cX0_patch 68 = .ok (.ireturn, 1) := dk_172 (dk_at dksX0_patch_2 21 rfl rfl)
theorem dX0_patch_69 : decode cX0_patch 69 = .ok (.astore_n 1, 1) := dk_76 (dk_at dksX0_patch_2 22 rfl rfl)
theorem dX0_patch_70 : decode cX0_patch 70 = .ok (.aload_n 0, 1) := dk_42 (dk_at dksX0_patch_2 23 rfl rfl)
theorem dX0_patch_71 : decode cX0_patch 71 = .ok (.aload_n 1, 1) := dk_43 (dk_at dksX0_patch_3 0 rfl rfl)
theorem dX0_patch_72 : decode cX0_patch 72 = .ok (.invokevirtual 586, 3) := dk_182 2 74 (dk_at dksX0_patch_3 1 rfl rfl)
theorem dX0_patch_75 : decode cX0_patch 75 = .ok (.istore_n 2, 1) := dk_61 (dk_at dksX0_patch_3 4 rfl rfl)
theorem dX0_patch_76 : decode cX0_patch 76 = .ok (.aload_n 0, 1) := dk_42 (dk_at dksX0_patch_3 5 rfl rfl)
theorem dX0_patch_77 : decode cX0_patch 77 = .ok (.iconst 0, 1) := dk_3 (dk_at dksX0_patch_3 6 rfl rfl)
theorem dX0_patch_78 : decode cX0_patch 78 = .ok (.putfield 559, 3) := dk_181 2 47 (dk_at dksX0_patch_3 7 rfl rfl)
theorem dX0_patch_81 : decode cX0_patch 81 = .ok (.iload_n 2, 1) := dk_28 (dk_at dksX0_patch_3 10 rfl rfl)
theorem dX0_patch_82 : decode cX0_patch 82 = .ok (.ireturn, 1) := dk_172 (dk_at dksX0_patch_3 11 rfl rfl)
theorem dX0_patch_83 : decode cX0_patch 83 = .ok (.astore_n 3, 1) := dk_78 (dk_at dksX0_patch_3 12 rfl rfl)
theorem dX0_patch_84 : decode cX0_patch 84 = .ok (.aload_n 0, 1) := dk_42 (dk_at dksX0_patch_3 13 rfl rfl)
theorem dX0_patch_85 : decode cX0_patch 85 = .ok (.iconst 0, 1) := dk_3 (dk_at dksX0_patch_3 14 rfl rfl)
theorem dX0_patch_86 : decode cX0_patch 86 = .ok (.putfield 559, 3) := dk_181 2 47 (dk_at dksX0_patch_3 15 rfl rfl)
theorem dX0_patch_89 : decode cX0_patch 89 = .ok (.aload_n 3, 1) := dk_45 (dk_at dksX0_patch_3 18 rfl rfl)
theorem dX0_patch_90 : decode cX0_patch 90 = .ok (.athrow, 1) := dk_191 (dk_at dksX0_patch_3 19 rfl rfl)
abbrev cX0_fault : ByteArray := prog_1_method_60_code
def yX0_fault : MethodName := ⟨RX0, "fault", "(I)I"⟩
def dkwX0_fault_1 : List UInt8 := [172]
abbrev dktX0_fault_1 : List UInt8 := dkwX0_fault_1 ++ []
def dkwX0_fault_0 : List UInt8 := [27, 154, 0, 10, 42, 180, 2, 61, 167, 0, 16, 27, 4, 160, 0, 10, 42, 180, 2, 30, 167, 0, 4, 2]
abbrev dktX0_fault_0 : List UInt8 := dkwX0_fault_0 ++ dktX0_fault_1
theorem dksX0_fault_0 : cX0_fault.data.toList.drop 0 = dktX0_fault_0 := by decide +kernel
theorem dksX0_fault_1 : cX0_fault.data.toList.drop 24 = dktX0_fault_1 := dk_seg dksX0_fault_0 24 rfl rfl
theorem dX0_fault_0 : decode cX0_fault 0 = .ok (.iload_n 1, 1) := dk_27 (dk_at dksX0_fault_0 0 rfl rfl)
theorem dX0_fault_1 : decode cX0_fault 1 = .ok (.ifCond .ne 10, 3) := dk_154 0 10 (dk_at dksX0_fault_0 1 rfl rfl)
theorem dX0_fault_4 : decode cX0_fault 4 = .ok (.aload_n 0, 1) := dk_42 (dk_at dksX0_fault_0 4 rfl rfl)
theorem dX0_fault_5 : decode cX0_fault 5 = .ok (.getfield 573, 3) := dk_180 2 61 (dk_at dksX0_fault_0 5 rfl rfl)
theorem dX0_fault_8 : decode cX0_fault 8 = .ok (.goto 16, 3) := dk_167 0 16 (dk_at dksX0_fault_0 8 rfl rfl)
theorem dX0_fault_11 : decode cX0_fault 11 = .ok (.iload_n 1, 1) := dk_27 (dk_at dksX0_fault_0 11 rfl rfl)
theorem dX0_fault_12 : decode cX0_fault 12 = .ok (.iconst 1, 1) := dk_4 (dk_at dksX0_fault_0 12 rfl rfl)
theorem dX0_fault_13 : decode cX0_fault 13 = .ok (.if_icmp .ne 10, 3) := dk_160 0 10 (dk_at dksX0_fault_0 13 rfl rfl)
theorem dX0_fault_16 : decode cX0_fault 16 = .ok (.aload_n 0, 1) := dk_42 (dk_at dksX0_fault_0 16 rfl rfl)
theorem dX0_fault_17 : decode cX0_fault 17 = .ok (.getfield 542, 3) := dk_180 2 30 (dk_at dksX0_fault_0 17 rfl rfl)
theorem dX0_fault_20 : decode cX0_fault 20 = .ok (.goto 4, 3) := dk_167 0 4 (dk_at dksX0_fault_0 20 rfl rfl)
theorem dX0_fault_23 : decode cX0_fault 23 = .ok (.iconst (-1), 1) := dk_2 (dk_at dksX0_fault_0 23 rfl rfl)
theorem dX0_fault_24 : decode cX0_fault 24 = .ok (.ireturn, 1) := dk_172 (dk_at dksX0_fault_1 0 rfl rfl)
abbrev cX0_kinds : ByteArray := prog_1_method_61_code
def yX0_kinds : MethodName := ⟨RX0, "kinds", "()I"⟩
def dkwX0_kinds_0 : List UInt8 := [42, 180, 0, 213, 190, 172]
abbrev dktX0_kinds_0 : List UInt8 := dkwX0_kinds_0 ++ []
theorem dksX0_kinds_0 : cX0_kinds.data.toList.drop 0 = dktX0_kinds_0 := by decide +kernel
theorem dX0_kinds_0 : decode cX0_kinds 0 = .ok (.aload_n 0, 1) := dk_42 (dk_at dksX0_kinds_0 0 rfl rfl)
theorem dX0_kinds_1 : decode cX0_kinds 1 = .ok (.getfield 213, 3) := dk_180 0 213 (dk_at dksX0_kinds_0 1 rfl rfl)
theorem dX0_kinds_4 : decode cX0_kinds 4 = .ok (.arraylength, 1) := dk_190 (dk_at dksX0_kinds_0 4 rfl rfl)
theorem dX0_kinds_5 : decode cX0_kinds 5 = .ok (.ireturn, 1) := dk_172 (dk_at dksX0_kinds_0 5 rfl rfl)
abbrev cX0_kind : ByteArray := prog_1_method_62_code
def yX0_kind : MethodName := ⟨RX0, "kind", "(II)I"⟩
def dkwX0_kind_4 : List UInt8 := [172]
abbrev dktX0_kind_4 : List UInt8 := dkwX0_kind_4 ++ []
def dkwX0_kind_3 : List UInt8 := [45, 180, 0, 84, 172, 45, 180, 1, 24, 190, 172, 45, 180, 1, 30, 190, 172, 45, 180, 2, 84, 190, 172, 2]
abbrev dktX0_kind_3 : List UInt8 := dkwX0_kind_3 ++ dktX0_kind_4
def dkwX0_kind_2 : List UInt8 := [45, 180, 0, 17, 172, 45, 180, 0, 36, 199, 0, 7, 2, 167, 0, 10, 45, 180, 0, 36, 180, 0, 17, 172]
abbrev dktX0_kind_2 : List UInt8 := dkwX0_kind_2 ++ dktX0_kind_3
def dkwX0_kind_1 : List UInt8 := [170, 0, 0, 0, 84, 0, 0, 0, 0, 0, 0, 0, 5, 0, 0, 0, 37, 0, 0, 0, 42, 0, 0, 0, 61, 0, 0, 0, 66, 0, 0, 0, 72, 0, 0, 0, 78]
abbrev dktX0_kind_1 : List UInt8 := dkwX0_kind_1 ++ dktX0_kind_2
def dkwX0_kind_0 : List UInt8 := [27, 155, 0, 12, 27, 42, 180, 0, 213, 190, 161, 0, 5, 2, 172, 42, 180, 0, 213, 27, 50, 78, 28]
abbrev dktX0_kind_0 : List UInt8 := dkwX0_kind_0 ++ dktX0_kind_1
theorem dksX0_kind_0 : cX0_kind.data.toList.drop 0 = dktX0_kind_0 := by decide +kernel
theorem dksX0_kind_1 : cX0_kind.data.toList.drop 23 = dktX0_kind_1 := dk_seg dksX0_kind_0 23 rfl rfl
theorem dksX0_kind_2 : cX0_kind.data.toList.drop 60 = dktX0_kind_2 := dk_seg dksX0_kind_1 37 rfl rfl
theorem dksX0_kind_3 : cX0_kind.data.toList.drop 84 = dktX0_kind_3 := dk_seg dksX0_kind_2 24 rfl rfl
theorem dksX0_kind_4 : cX0_kind.data.toList.drop 108 = dktX0_kind_4 := dk_seg dksX0_kind_3 24 rfl rfl
theorem dX0_kind_0 : decode cX0_kind 0 = .ok (.iload_n 1, 1) := dk_27 (dk_at dksX0_kind_0 0 rfl rfl)
theorem dX0_kind_1 : decode cX0_kind 1 = .ok (.ifCond .lt 12, 3) := dk_155 0 12 (dk_at dksX0_kind_0 1 rfl rfl)
theorem dX0_kind_4 : decode cX0_kind 4 = .ok (.iload_n 1, 1) := dk_27 (dk_at dksX0_kind_0 4 rfl rfl)
theorem dX0_kind_5 : decode cX0_kind 5 = .ok (.aload_n 0, 1) := dk_42 (dk_at dksX0_kind_0 5 rfl rfl)
theorem dX0_kind_6 : decode cX0_kind 6 = .ok (.getfield 213, 3) := dk_180 0 213 (dk_at dksX0_kind_0 6 rfl rfl)
theorem dX0_kind_9 : decode cX0_kind 9 = .ok (.arraylength, 1) := dk_190 (dk_at dksX0_kind_0 9 rfl rfl)
theorem dX0_kind_10 : decode cX0_kind 10 = .ok (.if_icmp .lt 5, 3) := dk_161 0 5 (dk_at dksX0_kind_0 10 rfl rfl)
theorem dX0_kind_13 : decode cX0_kind 13 = .ok (.iconst (-1), 1) := dk_2 (dk_at dksX0_kind_0 13 rfl rfl)
theorem dX0_kind_14 : decode cX0_kind 14 = .ok (.ireturn, 1) := dk_172 (dk_at dksX0_kind_0 14 rfl rfl)
theorem dX0_kind_15 : decode cX0_kind 15 = .ok (.aload_n 0, 1) := dk_42 (dk_at dksX0_kind_0 15 rfl rfl)
theorem dX0_kind_16 : decode cX0_kind 16 = .ok (.getfield 213, 3) := dk_180 0 213 (dk_at dksX0_kind_0 16 rfl rfl)
theorem dX0_kind_19 : decode cX0_kind 19 = .ok (.iload_n 1, 1) := dk_27 (dk_at dksX0_kind_0 19 rfl rfl)
theorem dX0_kind_20 : decode cX0_kind 20 = .ok (.aaload, 1) := dk_50 (dk_at dksX0_kind_0 20 rfl rfl)
theorem dX0_kind_21 : decode cX0_kind 21 = .ok (.astore_n 3, 1) := dk_78 (dk_at dksX0_kind_0 21 rfl rfl)
theorem dX0_kind_22 : decode cX0_kind 22 = .ok (.iload_n 2, 1) := dk_28 (dk_at dksX0_kind_0 22 rfl rfl)
theorem dX0_kind_23 : decode cX0_kind 23 = .ok (.tableswitch 84 0 5 #[37, 42, 61, 66, 72, 78], 37) := by decide +kernel
theorem dX0_kind_60 : decode cX0_kind 60 = .ok (.aload_n 3, 1) := dk_45 (dk_at dksX0_kind_2 0 rfl rfl)
theorem dX0_kind_61 : decode cX0_kind 61 = .ok (.getfield 17, 3) := dk_180 0 17 (dk_at dksX0_kind_2 1 rfl rfl)
theorem dX0_kind_64 : decode cX0_kind 64 = .ok (.ireturn, 1) := dk_172 (dk_at dksX0_kind_2 4 rfl rfl)
theorem dX0_kind_65 : decode cX0_kind 65 = .ok (.aload_n 3, 1) := dk_45 (dk_at dksX0_kind_2 5 rfl rfl)
theorem dX0_kind_66 : decode cX0_kind 66 = .ok (.getfield 36, 3) := dk_180 0 36 (dk_at dksX0_kind_2 6 rfl rfl)
theorem dX0_kind_69 : decode cX0_kind 69 = .ok (.ifnonnull 7, 3) := dk_199 0 7 (dk_at dksX0_kind_2 9 rfl rfl)
theorem dX0_kind_72 : decode cX0_kind 72 = .ok (.iconst (-1), 1) := dk_2 (dk_at dksX0_kind_2 12 rfl rfl)
theorem dX0_kind_73 : decode cX0_kind 73 = .ok (.goto 10, 3) := dk_167 0 10 (dk_at dksX0_kind_2 13 rfl rfl)
theorem dX0_kind_76 : decode cX0_kind 76 = .ok (.aload_n 3, 1) := dk_45 (dk_at dksX0_kind_2 16 rfl rfl)
theorem dX0_kind_77 : decode cX0_kind 77 = .ok (.getfield 36, 3) := dk_180 0 36 (dk_at dksX0_kind_2 17 rfl rfl)
theorem dX0_kind_80 : decode cX0_kind 80 = .ok (.getfield 17, 3) := dk_180 0 17 (dk_at dksX0_kind_2 20 rfl rfl)
theorem dX0_kind_83 : decode cX0_kind 83 = .ok (.ireturn, 1) := dk_172 (dk_at dksX0_kind_2 23 rfl rfl)
theorem dX0_kind_84 : decode cX0_kind 84 = .ok (.aload_n 3, 1) := dk_45 (dk_at dksX0_kind_3 0 rfl rfl)
theorem dX0_kind_85 : decode cX0_kind 85 = .ok (.getfield 84, 3) := dk_180 0 84 (dk_at dksX0_kind_3 1 rfl rfl)
theorem dX0_kind_88 : decode cX0_kind 88 = .ok (.ireturn, 1) := dk_172 (dk_at dksX0_kind_3 4 rfl rfl)
theorem dX0_kind_89 : decode cX0_kind 89 = .ok (.aload_n 3, 1) := dk_45 (dk_at dksX0_kind_3 5 rfl rfl)
theorem dX0_kind_90 : decode cX0_kind 90 = .ok (.getfield 280, 3) := dk_180 1 24 (dk_at dksX0_kind_3 6 rfl rfl)
theorem dX0_kind_93 : decode cX0_kind 93 = .ok (.arraylength, 1) := dk_190 (dk_at dksX0_kind_3 9 rfl rfl)
theorem dX0_kind_94 : decode cX0_kind 94 = .ok (.ireturn, 1) := dk_172 (dk_at dksX0_kind_3 10 rfl rfl)
theorem dX0_kind_95 : decode cX0_kind 95 = .ok (.aload_n 3, 1) := dk_45 (dk_at dksX0_kind_3 11 rfl rfl)
theorem dX0_kind_96 : decode cX0_kind 96 = .ok (.getfield 286, 3) := dk_180 1 30 (dk_at dksX0_kind_3 12 rfl rfl)
theorem dX0_kind_99 : decode cX0_kind 99 = .ok (.arraylength, 1) := dk_190 (dk_at dksX0_kind_3 15 rfl rfl)
theorem dX0_kind_100 : decode cX0_kind 100 = .ok (.ireturn, 1) := dk_172 (dk_at dksX0_kind_3 16 rfl rfl)
theorem dX0_kind_101 : decode cX0_kind 101 = .ok (.aload_n 3, 1) := dk_45 (dk_at dksX0_kind_3 17 rfl rfl)
theorem dX0_kind_102 : decode cX0_kind 102 = .ok (.getfield 596, 3) := dk_180 2 84 (dk_at dksX0_kind_3 18 rfl rfl)
theorem dX0_kind_105 : decode cX0_kind 105 = .ok (.arraylength, 1) := dk_190 (dk_at dksX0_kind_3 21 rfl rfl)
theorem dX0_kind_106 : decode cX0_kind 106 = .ok (.ireturn, 1) := dk_172 (dk_at dksX0_kind_3 22 rfl rfl)
theorem dX0_kind_107 : decode cX0_kind 107 = .ok (.iconst (-1), 1) := dk_2 (dk_at dksX0_kind_3 23 rfl rfl)
theorem dX0_kind_108 : decode cX0_kind 108 = .ok (.ireturn, 1) := dk_172 (dk_at dksX0_kind_4 0 rfl rfl)
abbrev cX0_create : ByteArray := prog_1_method_63_code
def yX0_create : MethodName := ⟨RX0, "create", "(I)I"⟩
def dkwX0_create_3 : List UInt8 := [42, 180, 0, 40, 4, 100, 172]
abbrev dktX0_create_3 : List UInt8 := dkwX0_create_3 ++ []
def dkwX0_create_2 : List UInt8 := [183, 2, 88, 83, 42, 180, 1, 192, 42, 180, 0, 40, 6, 79, 42, 89, 180, 0, 40, 4, 96, 181, 0, 40]
abbrev dktX0_create_2 : List UInt8 := dkwX0_create_2 ++ dktX0_create_3
def dkwX0_create_1 : List UInt8 := [172, 42, 180, 0, 43, 42, 180, 0, 40, 187, 0, 48, 89, 42, 42, 180, 0, 40, 42, 180, 0, 213, 28, 50]
abbrev dktX0_create_1 : List UInt8 := dkwX0_create_1 ++ dktX0_create_2
def dkwX0_create_0 : List UInt8 := [42, 180, 0, 213, 27, 184, 0, 180, 61, 28, 2, 159, 0, 12, 42, 180, 0, 40, 16, 40, 160, 0, 5, 2]
abbrev dktX0_create_0 : List UInt8 := dkwX0_create_0 ++ dktX0_create_1
theorem dksX0_create_0 : cX0_create.data.toList.drop 0 = dktX0_create_0 := by decide +kernel
theorem dksX0_create_1 : cX0_create.data.toList.drop 24 = dktX0_create_1 := dk_seg dksX0_create_0 24 rfl rfl
theorem dksX0_create_2 : cX0_create.data.toList.drop 48 = dktX0_create_2 := dk_seg dksX0_create_1 24 rfl rfl
theorem dksX0_create_3 : cX0_create.data.toList.drop 72 = dktX0_create_3 := dk_seg dksX0_create_2 24 rfl rfl
theorem dX0_create_0 : decode cX0_create 0 = .ok (.aload_n 0, 1) := dk_42 (dk_at dksX0_create_0 0 rfl rfl)
theorem dX0_create_1 : decode cX0_create 1 = .ok (.getfield 213, 3) := dk_180 0 213 (dk_at dksX0_create_0 1 rfl rfl)
theorem dX0_create_4 : decode cX0_create 4 = .ok (.iload_n 1, 1) := dk_27 (dk_at dksX0_create_0 4 rfl rfl)
theorem dX0_create_5 : decode cX0_create 5 = .ok (.invokestatic 180, 3) := dk_184 0 180 (dk_at dksX0_create_0 5 rfl rfl)
theorem dX0_create_8 : decode cX0_create 8 = .ok (.istore_n 2, 1) := dk_61 (dk_at dksX0_create_0 8 rfl rfl)
theorem dX0_create_9 : decode cX0_create 9 = .ok (.iload_n 2, 1) := dk_28 (dk_at dksX0_create_0 9 rfl rfl)
theorem dX0_create_10 : decode cX0_create 10 = .ok (.iconst (-1), 1) := dk_2 (dk_at dksX0_create_0 10 rfl rfl)
theorem dX0_create_11 : decode cX0_create 11 = .ok (.if_icmp .eq 12, 3) := dk_159 0 12 (dk_at dksX0_create_0 11 rfl rfl)
theorem dX0_create_14 : decode cX0_create 14 = .ok (.aload_n 0, 1) := dk_42 (dk_at dksX0_create_0 14 rfl rfl)
theorem dX0_create_15 : decode cX0_create 15 = .ok (.getfield 40, 3) := dk_180 0 40 (dk_at dksX0_create_0 15 rfl rfl)
theorem dX0_create_18 : decode cX0_create 18 = .ok (.bipush 40, 2) := dk_16 40 (dk_at dksX0_create_0 18 rfl rfl)
theorem dX0_create_20 : decode cX0_create 20 = .ok (.if_icmp .ne 5, 3) := dk_160 0 5 (dk_at dksX0_create_0 20 rfl rfl)
theorem dX0_create_23 : decode cX0_create 23 = .ok (.iconst (-1), 1) := dk_2 (dk_at dksX0_create_0 23 rfl rfl)
theorem dX0_create_24 : decode cX0_create 24 = .ok (.ireturn, 1) := dk_172 (dk_at dksX0_create_1 0 rfl rfl)
theorem dX0_create_25 : decode cX0_create 25 = .ok (.aload_n 0, 1) := dk_42 (dk_at dksX0_create_1 1 rfl rfl)
theorem dX0_create_26 : decode cX0_create 26 = .ok (.getfield 43, 3) := dk_180 0 43 (dk_at dksX0_create_1 2 rfl rfl)
theorem dX0_create_29 : decode cX0_create 29 = .ok (.aload_n 0, 1) := dk_42 (dk_at dksX0_create_1 5 rfl rfl)
theorem dX0_create_30 : decode cX0_create 30 = .ok (.getfield 40, 3) := dk_180 0 40 (dk_at dksX0_create_1 6 rfl rfl)
theorem dX0_create_33 : decode cX0_create 33 = .ok (.new 48, 3) := dk_187 0 48 (dk_at dksX0_create_1 9 rfl rfl)
theorem dX0_create_36 : decode cX0_create 36 = .ok (.dup, 1) := dk_89 (dk_at dksX0_create_1 12 rfl rfl)
theorem dX0_create_37 : decode cX0_create 37 = .ok (.aload_n 0, 1) := dk_42 (dk_at dksX0_create_1 13 rfl rfl)
theorem dX0_create_38 : decode cX0_create 38 = .ok (.aload_n 0, 1) := dk_42 (dk_at dksX0_create_1 14 rfl rfl)
theorem dX0_create_39 : decode cX0_create 39 = .ok (.getfield 40, 3) := dk_180 0 40 (dk_at dksX0_create_1 15 rfl rfl)
theorem dX0_create_42 : decode cX0_create 42 = .ok (.aload_n 0, 1) := dk_42 (dk_at dksX0_create_1 18 rfl rfl)
theorem dX0_create_43 : decode cX0_create 43 = .ok (.getfield 213, 3) := dk_180 0 213 (dk_at dksX0_create_1 19 rfl rfl)
theorem dX0_create_46 : decode cX0_create 46 = .ok (.iload_n 2, 1) := dk_28 (dk_at dksX0_create_1 22 rfl rfl)
theorem dX0_create_47 : decode cX0_create 47 = .ok (.aaload, 1) := dk_50 (dk_at dksX0_create_1 23 rfl rfl)
theorem dX0_create_48 : decode cX0_create 48 = .ok (.invokespecial 600, 3) := dk_183 2 88 (dk_at dksX0_create_2 0 rfl rfl)
theorem dX0_create_51 : decode cX0_create 51 = .ok (.aastore, 1) := dk_83 (dk_at dksX0_create_2 3 rfl rfl)
theorem dX0_create_52 : decode cX0_create 52 = .ok (.aload_n 0, 1) := dk_42 (dk_at dksX0_create_2 4 rfl rfl)
theorem dX0_create_53 : decode cX0_create 53 = .ok (.getfield 448, 3) := dk_180 1 192 (dk_at dksX0_create_2 5 rfl rfl)
theorem dX0_create_56 : decode cX0_create 56 = .ok (.aload_n 0, 1) := dk_42 (dk_at dksX0_create_2 8 rfl rfl)
theorem dX0_create_57 : decode cX0_create 57 = .ok (.getfield 40, 3) := dk_180 0 40 (dk_at dksX0_create_2 9 rfl rfl)
theorem dX0_create_60 : decode cX0_create 60 = .ok (.iconst 3, 1) := dk_6 (dk_at dksX0_create_2 12 rfl rfl)
theorem dX0_create_61 : decode cX0_create 61 = .ok (.iastore, 1) := dk_79 (dk_at dksX0_create_2 13 rfl rfl)
theorem dX0_create_62 : decode cX0_create 62 = .ok (.aload_n 0, 1) := dk_42 (dk_at dksX0_create_2 14 rfl rfl)
theorem dX0_create_63 : decode cX0_create 63 = .ok (.dup, 1) := dk_89 (dk_at dksX0_create_2 15 rfl rfl)
theorem dX0_create_64 : decode cX0_create 64 = .ok (.getfield 40, 3) := dk_180 0 40 (dk_at dksX0_create_2 16 rfl rfl)
theorem dX0_create_67 : decode cX0_create 67 = .ok (.iconst 1, 1) := dk_4 (dk_at dksX0_create_2 19 rfl rfl)
theorem dX0_create_68 : decode cX0_create 68 = .ok (.iadd, 1) := dk_96 (dk_at dksX0_create_2 20 rfl rfl)
theorem dX0_create_69 : decode cX0_create 69 = .ok (.putfield 40, 3) := dk_181 0 40 (dk_at dksX0_create_2 21 rfl rfl)
theorem dX0_create_72 : decode cX0_create 72 = .ok (.aload_n 0, 1) := dk_42 (dk_at dksX0_create_3 0 rfl rfl)
theorem dX0_create_73 : decode cX0_create 73 = .ok (.getfield 40, 3) := dk_180 0 40 (dk_at dksX0_create_3 1 rfl rfl)
theorem dX0_create_76 : decode cX0_create 76 = .ok (.iconst 1, 1) := dk_4 (dk_at dksX0_create_3 4 rfl rfl)
theorem dX0_create_77 : decode cX0_create 77 = .ok (.isub, 1) := dk_100 (dk_at dksX0_create_3 5 rfl rfl)
theorem dX0_create_78 : decode cX0_create 78 = .ok (.ireturn, 1) := dk_172 (dk_at dksX0_create_3 6 rfl rfl)
abbrev cX0_kindOf : ByteArray := prog_1_method_64_code
def yX0_kindOf : MethodName := ⟨RX0, "kindOf", "(I)I"⟩
def dkwX0_kindOf_0 : List UInt8 := [42, 27, 182, 1, 171, 77, 44, 199, 0, 7, 2, 167, 0, 10, 44, 180, 0, 47, 180, 0, 17, 172]
abbrev dktX0_kindOf_0 : List UInt8 := dkwX0_kindOf_0 ++ []
theorem dksX0_kindOf_0 : cX0_kindOf.data.toList.drop 0 = dktX0_kindOf_0 := by decide +kernel
theorem dX0_kindOf_0 : decode cX0_kindOf 0 = .ok (.aload_n 0, 1) := dk_42 (dk_at dksX0_kindOf_0 0 rfl rfl)
theorem dX0_kindOf_1 : decode cX0_kindOf 1 = .ok (.iload_n 1, 1) := dk_27 (dk_at dksX0_kindOf_0 1 rfl rfl)
theorem dX0_kindOf_2 : decode cX0_kindOf 2 = .ok (.invokevirtual 427, 3) := dk_182 1 171 (dk_at dksX0_kindOf_0 2 rfl rfl)
theorem dX0_kindOf_5 : decode cX0_kindOf 5 = .ok (.astore_n 2, 1) := dk_77 (dk_at dksX0_kindOf_0 5 rfl rfl)
theorem dX0_kindOf_6 : decode cX0_kindOf 6 = .ok (.aload_n 2, 1) := dk_44 (dk_at dksX0_kindOf_0 6 rfl rfl)
theorem dX0_kindOf_7 : decode cX0_kindOf 7 = .ok (.ifnonnull 7, 3) := dk_199 0 7 (dk_at dksX0_kindOf_0 7 rfl rfl)
theorem dX0_kindOf_10 : decode cX0_kindOf 10 = .ok (.iconst (-1), 1) := dk_2 (dk_at dksX0_kindOf_0 10 rfl rfl)
theorem dX0_kindOf_11 : decode cX0_kindOf 11 = .ok (.goto 10, 3) := dk_167 0 10 (dk_at dksX0_kindOf_0 11 rfl rfl)
theorem dX0_kindOf_14 : decode cX0_kindOf 14 = .ok (.aload_n 2, 1) := dk_44 (dk_at dksX0_kindOf_0 14 rfl rfl)
theorem dX0_kindOf_15 : decode cX0_kindOf 15 = .ok (.getfield 47, 3) := dk_180 0 47 (dk_at dksX0_kindOf_0 15 rfl rfl)
theorem dX0_kindOf_18 : decode cX0_kindOf 18 = .ok (.getfield 17, 3) := dk_180 0 17 (dk_at dksX0_kindOf_0 18 rfl rfl)
theorem dX0_kindOf_21 : decode cX0_kindOf 21 = .ok (.ireturn, 1) := dk_172 (dk_at dksX0_kindOf_0 21 rfl rfl)
abbrev cX0_generation : ByteArray := prog_1_method_65_code
def yX0_generation : MethodName := ⟨RX0, "generation", "(I)I"⟩
def dkwX0_generation_0 : List UInt8 := [42, 27, 182, 1, 171, 77, 44, 199, 0, 7, 2, 167, 0, 10, 44, 180, 0, 47, 180, 0, 84, 172]
abbrev dktX0_generation_0 : List UInt8 := dkwX0_generation_0 ++ []
theorem dksX0_generation_0 : cX0_generation.data.toList.drop 0 = dktX0_generation_0 := by decide +kernel
theorem dX0_generation_0 : decode cX0_generation 0 = .ok (.aload_n 0, 1) := dk_42 (dk_at dksX0_generation_0 0 rfl rfl)
theorem dX0_generation_1 : decode cX0_generation 1 = .ok (.iload_n 1, 1) := dk_27 (dk_at dksX0_generation_0 1 rfl rfl)
theorem dX0_generation_2 : decode cX0_generation 2 = .ok (.invokevirtual 427, 3) := dk_182 1 171 (dk_at dksX0_generation_0 2 rfl rfl)
theorem dX0_generation_5 : decode cX0_generation 5 = .ok (.astore_n 2, 1) := dk_77 (dk_at dksX0_generation_0 5 rfl rfl)
theorem dX0_generation_6 : decode cX0_generation 6 = .ok (.aload_n 2, 1) := dk_44 (dk_at dksX0_generation_0 6 rfl rfl)
theorem dX0_generation_7 : decode cX0_generation 7 = .ok (.ifnonnull 7, 3) := dk_199 0 7 (dk_at dksX0_generation_0 7 rfl rfl)
theorem dX0_generation_10 : decode cX0_generation 10 = .ok (.iconst (-1), 1) := dk_2 (dk_at dksX0_generation_0 10 rfl rfl)
theorem dX0_generation_11 : decode cX0_generation 11 = .ok (.goto 10, 3) := dk_167 0 10 (dk_at dksX0_generation_0 11 rfl rfl)
theorem dX0_generation_14 : decode cX0_generation 14 = .ok (.aload_n 2, 1) := dk_44 (dk_at dksX0_generation_0 14 rfl rfl)
theorem dX0_generation_15 : decode cX0_generation 15 = .ok (.getfield 47, 3) := dk_180 0 47 (dk_at dksX0_generation_0 15 rfl rfl)
theorem dX0_generation_18 : decode cX0_generation 18 = .ok (.getfield 84, 3) := dk_180 0 84 (dk_at dksX0_generation_0 18 rfl rfl)
theorem dX0_generation_21 : decode cX0_generation 21 = .ok (.ireturn, 1) := dk_172 (dk_at dksX0_generation_0 21 rfl rfl)
abbrev cX0_has_3 : ByteArray := prog_1_method_66_code
def yX0_has_3 : MethodName := ⟨RX0, "has", "(II)Z"⟩
def dkwX0_has_3_1 : List UInt8 := [167, 0, 4, 3, 172]
abbrev dktX0_has_3_1 : List UInt8 := dkwX0_has_3_1 ++ []
def dkwX0_has_3_0 : List UInt8 := [42, 27, 182, 1, 171, 78, 45, 198, 0, 19, 45, 180, 0, 47, 28, 182, 0, 198, 2, 159, 0, 7, 4]
abbrev dktX0_has_3_0 : List UInt8 := dkwX0_has_3_0 ++ dktX0_has_3_1
theorem dksX0_has_3_0 : cX0_has_3.data.toList.drop 0 = dktX0_has_3_0 := by decide +kernel
theorem dksX0_has_3_1 : cX0_has_3.data.toList.drop 23 = dktX0_has_3_1 := dk_seg dksX0_has_3_0 23 rfl rfl
theorem dX0_has_3_0 : decode cX0_has_3 0 = .ok (.aload_n 0, 1) := dk_42 (dk_at dksX0_has_3_0 0 rfl rfl)
theorem dX0_has_3_1 : decode cX0_has_3 1 = .ok (.iload_n 1, 1) := dk_27 (dk_at dksX0_has_3_0 1 rfl rfl)
theorem dX0_has_3_2 : decode cX0_has_3 2 = .ok (.invokevirtual 427, 3) := dk_182 1 171 (dk_at dksX0_has_3_0 2 rfl rfl)
theorem dX0_has_3_5 : decode cX0_has_3 5 = .ok (.astore_n 3, 1) := dk_78 (dk_at dksX0_has_3_0 5 rfl rfl)
theorem dX0_has_3_6 : decode cX0_has_3 6 = .ok (.aload_n 3, 1) := dk_45 (dk_at dksX0_has_3_0 6 rfl rfl)
theorem dX0_has_3_7 : decode cX0_has_3 7 = .ok (.ifnull 19, 3) := dk_198 0 19 (dk_at dksX0_has_3_0 7 rfl rfl)
theorem dX0_has_3_10 : decode cX0_has_3 10 = .ok (.aload_n 3, 1) := dk_45 (dk_at dksX0_has_3_0 10 rfl rfl)
theorem dX0_has_3_11 : decode cX0_has_3 11 = .ok (.getfield 47, 3) := dk_180 0 47 (dk_at dksX0_has_3_0 11 rfl rfl)
theorem dX0_has_3_14 : decode cX0_has_3 14 = .ok (.iload_n 2, 1) := dk_28 (dk_at dksX0_has_3_0 14 rfl rfl)
theorem dX0_has_3_15 : decode cX0_has_3 15 = .ok (.invokevirtual 198, 3) := dk_182 0 198 (dk_at dksX0_has_3_0 15 rfl rfl)
theorem dX0_has_3_18 : decode cX0_has_3 18 = .ok (.iconst (-1), 1) := dk_2 (dk_at dksX0_has_3_0 18 rfl rfl)
theorem dX0_has_3_19 : decode cX0_has_3 19 = .ok (.if_icmp .eq 7, 3) := dk_159 0 7 (dk_at dksX0_has_3_0 19 rfl rfl)
theorem dX0_has_3_22 : decode cX0_has_3 22 = .ok (.iconst 1, 1) := dk_4 (dk_at dksX0_has_3_0 22 rfl rfl)
theorem dX0_has_3_23 : decode cX0_has_3 23 = .ok (.goto 4, 3) := dk_167 0 4 (dk_at dksX0_has_3_1 0 rfl rfl)
theorem dX0_has_3_26 : decode cX0_has_3 26 = .ok (.iconst 0, 1) := dk_3 (dk_at dksX0_has_3_1 3 rfl rfl)
theorem dX0_has_3_27 : decode cX0_has_3 27 = .ok (.ireturn, 1) := dk_172 (dk_at dksX0_has_3_1 4 rfl rfl)
abbrev cX0_value : ByteArray := prog_1_method_67_code
def yX0_value : MethodName := ⟨RX0, "value", "(II)I"⟩
def dkwX0_value_2 : List UInt8 := [167, 0, 22, 45, 180, 1, 96, 28, 51, 153, 0, 12, 45, 180, 1, 84, 28, 46, 167, 0, 4, 3, 172]
abbrev dktX0_value_2 : List UInt8 := dkwX0_value_2 ++ []
def dkwX0_value_1 : List UInt8 := [180, 0, 47, 28, 182, 0, 198, 54, 4, 21, 4, 2, 159, 0, 13, 45, 180, 1, 53, 21, 4, 46]
abbrev dktX0_value_1 : List UInt8 := dkwX0_value_1 ++ dktX0_value_2
def dkwX0_value_0 : List UInt8 := [42, 27, 182, 1, 171, 78, 45, 198, 0, 13, 28, 155, 0, 9, 28, 16, 40, 161, 0, 5, 3, 172, 45]
abbrev dktX0_value_0 : List UInt8 := dkwX0_value_0 ++ dktX0_value_1
theorem dksX0_value_0 : cX0_value.data.toList.drop 0 = dktX0_value_0 := by decide +kernel
theorem dksX0_value_1 : cX0_value.data.toList.drop 23 = dktX0_value_1 := dk_seg dksX0_value_0 23 rfl rfl
theorem dksX0_value_2 : cX0_value.data.toList.drop 45 = dktX0_value_2 := dk_seg dksX0_value_1 22 rfl rfl
theorem dX0_value_0 : decode cX0_value 0 = .ok (.aload_n 0, 1) := dk_42 (dk_at dksX0_value_0 0 rfl rfl)
theorem dX0_value_1 : decode cX0_value 1 = .ok (.iload_n 1, 1) := dk_27 (dk_at dksX0_value_0 1 rfl rfl)
theorem dX0_value_2 : decode cX0_value 2 = .ok (.invokevirtual 427, 3) := dk_182 1 171 (dk_at dksX0_value_0 2 rfl rfl)
theorem dX0_value_5 : decode cX0_value 5 = .ok (.astore_n 3, 1) := dk_78 (dk_at dksX0_value_0 5 rfl rfl)
theorem dX0_value_6 : decode cX0_value 6 = .ok (.aload_n 3, 1) := dk_45 (dk_at dksX0_value_0 6 rfl rfl)
theorem dX0_value_7 : decode cX0_value 7 = .ok (.ifnull 13, 3) := dk_198 0 13 (dk_at dksX0_value_0 7 rfl rfl)
theorem dX0_value_10 : decode cX0_value 10 = .ok (.iload_n 2, 1) := dk_28 (dk_at dksX0_value_0 10 rfl rfl)
theorem dX0_value_11 : decode cX0_value 11 = .ok (.ifCond .lt 9, 3) := dk_155 0 9 (dk_at dksX0_value_0 11 rfl rfl)
theorem dX0_value_14 : decode cX0_value 14 = .ok (.iload_n 2, 1) := dk_28 (dk_at dksX0_value_0 14 rfl rfl)
theorem dX0_value_15 : decode cX0_value 15 = .ok (.bipush 40, 2) := dk_16 40 (dk_at dksX0_value_0 15 rfl rfl)
theorem dX0_value_17 : decode cX0_value 17 = .ok (.if_icmp .lt 5, 3) := dk_161 0 5 (dk_at dksX0_value_0 17 rfl rfl)
theorem dX0_value_20 : decode cX0_value 20 = .ok (.iconst 0, 1) := dk_3 (dk_at dksX0_value_0 20 rfl rfl)
theorem dX0_value_21 : decode cX0_value 21 = .ok (.ireturn, 1) := dk_172 (dk_at dksX0_value_0 21 rfl rfl)
theorem dX0_value_22 : decode cX0_value 22 = .ok (.aload_n 3, 1) := dk_45 (dk_at dksX0_value_0 22 rfl rfl)
theorem dX0_value_23 : decode cX0_value 23 = .ok (.getfield 47, 3) := dk_180 0 47 (dk_at dksX0_value_1 0 rfl rfl)
theorem dX0_value_26 : decode cX0_value 26 = .ok (.iload_n 2, 1) := dk_28 (dk_at dksX0_value_1 3 rfl rfl)
theorem dX0_value_27 : decode cX0_value 27 = .ok (.invokevirtual 198, 3) := dk_182 0 198 (dk_at dksX0_value_1 4 rfl rfl)
theorem dX0_value_30 : decode cX0_value 30 = .ok (.istore 4, 2) := dk_54 4 (dk_at dksX0_value_1 7 rfl rfl)
theorem dX0_value_32 : decode cX0_value 32 = .ok (.iload 4, 2) := dk_21 4 (dk_at dksX0_value_1 9 rfl rfl)
theorem dX0_value_34 : decode cX0_value 34 = .ok (.iconst (-1), 1) := dk_2 (dk_at dksX0_value_1 11 rfl rfl)
theorem dX0_value_35 : decode cX0_value 35 = .ok (.if_icmp .eq 13, 3) := dk_159 0 13 (dk_at dksX0_value_1 12 rfl rfl)
theorem dX0_value_38 : decode cX0_value 38 = .ok (.aload_n 3, 1) := dk_45 (dk_at dksX0_value_1 15 rfl rfl)
theorem dX0_value_39 : decode cX0_value 39 = .ok (.getfield 309, 3) := dk_180 1 53 (dk_at dksX0_value_1 16 rfl rfl)
theorem dX0_value_42 : decode cX0_value 42 = .ok (.iload 4, 2) := dk_21 4 (dk_at dksX0_value_1 19 rfl rfl)
theorem dX0_value_44 : decode cX0_value 44 = .ok (.iaload, 1) := dk_46 (dk_at dksX0_value_1 21 rfl rfl)
theorem dX0_value_45 : decode cX0_value 45 = .ok (.goto 22, 3) := dk_167 0 22 (dk_at dksX0_value_2 0 rfl rfl)
theorem dX0_value_48 : decode cX0_value 48 = .ok (.aload_n 3, 1) := dk_45 (dk_at dksX0_value_2 3 rfl rfl)
theorem dX0_value_49 : decode cX0_value 49 = .ok (.getfield 352, 3) := dk_180 1 96 (dk_at dksX0_value_2 4 rfl rfl)
theorem dX0_value_52 : decode cX0_value 52 = .ok (.iload_n 2, 1) := dk_28 (dk_at dksX0_value_2 7 rfl rfl)
theorem dX0_value_53 : decode cX0_value 53 = .ok (.baload, 1) := dk_51 (dk_at dksX0_value_2 8 rfl rfl)
theorem dX0_value_54 : decode cX0_value 54 = .ok (.ifCond .eq 12, 3) := dk_153 0 12 (dk_at dksX0_value_2 9 rfl rfl)
theorem dX0_value_57 : decode cX0_value 57 = .ok (.aload_n 3, 1) := dk_45 (dk_at dksX0_value_2 12 rfl rfl)
theorem dX0_value_58 : decode cX0_value 58 = .ok (.getfield 340, 3) := dk_180 1 84 (dk_at dksX0_value_2 13 rfl rfl)
theorem dX0_value_61 : decode cX0_value 61 = .ok (.iload_n 2, 1) := dk_28 (dk_at dksX0_value_2 16 rfl rfl)
theorem dX0_value_62 : decode cX0_value 62 = .ok (.iaload, 1) := dk_46 (dk_at dksX0_value_2 17 rfl rfl)
theorem dX0_value_63 : decode cX0_value 63 = .ok (.goto 4, 3) := dk_167 0 4 (dk_at dksX0_value_2 18 rfl rfl)
theorem dX0_value_66 : decode cX0_value 66 = .ok (.iconst 0, 1) := dk_3 (dk_at dksX0_value_2 21 rfl rfl)
theorem dX0_value_67 : decode cX0_value 67 = .ok (.ireturn, 1) := dk_172 (dk_at dksX0_value_2 22 rfl rfl)
abbrev cX0_put : ByteArray := prog_1_method_68_code
def yX0_put : MethodName := ⟨RX0, "put", "(III)Z"⟩
def dkwX0_put_1 : List UInt8 := [25, 4, 180, 0, 47, 28, 182, 0, 198, 29, 79, 4, 172]
abbrev dktX0_put_1 : List UInt8 := dkwX0_put_1 ++ []
def dkwX0_put_0 : List UInt8 := [42, 27, 28, 182, 2, 91, 154, 0, 5, 3, 172, 42, 180, 0, 43, 27, 50, 58, 4, 25, 4, 180, 1, 53]
abbrev dktX0_put_0 : List UInt8 := dkwX0_put_0 ++ dktX0_put_1
theorem dksX0_put_0 : cX0_put.data.toList.drop 0 = dktX0_put_0 := by decide +kernel
theorem dksX0_put_1 : cX0_put.data.toList.drop 24 = dktX0_put_1 := dk_seg dksX0_put_0 24 rfl rfl
theorem dX0_put_0 : decode cX0_put 0 = .ok (.aload_n 0, 1) := dk_42 (dk_at dksX0_put_0 0 rfl rfl)
theorem dX0_put_1 : decode cX0_put 1 = .ok (.iload_n 1, 1) := dk_27 (dk_at dksX0_put_0 1 rfl rfl)
theorem dX0_put_2 : decode cX0_put 2 = .ok (.iload_n 2, 1) := dk_28 (dk_at dksX0_put_0 2 rfl rfl)
theorem dX0_put_3 : decode cX0_put 3 = .ok (.invokevirtual 603, 3) := dk_182 2 91 (dk_at dksX0_put_0 3 rfl rfl)
theorem dX0_put_6 : decode cX0_put 6 = .ok (.ifCond .ne 5, 3) := dk_154 0 5 (dk_at dksX0_put_0 6 rfl rfl)
theorem dX0_put_9 : decode cX0_put 9 = .ok (.iconst 0, 1) := dk_3 (dk_at dksX0_put_0 9 rfl rfl)
theorem dX0_put_10 : decode cX0_put 10 = .ok (.ireturn, 1) := dk_172 (dk_at dksX0_put_0 10 rfl rfl)
theorem dX0_put_11 : decode cX0_put 11 = .ok (.aload_n 0, 1) := dk_42 (dk_at dksX0_put_0 11 rfl rfl)
theorem dX0_put_12 : decode cX0_put 12 = .ok (.getfield 43, 3) := dk_180 0 43 (dk_at dksX0_put_0 12 rfl rfl)
theorem dX0_put_15 : decode cX0_put 15 = .ok (.iload_n 1, 1) := dk_27 (dk_at dksX0_put_0 15 rfl rfl)
theorem dX0_put_16 : decode cX0_put 16 = .ok (.aaload, 1) := dk_50 (dk_at dksX0_put_0 16 rfl rfl)
theorem dX0_put_17 : decode cX0_put 17 = .ok (.astore 4, 2) := dk_58 4 (dk_at dksX0_put_0 17 rfl rfl)
theorem dX0_put_19 : decode cX0_put 19 = .ok (.aload 4, 2) := dk_25 4 (dk_at dksX0_put_0 19 rfl rfl)
theorem dX0_put_21 : decode cX0_put 21 = .ok (.getfield 309, 3) := dk_180 1 53 (dk_at dksX0_put_0 21 rfl rfl)
theorem dX0_put_24 : decode cX0_put 24 = .ok (.aload 4, 2) := dk_25 4 (dk_at dksX0_put_1 0 rfl rfl)
theorem dX0_put_26 : decode cX0_put 26 = .ok (.getfield 47, 3) := dk_180 0 47 (dk_at dksX0_put_1 2 rfl rfl)
theorem dX0_put_29 : decode cX0_put 29 = .ok (.iload_n 2, 1) := dk_28 (dk_at dksX0_put_1 5 rfl rfl)
theorem dX0_put_30 : decode cX0_put 30 = .ok (.invokevirtual 198, 3) := dk_182 0 198 (dk_at dksX0_put_1 6 rfl rfl)
theorem dX0_put_33 : decode cX0_put 33 = .ok (.iload_n 3, 1) := dk_29 (dk_at dksX0_put_1 9 rfl rfl)
theorem dX0_put_34 : decode cX0_put 34 = .ok (.iastore, 1) := dk_79 (dk_at dksX0_put_1 10 rfl rfl)
theorem dX0_put_35 : decode cX0_put 35 = .ok (.iconst 1, 1) := dk_4 (dk_at dksX0_put_1 11 rfl rfl)
theorem dX0_put_36 : decode cX0_put 36 = .ok (.ireturn, 1) := dk_172 (dk_at dksX0_put_1 12 rfl rfl)
abbrev cX0_fixed : ByteArray := prog_1_method_69_code
def yX0_fixed : MethodName := ⟨RX0, "fixed", "(II)I"⟩
def dkwX0_fixed_1 : List UInt8 := [50, 28, 182, 2, 94, 58, 4, 25, 4, 199, 0, 7, 3, 167, 0, 8, 25, 4, 180, 1, 117, 172]
abbrev dktX0_fixed_1 : List UInt8 := dkwX0_fixed_1 ++ []
def dkwX0_fixed_0 : List UInt8 := [42, 180, 0, 213, 27, 184, 0, 180, 62, 29, 2, 160, 0, 7, 1, 167, 0, 14, 42, 42, 180, 0, 213, 29]
abbrev dktX0_fixed_0 : List UInt8 := dkwX0_fixed_0 ++ dktX0_fixed_1
theorem dksX0_fixed_0 : cX0_fixed.data.toList.drop 0 = dktX0_fixed_0 := by decide +kernel
theorem dksX0_fixed_1 : cX0_fixed.data.toList.drop 24 = dktX0_fixed_1 := dk_seg dksX0_fixed_0 24 rfl rfl
theorem dX0_fixed_0 : decode cX0_fixed 0 = .ok (.aload_n 0, 1) := dk_42 (dk_at dksX0_fixed_0 0 rfl rfl)
theorem dX0_fixed_1 : decode cX0_fixed 1 = .ok (.getfield 213, 3) := dk_180 0 213 (dk_at dksX0_fixed_0 1 rfl rfl)
theorem dX0_fixed_4 : decode cX0_fixed 4 = .ok (.iload_n 1, 1) := dk_27 (dk_at dksX0_fixed_0 4 rfl rfl)
theorem dX0_fixed_5 : decode cX0_fixed 5 = .ok (.invokestatic 180, 3) := dk_184 0 180 (dk_at dksX0_fixed_0 5 rfl rfl)
theorem dX0_fixed_8 : decode cX0_fixed 8 = .ok (.istore_n 3, 1) := dk_62 (dk_at dksX0_fixed_0 8 rfl rfl)
theorem dX0_fixed_9 : decode cX0_fixed 9 = .ok (.iload_n 3, 1) := dk_29 (dk_at dksX0_fixed_0 9 rfl rfl)
theorem dX0_fixed_10 : decode cX0_fixed 10 = .ok (.iconst (-1), 1) := dk_2 (dk_at dksX0_fixed_0 10 rfl rfl)
theorem dX0_fixed_11 : decode cX0_fixed 11 = .ok (.if_icmp .ne 7, 3) := dk_160 0 7 (dk_at dksX0_fixed_0 11 rfl rfl)
theorem dX0_fixed_14 : decode cX0_fixed 14 = .ok (.aconst_null, 1) := dk_1 (dk_at dksX0_fixed_0 14 rfl rfl)
theorem dX0_fixed_15 : decode cX0_fixed 15 = .ok (.goto 14, 3) := dk_167 0 14 (dk_at dksX0_fixed_0 15 rfl rfl)
theorem dX0_fixed_18 : decode cX0_fixed 18 = .ok (.aload_n 0, 1) := dk_42 (dk_at dksX0_fixed_0 18 rfl rfl)
theorem dX0_fixed_19 : decode cX0_fixed 19 = .ok (.aload_n 0, 1) := dk_42 (dk_at dksX0_fixed_0 19 rfl rfl)
theorem dX0_fixed_20 : decode cX0_fixed 20 = .ok (.getfield 213, 3) := dk_180 0 213 (dk_at dksX0_fixed_0 20 rfl rfl)
theorem dX0_fixed_23 : decode cX0_fixed 23 = .ok (.iload_n 3, 1) := dk_29 (dk_at dksX0_fixed_0 23 rfl rfl)
theorem dX0_fixed_24 : decode cX0_fixed 24 = .ok (.aaload, 1) := dk_50 (dk_at dksX0_fixed_1 0 rfl rfl)
theorem dX0_fixed_25 : decode cX0_fixed 25 = .ok (.iload_n 2, 1) := dk_28 (dk_at dksX0_fixed_1 1 rfl rfl)
theorem dX0_fixed_26 : decode cX0_fixed 26 = .ok (.invokevirtual 606, 3) := dk_182 2 94 (dk_at dksX0_fixed_1 2 rfl rfl)
theorem dX0_fixed_29 : decode cX0_fixed 29 = .ok (.astore 4, 2) := dk_58 4 (dk_at dksX0_fixed_1 5 rfl rfl)
theorem dX0_fixed_31 : decode cX0_fixed 31 = .ok (.aload 4, 2) := dk_25 4 (dk_at dksX0_fixed_1 7 rfl rfl)
theorem dX0_fixed_33 : decode cX0_fixed 33 = .ok (.ifnonnull 7, 3) := dk_199 0 7 (dk_at dksX0_fixed_1 9 rfl rfl)
theorem dX0_fixed_36 : decode cX0_fixed 36 = .ok (.iconst 0, 1) := dk_3 (dk_at dksX0_fixed_1 12 rfl rfl)
theorem dX0_fixed_37 : decode cX0_fixed 37 = .ok (.goto 8, 3) := dk_167 0 8 (dk_at dksX0_fixed_1 13 rfl rfl)
theorem dX0_fixed_40 : decode cX0_fixed 40 = .ok (.aload 4, 2) := dk_25 4 (dk_at dksX0_fixed_1 16 rfl rfl)
theorem dX0_fixed_42 : decode cX0_fixed 42 = .ok (.getfield 373, 3) := dk_180 1 117 (dk_at dksX0_fixed_1 18 rfl rfl)
theorem dX0_fixed_45 : decode cX0_fixed 45 = .ok (.ireturn, 1) := dk_172 (dk_at dksX0_fixed_1 21 rfl rfl)
abbrev cX0_act : ByteArray := prog_1_method_70_code
def yX0_act : MethodName := ⟨RX0, "act", "(III)I"⟩
def dkwX0_act_2 : List UInt8 := [17, 1, 244, 42, 180, 0, 64, 100, 181, 2, 103, 21, 5, 172]
abbrev dktX0_act_2 : List UInt8 := dkwX0_act_2 ++ []
def dkwX0_act_1 : List UInt8 := [29, 182, 1, 201, 54, 5, 42, 42, 180, 0, 125, 181, 2, 97, 42, 42, 180, 0, 126, 181, 2, 100, 42]
abbrev dktX0_act_1 : List UInt8 := dkwX0_act_1 ++ dktX0_act_2
def dkwX0_act_0 : List UInt8 := [42, 27, 182, 1, 171, 58, 4, 42, 182, 0, 127, 25, 4, 199, 0, 7, 6, 167, 0, 11, 42, 25, 4, 28]
abbrev dktX0_act_0 : List UInt8 := dkwX0_act_0 ++ dktX0_act_1
theorem dksX0_act_0 : cX0_act.data.toList.drop 0 = dktX0_act_0 := by decide +kernel
theorem dksX0_act_1 : cX0_act.data.toList.drop 24 = dktX0_act_1 := dk_seg dksX0_act_0 24 rfl rfl
theorem dksX0_act_2 : cX0_act.data.toList.drop 47 = dktX0_act_2 := dk_seg dksX0_act_1 23 rfl rfl
theorem dX0_act_0 : decode cX0_act 0 = .ok (.aload_n 0, 1) := dk_42 (dk_at dksX0_act_0 0 rfl rfl)
theorem dX0_act_1 : decode cX0_act 1 = .ok (.iload_n 1, 1) := dk_27 (dk_at dksX0_act_0 1 rfl rfl)
theorem dX0_act_2 : decode cX0_act 2 = .ok (.invokevirtual 427, 3) := dk_182 1 171 (dk_at dksX0_act_0 2 rfl rfl)
theorem dX0_act_5 : decode cX0_act 5 = .ok (.astore 4, 2) := dk_58 4 (dk_at dksX0_act_0 5 rfl rfl)
theorem dX0_act_7 : decode cX0_act 7 = .ok (.aload_n 0, 1) := dk_42 (dk_at dksX0_act_0 7 rfl rfl)
theorem dX0_act_8 : decode cX0_act 8 = .ok (.invokevirtual 127, 3) := dk_182 0 127 (dk_at dksX0_act_0 8 rfl rfl)
theorem dX0_act_11 : decode cX0_act 11 = .ok (.aload 4, 2) := dk_25 4 (dk_at dksX0_act_0 11 rfl rfl)
theorem dX0_act_13 : decode cX0_act 13 = .ok (.ifnonnull 7, 3) := dk_199 0 7 (dk_at dksX0_act_0 13 rfl rfl)
theorem dX0_act_16 : decode cX0_act 16 = .ok (.iconst 3, 1) := dk_6 (dk_at dksX0_act_0 16 rfl rfl)
theorem dX0_act_17 : decode cX0_act 17 = .ok (.goto 11, 3) := dk_167 0 11 (dk_at dksX0_act_0 17 rfl rfl)
theorem dX0_act_20 : decode cX0_act 20 = .ok (.aload_n 0, 1) := dk_42 (dk_at dksX0_act_0 20 rfl rfl)
theorem dX0_act_21 : decode cX0_act 21 = .ok (.aload 4, 2) := dk_25 4 (dk_at dksX0_act_0 21 rfl rfl)
theorem dX0_act_23 : decode cX0_act 23 = .ok (.iload_n 2, 1) := dk_28 (dk_at dksX0_act_0 23 rfl rfl)
theorem dX0_act_24 : decode cX0_act 24 = .ok (.iload_n 3, 1) := dk_29 (dk_at dksX0_act_1 0 rfl rfl)
theorem dX0_act_25 : decode cX0_act 25 = .ok (.invokevirtual 457, 3) := dk_182 1 201 (dk_at dksX0_act_1 1 rfl rfl)
theorem dX0_act_28 : decode cX0_act 28 = .ok (.istore 5, 2) := dk_54 5 (dk_at dksX0_act_1 4 rfl rfl)
theorem dX0_act_30 : decode cX0_act 30 = .ok (.aload_n 0, 1) := dk_42 (dk_at dksX0_act_1 6 rfl rfl)
theorem dX0_act_31 : decode cX0_act 31 = .ok (.aload_n 0, 1) := dk_42 (dk_at dksX0_act_1 7 rfl rfl)
theorem dX0_act_32 : decode cX0_act 32 = .ok (.getfield 125, 3) := dk_180 0 125 (dk_at dksX0_act_1 8 rfl rfl)
theorem dX0_act_35 : decode cX0_act 35 = .ok (.putfield 609, 3) := dk_181 2 97 (dk_at dksX0_act_1 11 rfl rfl)
theorem dX0_act_38 : decode cX0_act 38 = .ok (.aload_n 0, 1) := dk_42 (dk_at dksX0_act_1 14 rfl rfl)
theorem dX0_act_39 : decode cX0_act 39 = .ok (.aload_n 0, 1) := dk_42 (dk_at dksX0_act_1 15 rfl rfl)
theorem dX0_act_40 : decode cX0_act 40 = .ok (.getfield 126, 3) := dk_180 0 126 (dk_at dksX0_act_1 16 rfl rfl)
theorem dX0_act_43 : decode cX0_act 43 = .ok (.putfield 612, 3) := dk_181 2 100 (dk_at dksX0_act_1 19 rfl rfl)
theorem dX0_act_46 : decode cX0_act 46 = .ok (.aload_n 0, 1) := dk_42 (dk_at dksX0_act_1 22 rfl rfl)
theorem dX0_act_47 : decode cX0_act 47 = .ok (.sipush 500, 3) := dk_17 1 244 (dk_at dksX0_act_2 0 rfl rfl)
theorem dX0_act_50 : decode cX0_act 50 = .ok (.aload_n 0, 1) := dk_42 (dk_at dksX0_act_2 3 rfl rfl)
theorem dX0_act_51 : decode cX0_act 51 = .ok (.getfield 64, 3) := dk_180 0 64 (dk_at dksX0_act_2 4 rfl rfl)
theorem dX0_act_54 : decode cX0_act 54 = .ok (.isub, 1) := dk_100 (dk_at dksX0_act_2 7 rfl rfl)
theorem dX0_act_55 : decode cX0_act 55 = .ok (.putfield 615, 3) := dk_181 2 103 (dk_at dksX0_act_2 8 rfl rfl)
theorem dX0_act_58 : decode cX0_act 58 = .ok (.iload 5, 2) := dk_21 5 (dk_at dksX0_act_2 11 rfl rfl)
theorem dX0_act_60 : decode cX0_act 60 = .ok (.ireturn, 1) := dk_172 (dk_at dksX0_act_2 13 rfl rfl)
abbrev cX0_told : ByteArray := prog_1_method_71_code
def yX0_told : MethodName := ⟨RX0, "told", "(I)I"⟩
def dkwX0_told_1 : List UInt8 := [5, 160, 0, 10, 42, 180, 2, 103, 167, 0, 4, 2, 172]
abbrev dktX0_told_1 : List UInt8 := dkwX0_told_1 ++ []
def dkwX0_told_0 : List UInt8 := [27, 154, 0, 10, 42, 180, 2, 97, 167, 0, 28, 27, 4, 160, 0, 10, 42, 180, 2, 100, 167, 0, 16, 27]
abbrev dktX0_told_0 : List UInt8 := dkwX0_told_0 ++ dktX0_told_1
theorem dksX0_told_0 : cX0_told.data.toList.drop 0 = dktX0_told_0 := by decide +kernel
theorem dksX0_told_1 : cX0_told.data.toList.drop 24 = dktX0_told_1 := dk_seg dksX0_told_0 24 rfl rfl
theorem dX0_told_0 : decode cX0_told 0 = .ok (.iload_n 1, 1) := dk_27 (dk_at dksX0_told_0 0 rfl rfl)
theorem dX0_told_1 : decode cX0_told 1 = .ok (.ifCond .ne 10, 3) := dk_154 0 10 (dk_at dksX0_told_0 1 rfl rfl)
theorem dX0_told_4 : decode cX0_told 4 = .ok (.aload_n 0, 1) := dk_42 (dk_at dksX0_told_0 4 rfl rfl)
theorem dX0_told_5 : decode cX0_told 5 = .ok (.getfield 609, 3) := dk_180 2 97 (dk_at dksX0_told_0 5 rfl rfl)
theorem dX0_told_8 : decode cX0_told 8 = .ok (.goto 28, 3) := dk_167 0 28 (dk_at dksX0_told_0 8 rfl rfl)
theorem dX0_told_11 : decode cX0_told 11 = .ok (.iload_n 1, 1) := dk_27 (dk_at dksX0_told_0 11 rfl rfl)
theorem dX0_told_12 : decode cX0_told 12 = .ok (.iconst 1, 1) := dk_4 (dk_at dksX0_told_0 12 rfl rfl)
theorem dX0_told_13 : decode cX0_told 13 = .ok (.if_icmp .ne 10, 3) := dk_160 0 10 (dk_at dksX0_told_0 13 rfl rfl)
theorem dX0_told_16 : decode cX0_told 16 = .ok (.aload_n 0, 1) := dk_42 (dk_at dksX0_told_0 16 rfl rfl)
theorem dX0_told_17 : decode cX0_told 17 = .ok (.getfield 612, 3) := dk_180 2 100 (dk_at dksX0_told_0 17 rfl rfl)
theorem dX0_told_20 : decode cX0_told 20 = .ok (.goto 16, 3) := dk_167 0 16 (dk_at dksX0_told_0 20 rfl rfl)
theorem dX0_told_23 : decode cX0_told 23 = .ok (.iload_n 1, 1) := dk_27 (dk_at dksX0_told_0 23 rfl rfl)
theorem dX0_told_24 : decode cX0_told 24 = .ok (.iconst 2, 1) := dk_5 (dk_at dksX0_told_1 0 rfl rfl)
theorem dX0_told_25 : decode cX0_told 25 = .ok (.if_icmp .ne 10, 3) := dk_160 0 10 (dk_at dksX0_told_1 1 rfl rfl)
theorem dX0_told_28 : decode cX0_told 28 = .ok (.aload_n 0, 1) := dk_42 (dk_at dksX0_told_1 4 rfl rfl)
theorem dX0_told_29 : decode cX0_told 29 = .ok (.getfield 615, 3) := dk_180 2 103 (dk_at dksX0_told_1 5 rfl rfl)
theorem dX0_told_32 : decode cX0_told 32 = .ok (.goto 4, 3) := dk_167 0 4 (dk_at dksX0_told_1 8 rfl rfl)
theorem dX0_told_35 : decode cX0_told 35 = .ok (.iconst (-1), 1) := dk_2 (dk_at dksX0_told_1 11 rfl rfl)
theorem dX0_told_36 : decode cX0_told 36 = .ok (.ireturn, 1) := dk_172 (dk_at dksX0_told_1 12 rfl rfl)
abbrev cX0_sum : ByteArray := prog_1_method_72_code
def yX0_sum : MethodName := ⟨RX0, "sum", "(I)J"⟩
def dkwX0_sum_2 : List UInt8 := [182, 0, 198, 46, 133, 97, 65, 132, 4, 1, 167, 255, 205, 32, 173]
abbrev dktX0_sum_2 : List UInt8 := dkwX0_sum_2 ++ []
def dkwX0_sum_1 : List UInt8 := [32, 42, 180, 0, 43, 21, 4, 50, 180, 1, 53, 42, 180, 0, 43, 21, 4, 50, 180, 0, 47, 27]
abbrev dktX0_sum_1 : List UInt8 := dkwX0_sum_1 ++ dktX0_sum_2
def dkwX0_sum_0 : List UInt8 := [9, 65, 3, 54, 4, 21, 4, 42, 180, 0, 40, 162, 0, 48, 42, 21, 4, 27, 182, 2, 91, 153, 0, 32]
abbrev dktX0_sum_0 : List UInt8 := dkwX0_sum_0 ++ dktX0_sum_1
theorem dksX0_sum_0 : cX0_sum.data.toList.drop 0 = dktX0_sum_0 := by decide +kernel
theorem dksX0_sum_1 : cX0_sum.data.toList.drop 24 = dktX0_sum_1 := dk_seg dksX0_sum_0 24 rfl rfl
theorem dksX0_sum_2 : cX0_sum.data.toList.drop 46 = dktX0_sum_2 := dk_seg dksX0_sum_1 22 rfl rfl
theorem dX0_sum_0 : decode cX0_sum 0 = .ok (.lconst 0, 1) := dk_9 (dk_at dksX0_sum_0 0 rfl rfl)
theorem dX0_sum_1 : decode cX0_sum 1 = .ok (.lstore_n 2, 1) := dk_65 (dk_at dksX0_sum_0 1 rfl rfl)
theorem dX0_sum_2 : decode cX0_sum 2 = .ok (.iconst 0, 1) := dk_3 (dk_at dksX0_sum_0 2 rfl rfl)
theorem dX0_sum_3 : decode cX0_sum 3 = .ok (.istore 4, 2) := dk_54 4 (dk_at dksX0_sum_0 3 rfl rfl)
theorem dX0_sum_5 : decode cX0_sum 5 = .ok (.iload 4, 2) := dk_21 4 (dk_at dksX0_sum_0 5 rfl rfl)
theorem dX0_sum_7 : decode cX0_sum 7 = .ok (.aload_n 0, 1) := dk_42 (dk_at dksX0_sum_0 7 rfl rfl)
theorem dX0_sum_8 : decode cX0_sum 8 = .ok (.getfield 40, 3) := dk_180 0 40 (dk_at dksX0_sum_0 8 rfl rfl)
theorem dX0_sum_11 : decode cX0_sum 11 = .ok (.if_icmp .ge 48, 3) := dk_162 0 48 (dk_at dksX0_sum_0 11 rfl rfl)
theorem dX0_sum_14 : decode cX0_sum 14 = .ok (.aload_n 0, 1) := dk_42 (dk_at dksX0_sum_0 14 rfl rfl)
theorem dX0_sum_15 : decode cX0_sum 15 = .ok (.iload 4, 2) := dk_21 4 (dk_at dksX0_sum_0 15 rfl rfl)
theorem dX0_sum_17 : decode cX0_sum 17 = .ok (.iload_n 1, 1) := dk_27 (dk_at dksX0_sum_0 17 rfl rfl)
theorem dX0_sum_18 : decode cX0_sum 18 = .ok (.invokevirtual 603, 3) := dk_182 2 91 (dk_at dksX0_sum_0 18 rfl rfl)
theorem dX0_sum_21 : decode cX0_sum 21 = .ok (.ifCond .eq 32, 3) := dk_153 0 32 (dk_at dksX0_sum_0 21 rfl rfl)
theorem dX0_sum_24 : decode cX0_sum 24 = .ok (.lload_n 2, 1) := dk_32 (dk_at dksX0_sum_1 0 rfl rfl)
theorem dX0_sum_25 : decode cX0_sum 25 = .ok (.aload_n 0, 1) := dk_42 (dk_at dksX0_sum_1 1 rfl rfl)
theorem dX0_sum_26 : decode cX0_sum 26 = .ok (.getfield 43, 3) := dk_180 0 43 (dk_at dksX0_sum_1 2 rfl rfl)
theorem dX0_sum_29 : decode cX0_sum 29 = .ok (.iload 4, 2) := dk_21 4 (dk_at dksX0_sum_1 5 rfl rfl)
theorem dX0_sum_31 : decode cX0_sum 31 = .ok (.aaload, 1) := dk_50 (dk_at dksX0_sum_1 7 rfl rfl)
theorem dX0_sum_32 : decode cX0_sum 32 = .ok (.getfield 309, 3) := dk_180 1 53 (dk_at dksX0_sum_1 8 rfl rfl)
theorem dX0_sum_35 : decode cX0_sum 35 = .ok (.aload_n 0, 1) := dk_42 (dk_at dksX0_sum_1 11 rfl rfl)
theorem dX0_sum_36 : decode cX0_sum 36 = .ok (.getfield 43, 3) := dk_180 0 43 (dk_at dksX0_sum_1 12 rfl rfl)
theorem dX0_sum_39 : decode cX0_sum 39 = .ok (.iload 4, 2) := dk_21 4 (dk_at dksX0_sum_1 15 rfl rfl)
theorem dX0_sum_41 : decode cX0_sum 41 = .ok (.aaload, 1) := dk_50 (dk_at dksX0_sum_1 17 rfl rfl)
theorem dX0_sum_42 : decode cX0_sum 42 = .ok (.getfield 47, 3) := dk_180 0 47 (dk_at dksX0_sum_1 18 rfl rfl)
theorem dX0_sum_45 : decode cX0_sum 45 = .ok (.iload_n 1, 1) := dk_27 (dk_at dksX0_sum_1 21 rfl rfl)
theorem dX0_sum_46 : decode cX0_sum 46 = .ok (.invokevirtual 198, 3) := dk_182 0 198 (dk_at dksX0_sum_2 0 rfl rfl)
theorem dX0_sum_49 : decode cX0_sum 49 = .ok (.iaload, 1) := dk_46 (dk_at dksX0_sum_2 3 rfl rfl)
theorem dX0_sum_50 : decode cX0_sum 50 = .ok (.i2l, 1) := dk_133 (dk_at dksX0_sum_2 4 rfl rfl)
theorem dX0_sum_51 : decode cX0_sum 51 = .ok (.ladd, 1) := dk_97 (dk_at dksX0_sum_2 5 rfl rfl)
theorem dX0_sum_52 : decode cX0_sum 52 = .ok (.lstore_n 2, 1) := dk_65 (dk_at dksX0_sum_2 6 rfl rfl)
theorem dX0_sum_53 : decode cX0_sum 53 = .ok (.iinc 4 1, 3) := dk_132 4 1 (dk_at dksX0_sum_2 7 rfl rfl)
theorem dX0_sum_56 : decode cX0_sum 56 = .ok (.goto (-51), 3) := dk_167 255 205 (dk_at dksX0_sum_2 10 rfl rfl)
theorem dX0_sum_59 : decode cX0_sum 59 = .ok (.lload_n 2, 1) := dk_32 (dk_at dksX0_sum_2 13 rfl rfl)
theorem dX0_sum_60 : decode cX0_sum 60 = .ok (.lreturn, 1) := dk_173 (dk_at dksX0_sum_2 14 rfl rfl)
theorem q161 : (Jvm.Cond.initialized "PondHouse") ∈ lw_all := lw_g (lw_at lw_m1 1 rfl) rfl
theorem q215 : (Jvm.Cond.instanceMethod ({ cls := "PondHouse", name := "back", desc := "()Z" } : Jvm.MethodName)) ∈ lw_all := lw_g (lw_at lw_m1 55 rfl) rfl
theorem q216 : (Jvm.Cond.selects "PondHouse" ({ cls := "PondHouse", name := "back", desc := "()Z" } : Jvm.MethodName) ({ cls := "PondHouse", name := "back", desc := "()Z" } : Jvm.MethodName)) ∈ lw_all := lw_g (lw_at lw_m1 56 rfl) rfl
theorem q217 : (Jvm.Cond.code ({ cls := "PondHouse", name := "back", desc := "()Z" } : Jvm.MethodName) prog_1_method_33_code (4 : Nat) (Option.some Jvm.ClassFile.FieldType.boolean)) ∈ lw_all := lw_g (lw_at lw_m1 57 rfl) rfl
theorem q218 : (Jvm.Cond.methodLink "PondHouse" (180 : Nat) ({ cls := "PondHouse", name := "find", desc := "([LPondHouse$Kind;I)I" } : Jvm.MethodName)) ∈ lw_all := lw_g (lw_at lw_m1 58 rfl) rfl
theorem q219 : (Jvm.Cond.static ({ cls := "PondHouse", name := "find", desc := "([LPondHouse$Kind;I)I" } : Jvm.MethodName)) ∈ lw_all := lw_g (lw_at lw_m1 59 rfl) rfl
theorem q220 : (Jvm.Cond.code ({ cls := "PondHouse", name := "find", desc := "([LPondHouse$Kind;I)I" } : Jvm.MethodName) prog_1_method_3_code (3 : Nat) (Option.some Jvm.ClassFile.FieldType.int)) ∈ lw_all := lw_g (lw_at lw_m1 60 rfl) rfl
theorem q221 : (Jvm.Cond.methodLink "PondHouse" (387 : Nat) ({ cls := "PondHouse", name := "ends", desc := "(LPondHouse$Creature;)V" } : Jvm.MethodName)) ∈ lw_all := lw_g (lw_at lw_m1 61 rfl) rfl
theorem q222 : (Jvm.Cond.privateMethod ({ cls := "PondHouse", name := "ends", desc := "(LPondHouse$Creature;)V" } : Jvm.MethodName)) ∈ lw_tbl := lw_at lw_m1 62 rfl
theorem q223 : (Jvm.Cond.instanceMethod ({ cls := "PondHouse", name := "ends", desc := "(LPondHouse$Creature;)V" } : Jvm.MethodName)) ∈ lw_all := lw_g (lw_at lw_m1 63 rfl) rfl
theorem q224 : (Jvm.Cond.instantiable "PondHouse" (45 : Nat)) ∈ lw_all := lw_g (lw_at lw_m1 64 rfl) rfl
theorem q225 : (Jvm.Cond.code ({ cls := "PondHouse", name := "ends", desc := "(LPondHouse$Creature;)V" } : Jvm.MethodName) prog_1_method_35_code (2 : Nat) (Option.none : Option Jvm.ClassFile.FieldType)) ∈ lw_all := lw_g (lw_at lw_m1 65 rfl) rfl
theorem q226 : (Jvm.Cond.methodLink "PondHouse" (276 : Nat) ({ cls := "PondHouse", name := "endsLong", desc := "(LPondHouse$Creature;)V" } : Jvm.MethodName)) ∈ lw_all := lw_g (lw_at lw_m1 66 rfl) rfl
theorem q227 : (Jvm.Cond.privateMethod ({ cls := "PondHouse", name := "endsLong", desc := "(LPondHouse$Creature;)V" } : Jvm.MethodName)) ∈ lw_tbl := lw_at lw_m1 67 rfl
theorem q228 : (Jvm.Cond.instanceMethod ({ cls := "PondHouse", name := "endsLong", desc := "(LPondHouse$Creature;)V" } : Jvm.MethodName)) ∈ lw_all := lw_g (lw_at lw_m1 68 rfl) rfl
theorem q229 : (Jvm.Cond.code ({ cls := "PondHouse", name := "endsLong", desc := "(LPondHouse$Creature;)V" } : Jvm.MethodName) prog_1_method_36_code (6 : Nat) (Option.none : Option Jvm.ClassFile.FieldType)) ∈ lw_all := lw_g (lw_at lw_m1 69 rfl) rfl
theorem q230 : (Jvm.Cond.methodLink "PondHouse" (390 : Nat) ({ cls := "PondHouse", name := "returns", desc := "(LPondHouse$Creature;LPondHouse$Kind;)V" } : Jvm.MethodName)) ∈ lw_all := lw_g (lw_at lw_m1 70 rfl) rfl
theorem q231 : (Jvm.Cond.privateMethod ({ cls := "PondHouse", name := "returns", desc := "(LPondHouse$Creature;LPondHouse$Kind;)V" } : Jvm.MethodName)) ∈ lw_tbl := lw_at lw_m1 71 rfl
theorem q232 : (Jvm.Cond.instanceMethod ({ cls := "PondHouse", name := "returns", desc := "(LPondHouse$Creature;LPondHouse$Kind;)V" } : Jvm.MethodName)) ∈ lw_all := lw_g (lw_at lw_m1 72 rfl) rfl
theorem q233 : (Jvm.Cond.code ({ cls := "PondHouse", name := "returns", desc := "(LPondHouse$Creature;LPondHouse$Kind;)V" } : Jvm.MethodName) prog_1_method_34_code (7 : Nat) (Option.none : Option Jvm.ClassFile.FieldType)) ∈ lw_all := lw_g (lw_at lw_m1 73 rfl) rfl
theorem q234 : (Jvm.Cond.methodLink "PondHouse" (312 : Nat) ({ cls := "PondHouse$Kind", name := "all", desc := "()I" } : Jvm.MethodName)) ∈ lw_all := lw_g (lw_at lw_m1 74 rfl) rfl
theorem q239 : (Jvm.Cond.methodLink "PondHouse" (319 : Nat) ({ cls := "PondHouse", name := "comes", desc := "(LPondHouse$Kind;ILPondHouse$Kind;[LPondHouse$Kind;[LPondHouse$Kind;)I" } : Jvm.MethodName)) ∈ lw_all := lw_g (lw_at lw_m1 79 rfl) rfl
theorem q240 : (Jvm.Cond.static ({ cls := "PondHouse", name := "comes", desc := "(LPondHouse$Kind;ILPondHouse$Kind;[LPondHouse$Kind;[LPondHouse$Kind;)I" } : Jvm.MethodName)) ∈ lw_all := lw_g (lw_at lw_m1 80 rfl) rfl
theorem q241 : (Jvm.Cond.code ({ cls := "PondHouse", name := "comes", desc := "(LPondHouse$Kind;ILPondHouse$Kind;[LPondHouse$Kind;[LPondHouse$Kind;)I" } : Jvm.MethodName) prog_1_method_21_code (10 : Nat) (Option.some Jvm.ClassFile.FieldType.int)) ∈ lw_all := lw_g (lw_at lw_m1 81 rfl) rfl
theorem q242 : (Jvm.Cond.methodLink "PondHouse" (190 : Nat) ({ cls := "PondHouse$Kind", name := "owner", desc := "(I)LPondHouse$Kind;" } : Jvm.MethodName)) ∈ lw_all := lw_g (lw_at lw_m1 82 rfl) rfl
theorem q247 : (Jvm.Cond.methodLink "PondHouse" (194 : Nat) ({ cls := "PondHouse$Kind", name := "field", desc := "(I)I" } : Jvm.MethodName)) ∈ lw_all := lw_g (lw_at lw_m1 87 rfl) rfl
theorem q256 : (Jvm.Cond.methodLink "PondHouse" (198 : Nat) ({ cls := "PondHouse$Kind", name := "place", desc := "(I)I" } : Jvm.MethodName)) ∈ lw_all := lw_g (lw_at lw_m1 96 rfl) rfl
theorem q261 : (Jvm.Cond.methodLink "PondHouse" (200 : Nat) ({ cls := "PondHouse", name := "has", desc := "([LPondHouse$Kind;LPondHouse$Kind;)Z" } : Jvm.MethodName)) ∈ lw_all := lw_g (lw_at lw_m1 101 rfl) rfl
theorem q262 : (Jvm.Cond.static ({ cls := "PondHouse", name := "has", desc := "([LPondHouse$Kind;LPondHouse$Kind;)Z" } : Jvm.MethodName)) ∈ lw_all := lw_g (lw_at lw_m1 102 rfl) rfl
theorem q263 : (Jvm.Cond.code ({ cls := "PondHouse", name := "has", desc := "([LPondHouse$Kind;LPondHouse$Kind;)Z" } : Jvm.MethodName) prog_1_method_20_code (6 : Nat) (Option.some Jvm.ClassFile.FieldType.boolean)) ∈ lw_all := lw_g (lw_at lw_m1 103 rfl) rfl
theorem q264 : (Jvm.Cond.methodLink "PondHouse" (204 : Nat) ({ cls := "PondHouse$Kind", name := "former", desc := "(I)I" } : Jvm.MethodName)) ∈ lw_all := lw_g (lw_at lw_m1 104 rfl) rfl
theorem q268 : (Jvm.Cond.methodLink "PondHouse" (207 : Nat) ({ cls := "PondHouse$Kind", name := "holds", desc := "(I)Z" } : Jvm.MethodName)) ∈ lw_all := lw_g (lw_at lw_m1 108 rfl) rfl
theorem q272 : (Jvm.Cond.methodLink "PondHouse" (327 : Nat) ({ cls := "PondHouse$Kind", name := "first", desc := "(I)I" } : Jvm.MethodName)) ∈ lw_all := lw_g (lw_at lw_m1 112 rfl) rfl
theorem q276 : (Jvm.Cond.classLink "PondHouse" (23 : Nat) "PondHouse$Fixed") ∈ lw_all := lw_g (lw_at lw_m1 116 rfl) rfl
theorem q278 : (Jvm.Cond.methodLink "PondHouse" (32 : Nat) ({ cls := "PondHouse", name := "find", desc := "([LPondHouse$Fixed;II)LPondHouse$Fixed;" } : Jvm.MethodName)) ∈ lw_all := lw_g (lw_at lw_m1 118 rfl) rfl
theorem q279 : (Jvm.Cond.static ({ cls := "PondHouse", name := "find", desc := "([LPondHouse$Fixed;II)LPondHouse$Fixed;" } : Jvm.MethodName)) ∈ lw_all := lw_g (lw_at lw_m1 119 rfl) rfl
theorem q280 : (Jvm.Cond.code ({ cls := "PondHouse", name := "find", desc := "([LPondHouse$Fixed;II)LPondHouse$Fixed;" } : Jvm.MethodName) prog_1_method_4_code (7 : Nat) (Option.some (Jvm.ClassFile.FieldType.object "PondHouse$Fixed"))) ∈ lw_all := lw_g (lw_at lw_m1 120 rfl) rfl
theorem q284 : (Jvm.Cond.instanceMethod ({ cls := "PondHouse", name := "begin", desc := "(III)I" } : Jvm.MethodName)) ∈ lw_all := lw_g (lw_at lw_m1 124 rfl) rfl
theorem q285 : (Jvm.Cond.selects "PondHouse" ({ cls := "PondHouse", name := "begin", desc := "(III)I" } : Jvm.MethodName) ({ cls := "PondHouse", name := "begin", desc := "(III)I" } : Jvm.MethodName)) ∈ lw_all := lw_g (lw_at lw_m1 125 rfl) rfl
theorem q286 : (Jvm.Cond.code ({ cls := "PondHouse", name := "begin", desc := "(III)I" } : Jvm.MethodName) prog_1_method_38_code (7 : Nat) (Option.some Jvm.ClassFile.FieldType.int)) ∈ lw_all := lw_g (lw_at lw_m1 126 rfl) rfl
theorem q287 : (Jvm.Cond.methodLink "PondHouse" (427 : Nat) ({ cls := "PondHouse", name := "living", desc := "(I)LPondHouse$Creature;" } : Jvm.MethodName)) ∈ lw_all := lw_g (lw_at lw_m1 127 rfl) rfl
theorem q288 : (Jvm.Cond.privateMethod ({ cls := "PondHouse", name := "living", desc := "(I)LPondHouse$Creature;" } : Jvm.MethodName)) ∈ lw_tbl := lw_at lw_m1 128 rfl
theorem q289 : (Jvm.Cond.instanceMethod ({ cls := "PondHouse", name := "living", desc := "(I)LPondHouse$Creature;" } : Jvm.MethodName)) ∈ lw_all := lw_g (lw_at lw_m1 129 rfl) rfl
theorem q290 : (Jvm.Cond.code ({ cls := "PondHouse", name := "living", desc := "(I)LPondHouse$Creature;" } : Jvm.MethodName) prog_1_method_6_code (2 : Nat) (Option.some (Jvm.ClassFile.FieldType.object "PondHouse$Creature"))) ∈ lw_all := lw_g (lw_at lw_m1 130 rfl) rfl
theorem q291 : (Jvm.Cond.methodLink "PondHouse" (130 : Nat) ({ cls := "PondHouse$Kind", name := "body", desc := "(I)LPondHouse$Body;" } : Jvm.MethodName)) ∈ lw_all := lw_g (lw_at lw_m1 131 rfl) rfl
theorem q296 : (Jvm.Cond.classLink "PondHouse" (402 : Nat) "PondHouse$LongAct") ∈ lw_all := lw_g (lw_at lw_m1 136 rfl) rfl
theorem q298 : (Jvm.Cond.classLink "PondHouse" (107 : Nat) "PondHouse$Frame") ∈ lw_all := lw_g (lw_at lw_m1 138 rfl) rfl
theorem q300 : (Jvm.Cond.methodLinkNest "PondHouse" (431 : Nat) ({ cls := "PondHouse$Frame", name := "<init>", desc := "()V" } : Jvm.MethodName) "PondHouse") ∈ lw_tbl := lw_at lw_m1 140 rfl
theorem q310 : (Jvm.Cond.fieldLink "PondHouse" (408 : Nat) "PondHouse$Frame" "creature" "LPondHouse$Creature;") ∈ lw_all := lw_g (lw_at lw_m1 150 rfl) rfl
theorem q313 : (Jvm.Cond.fieldLink "PondHouse" (417 : Nat) "PondHouse$Frame" "body" "LPondHouse$Body;") ∈ lw_all := lw_g (lw_at lw_m1 153 rfl) rfl
theorem q322 : (Jvm.Cond.fieldLink "PondHouse" (122 : Nat) "PondHouse$Frame" "gave" "I") ∈ lw_all := lw_g (lw_at lw_m1 162 rfl) rfl
theorem q334 : (Jvm.Cond.methodLink "PondHouse" (106 : Nat) ({ cls := "PondHouse$Frame", name := "begins", desc := "(LPondHouse$Creature;LPondHouse$Body;I)LPondHouse$Frame;" } : Jvm.MethodName)) ∈ lw_all := lw_g (lw_at lw_m1 174 rfl) rfl
theorem q338 : (Jvm.Cond.methodLink "PondHouse" (432 : Nat) ({ cls := "PondHouse$LongAct", name := "<init>", desc := "(LPondHouse$Frame;)V" } : Jvm.MethodName)) ∈ lw_all := lw_g (lw_at lw_m1 178 rfl) rfl
theorem q343 : (Jvm.Cond.fieldLink "PondHouse" (405 : Nat) "PondHouse$LongAct" "frame" "LPondHouse$Frame;") ∈ lw_all := lw_g (lw_at lw_m1 183 rfl) rfl
theorem q344 : (Jvm.Cond.fieldLink "PondHouse" (420 : Nat) "PondHouse$LongAct" "at" "I") ∈ lw_all := lw_g (lw_at lw_m1 184 rfl) rfl
theorem q345 : (Jvm.Cond.fieldLink "PondHouse" (414 : Nat) "PondHouse$LongAct" "runs" "I") ∈ lw_all := lw_g (lw_at lw_m1 185 rfl) rfl
theorem q346 : (Jvm.Cond.fieldLink "PondHouse" (411 : Nat) "PondHouse$LongAct" "outcome" "I") ∈ lw_all := lw_g (lw_at lw_m1 186 rfl) rfl
theorem q347 : (Jvm.Cond.fieldLink "PondHouse" (426 : Nat) "PondHouse$LongAct" "gave" "I") ∈ lw_all := lw_g (lw_at lw_m1 187 rfl) rfl
theorem q349 : (Jvm.Cond.fieldLink "PondHouse" (401 : Nat) "PondHouse$LongAct" "isUnder" "Z") ∈ lw_all := lw_g (lw_at lw_m1 189 rfl) rfl
theorem q350 : (Jvm.Cond.fieldLink "PondHouse" (439 : Nat) "PondHouse$LongAct" "forbids" "Z") ∈ lw_all := lw_g (lw_at lw_m1 190 rfl) rfl
theorem q367 : (Jvm.Cond.instanceMethod ({ cls := "PondHouse", name := "under", desc := "(II)I" } : Jvm.MethodName)) ∈ lw_all := lw_g (lw_at lw_m1 207 rfl) rfl
theorem q368 : (Jvm.Cond.selects "PondHouse" ({ cls := "PondHouse", name := "under", desc := "(II)I" } : Jvm.MethodName) ({ cls := "PondHouse", name := "under", desc := "(II)I" } : Jvm.MethodName)) ∈ lw_all := lw_g (lw_at lw_m1 208 rfl) rfl
theorem q369 : (Jvm.Cond.code ({ cls := "PondHouse", name := "under", desc := "(II)I" } : Jvm.MethodName) prog_1_method_40_code (4 : Nat) (Option.some Jvm.ClassFile.FieldType.int)) ∈ lw_all := lw_g (lw_at lw_m1 209 rfl) rfl
theorem q370 : (Jvm.Cond.methodLink "PondHouse" (435 : Nat) ({ cls := "PondHouse", name := "longAct", desc := "(I)LPondHouse$LongAct;" } : Jvm.MethodName)) ∈ lw_all := lw_g (lw_at lw_m1 210 rfl) rfl
theorem q371 : (Jvm.Cond.privateMethod ({ cls := "PondHouse", name := "longAct", desc := "(I)LPondHouse$LongAct;" } : Jvm.MethodName)) ∈ lw_tbl := lw_at lw_m1 211 rfl
theorem q372 : (Jvm.Cond.instanceMethod ({ cls := "PondHouse", name := "longAct", desc := "(I)LPondHouse$LongAct;" } : Jvm.MethodName)) ∈ lw_all := lw_g (lw_at lw_m1 212 rfl) rfl
theorem q373 : (Jvm.Cond.code ({ cls := "PondHouse", name := "longAct", desc := "(I)LPondHouse$LongAct;" } : Jvm.MethodName) prog_1_method_39_code (2 : Nat) (Option.some (Jvm.ClassFile.FieldType.object "PondHouse$LongAct"))) ∈ lw_all := lw_g (lw_at lw_m1 213 rfl) rfl
theorem q375 : (Jvm.Cond.instanceMethod ({ cls := "PondHouse", name := "forbid", desc := "(IZ)Z" } : Jvm.MethodName)) ∈ lw_all := lw_g (lw_at lw_m1 215 rfl) rfl
theorem q376 : (Jvm.Cond.selects "PondHouse" ({ cls := "PondHouse", name := "forbid", desc := "(IZ)Z" } : Jvm.MethodName) ({ cls := "PondHouse", name := "forbid", desc := "(IZ)Z" } : Jvm.MethodName)) ∈ lw_all := lw_g (lw_at lw_m1 216 rfl) rfl
theorem q377 : (Jvm.Cond.code ({ cls := "PondHouse", name := "forbid", desc := "(IZ)Z" } : Jvm.MethodName) prog_1_method_41_code (4 : Nat) (Option.some Jvm.ClassFile.FieldType.boolean)) ∈ lw_all := lw_g (lw_at lw_m1 217 rfl) rfl
theorem q379 : (Jvm.Cond.instanceMethod ({ cls := "PondHouse", name := "wake", desc := "(I)Z" } : Jvm.MethodName)) ∈ lw_all := lw_g (lw_at lw_m1 219 rfl) rfl
theorem q380 : (Jvm.Cond.selects "PondHouse" ({ cls := "PondHouse", name := "wake", desc := "(I)Z" } : Jvm.MethodName) ({ cls := "PondHouse", name := "wake", desc := "(I)Z" } : Jvm.MethodName)) ∈ lw_all := lw_g (lw_at lw_m1 220 rfl) rfl
theorem q381 : (Jvm.Cond.code ({ cls := "PondHouse", name := "wake", desc := "(I)Z" } : Jvm.MethodName) prog_1_method_42_code (2 : Nat) (Option.some Jvm.ClassFile.FieldType.boolean)) ∈ lw_all := lw_g (lw_at lw_m1 221 rfl) rfl
theorem q383 : (Jvm.Cond.instanceMethod ({ cls := "PondHouse", name := "beat", desc := "()I" } : Jvm.MethodName)) ∈ lw_all := lw_g (lw_at lw_m1 223 rfl) rfl
theorem q384 : (Jvm.Cond.selects "PondHouse" ({ cls := "PondHouse", name := "beat", desc := "()I" } : Jvm.MethodName) ({ cls := "PondHouse", name := "beat", desc := "()I" } : Jvm.MethodName)) ∈ lw_all := lw_g (lw_at lw_m1 224 rfl) rfl
theorem q385 : (Jvm.Cond.code ({ cls := "PondHouse", name := "beat", desc := "()I" } : Jvm.MethodName) prog_1_method_43_code (5 : Nat) (Option.some Jvm.ClassFile.FieldType.int)) ∈ lw_all := lw_g (lw_at lw_m1 225 rfl) rfl
theorem q386 : (Jvm.Cond.methodLink "PondHouse" (451 : Nat) ({ cls := "java/util/Arrays", name := "fill", desc := "([II)V" } : Jvm.MethodName)) ∈ lw_all := lw_g (lw_at lw_m1 226 rfl) rfl
theorem q389 : (Jvm.Cond.methodLink "PondHouse" (457 : Nat) ({ cls := "PondHouse", name := "run", desc := "(LPondHouse$Creature;II)I" } : Jvm.MethodName)) ∈ lw_all := lw_g (lw_at lw_m1 229 rfl) rfl
theorem q390 : (Jvm.Cond.privateMethod ({ cls := "PondHouse", name := "run", desc := "(LPondHouse$Creature;II)I" } : Jvm.MethodName)) ∈ lw_tbl := lw_at lw_m1 230 rfl
theorem q391 : (Jvm.Cond.instanceMethod ({ cls := "PondHouse", name := "run", desc := "(LPondHouse$Creature;II)I" } : Jvm.MethodName)) ∈ lw_all := lw_g (lw_at lw_m1 231 rfl) rfl
theorem q392 : (Jvm.Cond.codeWith ({ cls := "PondHouse", name := "run", desc := "(LPondHouse$Creature;II)I" } : Jvm.MethodName) prog_1_method_14_code (6 : Nat) (Option.some Jvm.ClassFile.FieldType.int) [((21 : Nat), (34 : Nat), (35 : Nat), (56 : Nat))]) ∈ lw_all := lw_g (lw_at lw_m1 232 rfl) rfl
theorem q393 : (Jvm.Cond.classLink "PondHouse" (56 : Nat) "PondHouse$Failure") ∈ lw_all := lw_g (lw_at lw_m1 233 rfl) rfl
theorem q394 : (Jvm.Cond.methodLink "PondHouse" (127 : Nat) ({ cls := "PondHouse", name := "begins", desc := "()V" } : Jvm.MethodName)) ∈ lw_all := lw_g (lw_at lw_m1 234 rfl) rfl
theorem q395 : (Jvm.Cond.privateMethod ({ cls := "PondHouse", name := "begins", desc := "()V" } : Jvm.MethodName)) ∈ lw_tbl := lw_at lw_m1 235 rfl
theorem q396 : (Jvm.Cond.instanceMethod ({ cls := "PondHouse", name := "begins", desc := "()V" } : Jvm.MethodName)) ∈ lw_all := lw_g (lw_at lw_m1 236 rfl) rfl
theorem q397 : (Jvm.Cond.code ({ cls := "PondHouse", name := "begins", desc := "()V" } : Jvm.MethodName) prog_1_method_12_code (1 : Nat) (Option.none : Option Jvm.ClassFile.FieldType)) ∈ lw_all := lw_g (lw_at lw_m1 237 rfl) rfl
theorem q398 : (Jvm.Cond.methodLink "PondHouse" (94 : Nat) ({ cls := "PondHouse", name := "body", desc := "(LPondHouse$Creature;LPondHouse$Body;I)I" } : Jvm.MethodName)) ∈ lw_all := lw_g (lw_at lw_m1 238 rfl) rfl
theorem q399 : (Jvm.Cond.privateMethod ({ cls := "PondHouse", name := "body", desc := "(LPondHouse$Creature;LPondHouse$Body;I)I" } : Jvm.MethodName)) ∈ lw_tbl := lw_at lw_m1 239 rfl
theorem q400 : (Jvm.Cond.instanceMethod ({ cls := "PondHouse", name := "body", desc := "(LPondHouse$Creature;LPondHouse$Body;I)I" } : Jvm.MethodName)) ∈ lw_all := lw_g (lw_at lw_m2 0 rfl) rfl
theorem q401 : (Jvm.Cond.code ({ cls := "PondHouse", name := "body", desc := "(LPondHouse$Creature;LPondHouse$Body;I)I" } : Jvm.MethodName) prog_1_method_11_code (5 : Nat) (Option.some Jvm.ClassFile.FieldType.int)) ∈ lw_all := lw_g (lw_at lw_m2 1 rfl) rfl
theorem q402 : (Jvm.Cond.methodLink "PondHouse" (98 : Nat) ({ cls := "PondHouse", name := "notes", desc := "(LPondHouse$Creature;LPondHouse$Body;)V" } : Jvm.MethodName)) ∈ lw_all := lw_g (lw_at lw_m2 2 rfl) rfl
theorem q403 : (Jvm.Cond.privateMethod ({ cls := "PondHouse", name := "notes", desc := "(LPondHouse$Creature;LPondHouse$Body;)V" } : Jvm.MethodName)) ∈ lw_tbl := lw_at lw_m2 3 rfl
theorem q404 : (Jvm.Cond.instanceMethod ({ cls := "PondHouse", name := "notes", desc := "(LPondHouse$Creature;LPondHouse$Body;)V" } : Jvm.MethodName)) ∈ lw_all := lw_g (lw_at lw_m2 4 rfl) rfl
theorem q405 : (Jvm.Cond.code ({ cls := "PondHouse", name := "notes", desc := "(LPondHouse$Creature;LPondHouse$Body;)V" } : Jvm.MethodName) prog_1_method_9_code (3 : Nat) (Option.none : Option Jvm.ClassFile.FieldType)) ∈ lw_all := lw_g (lw_at lw_m2 5 rfl) rfl
theorem q406 : (Jvm.Cond.methodLink "PondHouse" (116 : Nat) ({ cls := "PondHouse$Block", name := "does", desc := "(LPondHouse$Frame;IZ)I" } : Jvm.MethodName)) ∈ lw_all := lw_g (lw_at lw_m2 6 rfl) rfl
theorem q411 : (Jvm.Cond.privateMethod ({ cls := "PondHouse", name := "spends", desc := "()V" } : Jvm.MethodName)) ∈ lw_tbl := lw_at lw_m2 11 rfl
theorem q412 : (Jvm.Cond.instanceMethod ({ cls := "PondHouse", name := "spends", desc := "()V" } : Jvm.MethodName)) ∈ lw_all := lw_g (lw_at lw_m2 12 rfl) rfl
theorem q413 : (Jvm.Cond.code ({ cls := "PondHouse", name := "spends", desc := "()V" } : Jvm.MethodName) prog_1_method_8_code (1 : Nat) (Option.none : Option Jvm.ClassFile.FieldType)) ∈ lw_all := lw_g (lw_at lw_m2 13 rfl) rfl
theorem q422 : (Jvm.Cond.privateMethod ({ cls := "PondHouse", name := "called", desc := "(LPondHouse$Creature;LPondHouse$Body;I)I" } : Jvm.MethodName)) ∈ lw_tbl := lw_at lw_m2 22 rfl
theorem q423 : (Jvm.Cond.instanceMethod ({ cls := "PondHouse", name := "called", desc := "(LPondHouse$Creature;LPondHouse$Body;I)I" } : Jvm.MethodName)) ∈ lw_all := lw_g (lw_at lw_m2 23 rfl) rfl
theorem q424 : (Jvm.Cond.code ({ cls := "PondHouse", name := "called", desc := "(LPondHouse$Creature;LPondHouse$Body;I)I" } : Jvm.MethodName) prog_1_method_10_code (5 : Nat) (Option.some Jvm.ClassFile.FieldType.int)) ∈ lw_all := lw_g (lw_at lw_m2 24 rfl) rfl
theorem q425 : (Jvm.Cond.methodLink "PondHouse" (90 : Nat) ({ cls := "PondHouse", name := "fails", desc := "(I)LPondHouse$Failure;" } : Jvm.MethodName)) ∈ lw_all := lw_g (lw_at lw_m2 25 rfl) rfl
theorem q426 : (Jvm.Cond.privateMethod ({ cls := "PondHouse", name := "fails", desc := "(I)LPondHouse$Failure;" } : Jvm.MethodName)) ∈ lw_tbl := lw_at lw_m2 26 rfl
theorem q427 : (Jvm.Cond.instanceMethod ({ cls := "PondHouse", name := "fails", desc := "(I)LPondHouse$Failure;" } : Jvm.MethodName)) ∈ lw_all := lw_g (lw_at lw_m2 27 rfl) rfl
theorem q428 : (Jvm.Cond.code ({ cls := "PondHouse", name := "fails", desc := "(I)LPondHouse$Failure;" } : Jvm.MethodName) prog_1_method_7_code (2 : Nat) (Option.some (Jvm.ClassFile.FieldType.object "PondHouse$Failure"))) ∈ lw_all := lw_g (lw_at lw_m2 28 rfl) rfl
theorem q435 : (Jvm.Cond.privateMethod ({ cls := "PondHouse", name := "fixedOf", desc := "(LPondHouse$Kind;I)LPondHouse$Fixed;" } : Jvm.MethodName)) ∈ lw_tbl := lw_at lw_m2 35 rfl
theorem q436 : (Jvm.Cond.instanceMethod ({ cls := "PondHouse", name := "fixedOf", desc := "(LPondHouse$Kind;I)LPondHouse$Fixed;" } : Jvm.MethodName)) ∈ lw_all := lw_g (lw_at lw_m2 36 rfl) rfl
theorem q437 : (Jvm.Cond.code ({ cls := "PondHouse", name := "fixedOf", desc := "(LPondHouse$Kind;I)LPondHouse$Fixed;" } : Jvm.MethodName) prog_1_method_5_code (5 : Nat) (Option.some (Jvm.ClassFile.FieldType.object "PondHouse$Fixed"))) ∈ lw_all := lw_g (lw_at lw_m2 37 rfl) rfl
theorem q489 : (Jvm.Cond.methodLink "PondHouse" (133 : Nat) ({ cls := "PondHouse", name := "ended", desc := "(LPondHouse$Failure;)I" } : Jvm.MethodName)) ∈ lw_all := lw_g (lw_at lw_m2 89 rfl) rfl
theorem q490 : (Jvm.Cond.privateMethod ({ cls := "PondHouse", name := "ended", desc := "(LPondHouse$Failure;)I" } : Jvm.MethodName)) ∈ lw_tbl := lw_at lw_m2 90 rfl
theorem q491 : (Jvm.Cond.instanceMethod ({ cls := "PondHouse", name := "ended", desc := "(LPondHouse$Failure;)I" } : Jvm.MethodName)) ∈ lw_all := lw_g (lw_at lw_m2 91 rfl) rfl
theorem q492 : (Jvm.Cond.code ({ cls := "PondHouse", name := "ended", desc := "(LPondHouse$Failure;)I" } : Jvm.MethodName) prog_1_method_13_code (2 : Nat) (Option.some Jvm.ClassFile.FieldType.int)) ∈ lw_all := lw_g (lw_at lw_m2 92 rfl) rfl
theorem q493 : (Jvm.Cond.methodLink "PondHouse" (461 : Nat) ({ cls := "PondHouse", name := "goesOn", desc := "(LPondHouse$LongAct;)V" } : Jvm.MethodName)) ∈ lw_all := lw_g (lw_at lw_m2 93 rfl) rfl
theorem q494 : (Jvm.Cond.privateMethod ({ cls := "PondHouse", name := "goesOn", desc := "(LPondHouse$LongAct;)V" } : Jvm.MethodName)) ∈ lw_tbl := lw_at lw_m2 94 rfl
theorem q495 : (Jvm.Cond.instanceMethod ({ cls := "PondHouse", name := "goesOn", desc := "(LPondHouse$LongAct;)V" } : Jvm.MethodName)) ∈ lw_all := lw_g (lw_at lw_m2 95 rfl) rfl
theorem q496 : (Jvm.Cond.codeWith ({ cls := "PondHouse", name := "goesOn", desc := "(LPondHouse$LongAct;)V" } : Jvm.MethodName) prog_1_method_37_code (5 : Nat) (Option.none : Option Jvm.ClassFile.FieldType) [((25 : Nat), (72 : Nat), (87 : Nat), (56 : Nat)), ((73 : Nat), (84 : Nat), (87 : Nat), (56 : Nat))]) ∈ lw_all := lw_g (lw_at lw_m2 96 rfl) rfl
theorem q497 : (Jvm.Cond.methodLink "PondHouse" (423 : Nat) ({ cls := "PondHouse$Block", name := "isBehindRest", desc := "(I)Z" } : Jvm.MethodName)) ∈ lw_all := lw_g (lw_at lw_m2 97 rfl) rfl
theorem q501 : (Jvm.Cond.methodLink "PondHouse" (465 : Nat) ({ cls := "PondHouse", name := "quiet", desc := "(LPondHouse$Patch;)V" } : Jvm.MethodName)) ∈ lw_all := lw_g (lw_at lw_m2 101 rfl) rfl
theorem q502 : (Jvm.Cond.privateMethod ({ cls := "PondHouse", name := "quiet", desc := "(LPondHouse$Patch;)V" } : Jvm.MethodName)) ∈ lw_tbl := lw_at lw_m2 102 rfl
theorem q503 : (Jvm.Cond.instanceMethod ({ cls := "PondHouse", name := "quiet", desc := "(LPondHouse$Patch;)V" } : Jvm.MethodName)) ∈ lw_all := lw_g (lw_at lw_m2 103 rfl) rfl
theorem q504 : (Jvm.Cond.codeWith ({ cls := "PondHouse", name := "quiet", desc := "(LPondHouse$Patch;)V" } : Jvm.MethodName) prog_1_method_45_code (3 : Nat) (Option.none : Option Jvm.ClassFile.FieldType) [((43 : Nat), (53 : Nat), (56 : Nat), (165 : Nat))]) ∈ lw_all := lw_g (lw_at lw_m2 104 rfl) rfl
theorem q505 : (Jvm.Cond.classLink "PondHouse" (165 : Nat) "PondHouse$Refusal") ∈ lw_all := lw_g (lw_at lw_m2 105 rfl) rfl
theorem q506 : (Jvm.Cond.methodLink "PondHouse" (468 : Nat) ({ cls := "PondHouse", name := "isForbidden", desc := "()Z" } : Jvm.MethodName)) ∈ lw_all := lw_g (lw_at lw_m2 106 rfl) rfl
theorem q507 : (Jvm.Cond.privateMethod ({ cls := "PondHouse", name := "isForbidden", desc := "()Z" } : Jvm.MethodName)) ∈ lw_tbl := lw_at lw_m2 107 rfl
theorem q508 : (Jvm.Cond.instanceMethod ({ cls := "PondHouse", name := "isForbidden", desc := "()Z" } : Jvm.MethodName)) ∈ lw_all := lw_g (lw_at lw_m2 108 rfl) rfl
theorem q509 : (Jvm.Cond.code ({ cls := "PondHouse", name := "isForbidden", desc := "()Z" } : Jvm.MethodName) prog_1_method_44_code (5 : Nat) (Option.some Jvm.ClassFile.FieldType.boolean)) ∈ lw_all := lw_g (lw_at lw_m2 109 rfl) rfl
theorem q510 : (Jvm.Cond.methodLink "PondHouse" (475 : Nat) ({ cls := "PondHouse", name := "makes", desc := "(LPondHouse$Patch;)V" } : Jvm.MethodName)) ∈ lw_all := lw_g (lw_at lw_m2 110 rfl) rfl
theorem q511 : (Jvm.Cond.privateMethod ({ cls := "PondHouse", name := "makes", desc := "(LPondHouse$Patch;)V" } : Jvm.MethodName)) ∈ lw_tbl := lw_at lw_m2 111 rfl
theorem q512 : (Jvm.Cond.instanceMethod ({ cls := "PondHouse", name := "makes", desc := "(LPondHouse$Patch;)V" } : Jvm.MethodName)) ∈ lw_all := lw_g (lw_at lw_m2 112 rfl) rfl
theorem q513 : (Jvm.Cond.codeWith ({ cls := "PondHouse", name := "makes", desc := "(LPondHouse$Patch;)V" } : Jvm.MethodName) prog_1_method_22_code (9 : Nat) (Option.none : Option Jvm.ClassFile.FieldType) [((166 : Nat), (185 : Nat), (210 : Nat), (0 : Nat)), ((210 : Nat), (212 : Nat), (210 : Nat), (0 : Nat))]) ∈ lw_all := lw_g (lw_at lw_m2 113 rfl) rfl
theorem q514 : (Jvm.Cond.classLink "PondHouse" (148 : Nat) "PondHouse$Row") ∈ lw_all := lw_g (lw_at lw_m2 114 rfl) rfl
theorem q516 : (Jvm.Cond.methodLinkNest "PondHouse" (211 : Nat) ({ cls := "PondHouse$Row", name := "<init>", desc := "()V" } : Jvm.MethodName) "PondHouse") ∈ lw_tbl := lw_at lw_m2 116 rfl
theorem q550 : (Jvm.Cond.classLink "PondHouse" (157 : Nat) "PondHouse$Draft") ∈ lw_all := lw_g (lw_at lw_m2 150 rfl) rfl
theorem q552 : (Jvm.Cond.methodLink "PondHouse" (217 : Nat) ({ cls := "PondHouse$Draft", name := "<init>", desc := "(LPondHouse$Kind;)V" } : Jvm.MethodName)) ∈ lw_all := lw_g (lw_at lw_m2 152 rfl) rfl
theorem q563 : (Jvm.Cond.fieldLink "PondHouse" (159 : Nat) "PondHouse$Draft" "name" "I") ∈ lw_all := lw_g (lw_at lw_m2 163 rfl) rfl
theorem q567 : (Jvm.Cond.fieldLink "PondHouse" (175 : Nat) "PondHouse$Draft" "above" "I") ∈ lw_all := lw_g (lw_at lw_m2 167 rfl) rfl
theorem q572 : (Jvm.Cond.fieldLink "PondHouse" (183 : Nat) "PondHouse$Draft" "isChanged" "Z") ∈ lw_all := lw_g (lw_at lw_m2 172 rfl) rfl
theorem q624 : (Jvm.Cond.methodLink "PondHouse" (220 : Nat) ({ cls := "PondHouse$Row", name := "add", desc := "(Ljava/lang/Object;)V" } : Jvm.MethodName)) ∈ lw_all := lw_g (lw_at lw_m2 224 rfl) rfl
theorem q660 : (Jvm.Cond.selects "PondHouse" ({ cls := "java/lang/Object", name := "getClass", desc := "()Ljava/lang/Class;" } : Jvm.MethodName) ({ cls := "java/lang/Object", name := "getClass", desc := "()Ljava/lang/Class;" } : Jvm.MethodName)) ∈ lw_all := lw_g (lw_at lw_m3 20 rfl) rfl
theorem q709 : (Jvm.Cond.methodLink "PondHouse" (147 : Nat) ({ cls := "PondHouse$Row", name := "size", desc := "()I" } : Jvm.MethodName)) ∈ lw_all := lw_g (lw_at lw_m3 69 rfl) rfl
theorem q717 : (Jvm.Cond.methodLink "PondHouse" (153 : Nat) ({ cls := "PondHouse$Row", name := "get", desc := "(I)Ljava/lang/Object;" } : Jvm.MethodName)) ∈ lw_all := lw_g (lw_at lw_m3 77 rfl) rfl
theorem q735 : (Jvm.Cond.classLink "PondHouse" (230 : Nat) "PondHouse$Change") ∈ lw_all := lw_g (lw_at lw_m3 95 rfl) rfl
theorem q736 : (Jvm.Cond.methodLink "PondHouse" (232 : Nat) ({ cls := "PondHouse$Change", name := "makes", desc := "(LPondHouse$Row;I)V" } : Jvm.MethodName)) ∈ lw_all := lw_g (lw_at lw_m3 96 rfl) rfl
theorem q749 : (Jvm.Cond.static ({ cls := "PondHouse", name := "draft", desc := "(LPondHouse$Row;I)LPondHouse$Draft;" } : Jvm.MethodName)) ∈ lw_all := lw_g (lw_at lw_m3 109 rfl) rfl
theorem q750 : (Jvm.Cond.code ({ cls := "PondHouse", name := "draft", desc := "(LPondHouse$Row;I)LPondHouse$Draft;" } : Jvm.MethodName) prog_1_method_16_code (3 : Nat) (Option.some (Jvm.ClassFile.FieldType.object "PondHouse$Draft"))) ∈ lw_all := lw_g (lw_at lw_m3 110 rfl) rfl
theorem q752 : (Jvm.Cond.privateMethod ({ cls := "PondHouse", name := "refuses", desc := "(III)LPondHouse$Refusal;" } : Jvm.MethodName)) ∈ lw_tbl := lw_at lw_m3 112 rfl
theorem q753 : (Jvm.Cond.instanceMethod ({ cls := "PondHouse", name := "refuses", desc := "(III)LPondHouse$Refusal;" } : Jvm.MethodName)) ∈ lw_all := lw_g (lw_at lw_m3 113 rfl) rfl
theorem q754 : (Jvm.Cond.code ({ cls := "PondHouse", name := "refuses", desc := "(III)LPondHouse$Refusal;" } : Jvm.MethodName) prog_1_method_17_code (4 : Nat) (Option.some (Jvm.ClassFile.FieldType.object "PondHouse$Refusal"))) ∈ lw_all := lw_g (lw_at lw_m3 114 rfl) rfl
theorem q857 : (Jvm.Cond.methodLink "PondHouse" (239 : Nat) ({ cls := "PondHouse", name := "made", desc := "(LPondHouse$Row;[LPondHouse$Kind;I)[LPondHouse$Kind;" } : Jvm.MethodName)) ∈ lw_all := lw_g (lw_at lw_m3 217 rfl) rfl
theorem q858 : (Jvm.Cond.privateMethod ({ cls := "PondHouse", name := "made", desc := "(LPondHouse$Row;[LPondHouse$Kind;I)[LPondHouse$Kind;" } : Jvm.MethodName)) ∈ lw_tbl := lw_at lw_m3 218 rfl
theorem q859 : (Jvm.Cond.instanceMethod ({ cls := "PondHouse", name := "made", desc := "(LPondHouse$Row;[LPondHouse$Kind;I)[LPondHouse$Kind;" } : Jvm.MethodName)) ∈ lw_all := lw_g (lw_at lw_m3 219 rfl) rfl
theorem q860 : (Jvm.Cond.code ({ cls := "PondHouse", name := "made", desc := "(LPondHouse$Row;[LPondHouse$Kind;I)[LPondHouse$Kind;" } : Jvm.MethodName) prog_1_method_18_code (11 : Nat) (Option.some (Jvm.ClassFile.FieldType.array (Jvm.ClassFile.FieldType.object "PondHouse$Kind")))) ∈ lw_all := lw_g (lw_at lw_m3 220 rfl) rfl
theorem q861 : (Jvm.Cond.classLink "PondHouse" (18 : Nat) "PondHouse$Kind") ∈ lw_all := lw_g (lw_at lw_m3 221 rfl) rfl
theorem q863 : (Jvm.Cond.methodLink "PondHouse" (177 : Nat) ({ cls := "PondHouse", name := "place", desc := "(LPondHouse$Row;I)I" } : Jvm.MethodName)) ∈ lw_all := lw_g (lw_at lw_m3 223 rfl) rfl
theorem q864 : (Jvm.Cond.static ({ cls := "PondHouse", name := "place", desc := "(LPondHouse$Row;I)I" } : Jvm.MethodName)) ∈ lw_all := lw_g (lw_at lw_m3 224 rfl) rfl
theorem q865 : (Jvm.Cond.code ({ cls := "PondHouse", name := "place", desc := "(LPondHouse$Row;I)I" } : Jvm.MethodName) prog_1_method_19_code (3 : Nat) (Option.some Jvm.ClassFile.FieldType.int)) ∈ lw_all := lw_g (lw_at lw_m3 225 rfl) rfl
theorem q866 : (Jvm.Cond.methodLink "PondHouse" (186 : Nat) ({ cls := "PondHouse$Kind", name := "<init>", desc := "(LPondHouse$Draft;LPondHouse$Kind;I)V" } : Jvm.MethodName)) ∈ lw_all := lw_g (lw_at lw_m3 226 rfl) rfl
theorem q889 : (Jvm.Cond.fieldLink "PondHouse" (83 : Nat) "PondHouse$Body" "kind" "LPondHouse$Kind;") ∈ lw_all := lw_g (lw_at lw_m4 9 rfl) rfl
theorem q894 : (Jvm.Cond.fieldLink "PondHouse" (80 : Nat) "PondHouse$Body" "name" "I") ∈ lw_all := lw_g (lw_at lw_m4 14 rfl) rfl
theorem q897 : (Jvm.Cond.fieldLink "PondHouse" (112 : Nat) "PondHouse$Body" "block" "LPondHouse$Block;") ∈ lw_all := lw_g (lw_at lw_m4 17 rfl) rfl
theorem q907 : (Jvm.Cond.fieldLink "PondHouse" (17 : Nat) "PondHouse$Kind" "name" "I") ∈ lw_all := lw_g (lw_at lw_m4 27 rfl) rfl
theorem q909 : (Jvm.Cond.fieldLink "PondHouse" (84 : Nat) "PondHouse$Kind" "generation" "I") ∈ lw_all := lw_g (lw_at lw_m4 29 rfl) rfl
theorem q913 : (Jvm.Cond.fieldLink "PondHouse" (36 : Nat) "PondHouse$Kind" "above" "LPondHouse$Kind;") ∈ lw_all := lw_g (lw_at lw_m4 33 rfl) rfl
theorem q916 : (Jvm.Cond.fieldLink "PondHouse" (280 : Nat) "PondHouse$Kind" "fields" "[I") ∈ lw_all := lw_g (lw_at lw_m4 36 rfl) rfl
theorem q921 : (Jvm.Cond.fieldLink "PondHouse" (286 : Nat) "PondHouse$Kind" "statics" "[I") ∈ lw_all := lw_g (lw_at lw_m4 41 rfl) rfl
theorem q924 : (Jvm.Cond.fieldLink "PondHouse" (371 : Nat) "PondHouse$Kind" "fixed" "[I") ∈ lw_all := lw_g (lw_at lw_m4 44 rfl) rfl
theorem q928 : (Jvm.Cond.fieldLink "PondHouse" (596 : Nat) "PondHouse$Kind" "bodies" "[LPondHouse$Body;") ∈ lw_all := lw_g (lw_at lw_m4 48 rfl) rfl
theorem q948 : (Jvm.Cond.methodLink "PondHouse" (242 : Nat) ({ cls := "PondHouse", name := "isDouble", desc := "(LPondHouse$Kind;)Z" } : Jvm.MethodName)) ∈ lw_all := lw_g (lw_at lw_m4 68 rfl) rfl
theorem q949 : (Jvm.Cond.static ({ cls := "PondHouse", name := "isDouble", desc := "(LPondHouse$Kind;)Z" } : Jvm.MethodName)) ∈ lw_all := lw_g (lw_at lw_m4 69 rfl) rfl
theorem q950 : (Jvm.Cond.code ({ cls := "PondHouse", name := "isDouble", desc := "(LPondHouse$Kind;)Z" } : Jvm.MethodName) prog_1_method_23_code (6 : Nat) (Option.some Jvm.ClassFile.FieldType.boolean)) ∈ lw_all := lw_g (lw_at lw_m4 70 rfl) rfl
theorem q951 : (Jvm.Cond.methodLink "PondHouse" (283 : Nat) ({ cls := "PondHouse$Kind", name := "hasOwn", desc := "(I)Z" } : Jvm.MethodName)) ∈ lw_all := lw_g (lw_at lw_m4 71 rfl) rfl
theorem q955 : (Jvm.Cond.methodLink "PondHouse" (289 : Nat) ({ cls := "PondHouse", name := "has", desc := "([II)Z" } : Jvm.MethodName)) ∈ lw_all := lw_g (lw_at lw_m4 75 rfl) rfl
theorem q956 : (Jvm.Cond.static ({ cls := "PondHouse", name := "has", desc := "([II)Z" } : Jvm.MethodName)) ∈ lw_all := lw_g (lw_at lw_m4 76 rfl) rfl
theorem q957 : (Jvm.Cond.code ({ cls := "PondHouse", name := "has", desc := "([II)Z" } : Jvm.MethodName) prog_1_method_24_code (6 : Nat) (Option.some Jvm.ClassFile.FieldType.boolean)) ∈ lw_all := lw_g (lw_at lw_m4 77 rfl) rfl
theorem q958 : (Jvm.Cond.methodLink "PondHouse" (246 : Nat) ({ cls := "PondHouse", name := "refuses", desc := "(III)LPondHouse$Refusal;" } : Jvm.MethodName)) ∈ lw_all := lw_g (lw_at lw_m4 78 rfl) rfl
theorem q959 : (Jvm.Cond.methodLink "PondHouse" (250 : Nat) ({ cls := "PondHouse", name := "carries", desc := "(LPondHouse$Patch;[LPondHouse$Kind;)V" } : Jvm.MethodName)) ∈ lw_all := lw_g (lw_at lw_m4 79 rfl) rfl
theorem q960 : (Jvm.Cond.privateMethod ({ cls := "PondHouse", name := "carries", desc := "(LPondHouse$Patch;[LPondHouse$Kind;)V" } : Jvm.MethodName)) ∈ lw_tbl := lw_at lw_m4 80 rfl
theorem q961 : (Jvm.Cond.instanceMethod ({ cls := "PondHouse", name := "carries", desc := "(LPondHouse$Patch;[LPondHouse$Kind;)V" } : Jvm.MethodName)) ∈ lw_all := lw_g (lw_at lw_m4 81 rfl) rfl
theorem q962 : (Jvm.Cond.code ({ cls := "PondHouse", name := "carries", desc := "(LPondHouse$Patch;[LPondHouse$Kind;)V" } : Jvm.MethodName) prog_1_method_26_code (10 : Nat) (Option.none : Option Jvm.ClassFile.FieldType)) ∈ lw_all := lw_g (lw_at lw_m4 82 rfl) rfl
theorem q963 : (Jvm.Cond.methodLink "PondHouse" (315 : Nat) ({ cls := "PondHouse", name := "ruling", desc := "(LPondHouse$Patch;LPondHouse$Kind;I)I" } : Jvm.MethodName)) ∈ lw_all := lw_g (lw_at lw_m4 83 rfl) rfl
theorem q964 : (Jvm.Cond.privateMethod ({ cls := "PondHouse", name := "ruling", desc := "(LPondHouse$Patch;LPondHouse$Kind;I)I" } : Jvm.MethodName)) ∈ lw_tbl := lw_at lw_m4 84 rfl
theorem q965 : (Jvm.Cond.instanceMethod ({ cls := "PondHouse", name := "ruling", desc := "(LPondHouse$Patch;LPondHouse$Kind;I)I" } : Jvm.MethodName)) ∈ lw_all := lw_g (lw_at lw_m4 85 rfl) rfl
theorem q966 : (Jvm.Cond.code ({ cls := "PondHouse", name := "ruling", desc := "(LPondHouse$Patch;LPondHouse$Kind;I)I" } : Jvm.MethodName) prog_1_method_25_code (7 : Nat) (Option.some Jvm.ClassFile.FieldType.int)) ∈ lw_all := lw_g (lw_at lw_m4 86 rfl) rfl
theorem q967 : (Jvm.Cond.classLink "PondHouse" (292 : Nat) "PondHouse$Edits") ∈ lw_all := lw_g (lw_at lw_m4 87 rfl) rfl
theorem q968 : (Jvm.Cond.methodLink "PondHouse" (295 : Nat) ({ cls := "PondHouse$Kind", name := "isUnder", desc := "(I)Z" } : Jvm.MethodName)) ∈ lw_all := lw_g (lw_at lw_m4 88 rfl) rfl
theorem q973 : (Jvm.Cond.methodLink "PondHouse" (298 : Nat) ({ cls := "PondHouse$Edits", name := "rule", desc := "(I)LPondHouse$Worth;" } : Jvm.MethodName)) ∈ lw_all := lw_g (lw_at lw_m4 93 rfl) rfl
theorem q977 : (Jvm.Cond.methodLink "PondHouse" (323 : Nat) ({ cls := "PondHouse", name := "ruled", desc := "(LPondHouse$Worth;LPondHouse$Creature;I)I" } : Jvm.MethodName)) ∈ lw_all := lw_g (lw_at lw_m4 97 rfl) rfl
theorem q978 : (Jvm.Cond.privateMethod ({ cls := "PondHouse", name := "ruled", desc := "(LPondHouse$Worth;LPondHouse$Creature;I)I" } : Jvm.MethodName)) ∈ lw_tbl := lw_at lw_m4 98 rfl
theorem q979 : (Jvm.Cond.instanceMethod ({ cls := "PondHouse", name := "ruled", desc := "(LPondHouse$Worth;LPondHouse$Creature;I)I" } : Jvm.MethodName)) ∈ lw_all := lw_g (lw_at lw_m4 99 rfl) rfl
theorem q980 : (Jvm.Cond.codeWith ({ cls := "PondHouse", name := "ruled", desc := "(LPondHouse$Worth;LPondHouse$Creature;I)I" } : Jvm.MethodName) prog_1_method_27_code (5 : Nat) (Option.some Jvm.ClassFile.FieldType.int) [((0 : Nat), (14 : Nat), (15 : Nat), (56 : Nat))]) ∈ lw_all := lw_g (lw_at lw_m4 100 rfl) rfl
theorem q981 : (Jvm.Cond.methodLink "PondHouse" (334 : Nat) ({ cls := "PondHouse$Worth", name := "of", desc := "(LPondHouse$Frame;)I" } : Jvm.MethodName)) ∈ lw_all := lw_g (lw_at lw_m4 101 rfl) rfl
theorem q982 : (Jvm.Cond.methodLink "PondHouse" (254 : Nat) ({ cls := "PondHouse", name := "goesOver", desc := "([LPondHouse$Kind;)V" } : Jvm.MethodName)) ∈ lw_all := lw_g (lw_at lw_m4 102 rfl) rfl
theorem q983 : (Jvm.Cond.privateMethod ({ cls := "PondHouse", name := "goesOver", desc := "([LPondHouse$Kind;)V" } : Jvm.MethodName)) ∈ lw_tbl := lw_at lw_m4 103 rfl
theorem q984 : (Jvm.Cond.instanceMethod ({ cls := "PondHouse", name := "goesOver", desc := "([LPondHouse$Kind;)V" } : Jvm.MethodName)) ∈ lw_all := lw_g (lw_at lw_m4 104 rfl) rfl
theorem q985 : (Jvm.Cond.code ({ cls := "PondHouse", name := "goesOver", desc := "([LPondHouse$Kind;)V" } : Jvm.MethodName) prog_1_method_28_code (6 : Nat) (Option.none : Option Jvm.ClassFile.FieldType)) ∈ lw_all := lw_g (lw_at lw_m4 105 rfl) rfl
theorem q986 : (Jvm.Cond.methodLink "PondHouse" (346 : Nat) ({ cls := "java/lang/System", name := "arraycopy", desc := "(Ljava/lang/Object;ILjava/lang/Object;II)V" } : Jvm.MethodName)) ∈ lw_all := lw_g (lw_at lw_m4 106 rfl) rfl
theorem q987 : (Jvm.Cond.methodLink "PondHouse" (360 : Nat) ({ cls := "PondHouse", name := "loses", desc := "(LPondHouse$Creature;LPondHouse$Kind;[LPondHouse$Kind;)V" } : Jvm.MethodName)) ∈ lw_all := lw_g (lw_at lw_m4 107 rfl) rfl
theorem q988 : (Jvm.Cond.privateMethod ({ cls := "PondHouse", name := "loses", desc := "(LPondHouse$Creature;LPondHouse$Kind;[LPondHouse$Kind;)V" } : Jvm.MethodName)) ∈ lw_tbl := lw_at lw_m4 108 rfl
theorem q989 : (Jvm.Cond.instanceMethod ({ cls := "PondHouse", name := "loses", desc := "(LPondHouse$Creature;LPondHouse$Kind;[LPondHouse$Kind;)V" } : Jvm.MethodName)) ∈ lw_all := lw_g (lw_at lw_m4 109 rfl) rfl
theorem q990 : (Jvm.Cond.code ({ cls := "PondHouse", name := "loses", desc := "(LPondHouse$Creature;LPondHouse$Kind;[LPondHouse$Kind;)V" } : Jvm.MethodName) prog_1_method_29_code (7 : Nat) (Option.none : Option Jvm.ClassFile.FieldType)) ∈ lw_all := lw_g (lw_at lw_m4 110 rfl) rfl
theorem q991 : (Jvm.Cond.methodLink "PondHouse" (368 : Nat) ({ cls := "PondHouse$Creature", name := "loses", desc := "(II)V" } : Jvm.MethodName)) ∈ lw_all := lw_g (lw_at lw_m4 111 rfl) rfl
theorem q995 : (Jvm.Cond.methodLink "PondHouse" (364 : Nat) ({ cls := "PondHouse", name := "fixedOf", desc := "([LPondHouse$Kind;[LPondHouse$Fixed;)[LPondHouse$Fixed;" } : Jvm.MethodName)) ∈ lw_all := lw_g (lw_at lw_m4 115 rfl) rfl
theorem q996 : (Jvm.Cond.static ({ cls := "PondHouse", name := "fixedOf", desc := "([LPondHouse$Kind;[LPondHouse$Fixed;)[LPondHouse$Fixed;" } : Jvm.MethodName)) ∈ lw_all := lw_g (lw_at lw_m4 116 rfl) rfl
theorem q997 : (Jvm.Cond.code ({ cls := "PondHouse", name := "fixedOf", desc := "([LPondHouse$Kind;[LPondHouse$Fixed;)[LPondHouse$Fixed;" } : Jvm.MethodName) prog_1_method_30_code (10 : Nat) (Option.some (Jvm.ClassFile.FieldType.array (Jvm.ClassFile.FieldType.object "PondHouse$Fixed")))) ∈ lw_all := lw_g (lw_at lw_m4 117 rfl) rfl
theorem q999 : (Jvm.Cond.methodLink "PondHouse" (376 : Nat) ({ cls := "PondHouse$Fixed", name := "<init>", desc := "(III)V" } : Jvm.MethodName)) ∈ lw_all := lw_g (lw_at lw_m4 119 rfl) rfl
theorem q1004 : (Jvm.Cond.fieldLink "PondHouse" (22 : Nat) "PondHouse$Fixed" "kind" "I") ∈ lw_all := lw_g (lw_at lw_m4 124 rfl) rfl
theorem q1006 : (Jvm.Cond.fieldLink "PondHouse" (27 : Nat) "PondHouse$Fixed" "name" "I") ∈ lw_all := lw_g (lw_at lw_m4 126 rfl) rfl
theorem q1009 : (Jvm.Cond.fieldLink "PondHouse" (373 : Nat) "PondHouse$Fixed" "value" "I") ∈ lw_all := lw_g (lw_at lw_m4 129 rfl) rfl
theorem q1017 : (Jvm.Cond.methodLink "PondHouse" (258 : Nat) ({ cls := "PondHouse", name := "checks", desc := "(LPondHouse$Patch;)V" } : Jvm.MethodName)) ∈ lw_all := lw_g (lw_at lw_m4 137 rfl) rfl
theorem q1018 : (Jvm.Cond.privateMethod ({ cls := "PondHouse", name := "checks", desc := "(LPondHouse$Patch;)V" } : Jvm.MethodName)) ∈ lw_tbl := lw_at lw_m4 138 rfl
theorem q1019 : (Jvm.Cond.instanceMethod ({ cls := "PondHouse", name := "checks", desc := "(LPondHouse$Patch;)V" } : Jvm.MethodName)) ∈ lw_all := lw_g (lw_at lw_m4 139 rfl) rfl
theorem q1020 : (Jvm.Cond.code ({ cls := "PondHouse", name := "checks", desc := "(LPondHouse$Patch;)V" } : Jvm.MethodName) prog_1_method_31_code (6 : Nat) (Option.none : Option Jvm.ClassFile.FieldType)) ∈ lw_all := lw_g (lw_at lw_m4 140 rfl) rfl
theorem q1021 : (Jvm.Cond.classLink "PondHouse" (379 : Nat) "PondHouse$Checks") ∈ lw_all := lw_g (lw_at lw_m4 141 rfl) rfl
theorem q1022 : (Jvm.Cond.methodLink "PondHouse" (381 : Nat) ({ cls := "PondHouse$Checks", name := "holds", desc := "(LPondHouse$Creature;)Z" } : Jvm.MethodName)) ∈ lw_all := lw_g (lw_at lw_m4 142 rfl) rfl
theorem q1029 : (Jvm.Cond.methodLink "PondHouse" (262 : Nat) ({ cls := "PondHouse", name := "takesBack", desc := "([LPondHouse$Kind;[LPondHouse$Fixed;)V" } : Jvm.MethodName)) ∈ lw_all := lw_g (lw_at lw_m4 149 rfl) rfl
theorem q1030 : (Jvm.Cond.privateMethod ({ cls := "PondHouse", name := "takesBack", desc := "([LPondHouse$Kind;[LPondHouse$Fixed;)V" } : Jvm.MethodName)) ∈ lw_tbl := lw_at lw_m4 150 rfl
theorem q1031 : (Jvm.Cond.instanceMethod ({ cls := "PondHouse", name := "takesBack", desc := "([LPondHouse$Kind;[LPondHouse$Fixed;)V" } : Jvm.MethodName)) ∈ lw_all := lw_g (lw_at lw_m4 151 rfl) rfl
theorem q1032 : (Jvm.Cond.code ({ cls := "PondHouse", name := "takesBack", desc := "([LPondHouse$Kind;[LPondHouse$Fixed;)V" } : Jvm.MethodName) prog_1_method_32_code (5 : Nat) (Option.none : Option Jvm.ClassFile.FieldType)) ∈ lw_all := lw_g (lw_at lw_m4 152 rfl) rfl
theorem q1034 : (Jvm.Cond.instanceMethod ({ cls := "PondHouse", name := "refusal", desc := "(I)I" } : Jvm.MethodName)) ∈ lw_all := lw_g (lw_at lw_m4 154 rfl) rfl
theorem q1035 : (Jvm.Cond.selects "PondHouse" ({ cls := "PondHouse", name := "refusal", desc := "(I)I" } : Jvm.MethodName) ({ cls := "PondHouse", name := "refusal", desc := "(I)I" } : Jvm.MethodName)) ∈ lw_all := lw_g (lw_at lw_m4 155 rfl) rfl
theorem q1036 : (Jvm.Cond.code ({ cls := "PondHouse", name := "refusal", desc := "(I)I" } : Jvm.MethodName) prog_1_method_46_code (2 : Nat) (Option.some Jvm.ClassFile.FieldType.int)) ∈ lw_all := lw_g (lw_at lw_m4 156 rfl) rfl
theorem q1038 : (Jvm.Cond.instanceMethod ({ cls := "PondHouse", name := "apply", desc := "(I)Z" } : Jvm.MethodName)) ∈ lw_all := lw_g (lw_at lw_m4 158 rfl) rfl
theorem q1039 : (Jvm.Cond.selects "PondHouse" ({ cls := "PondHouse", name := "apply", desc := "(I)Z" } : Jvm.MethodName) ({ cls := "PondHouse", name := "apply", desc := "(I)Z" } : Jvm.MethodName)) ∈ lw_all := lw_g (lw_at lw_m4 159 rfl) rfl
theorem q1040 : (Jvm.Cond.code ({ cls := "PondHouse", name := "apply", desc := "(I)Z" } : Jvm.MethodName) prog_1_method_47_code (2 : Nat) (Option.some Jvm.ClassFile.FieldType.boolean)) ∈ lw_all := lw_g (lw_at lw_m4 160 rfl) rfl
theorem q1042 : (Jvm.Cond.instanceMethod ({ cls := "PondHouse", name := "applied", desc := "(I)I" } : Jvm.MethodName)) ∈ lw_all := lw_g (lw_at lw_m4 162 rfl) rfl
theorem q1043 : (Jvm.Cond.selects "PondHouse" ({ cls := "PondHouse", name := "applied", desc := "(I)I" } : Jvm.MethodName) ({ cls := "PondHouse", name := "applied", desc := "(I)I" } : Jvm.MethodName)) ∈ lw_all := lw_g (lw_at lw_m4 163 rfl) rfl
theorem q1044 : (Jvm.Cond.code ({ cls := "PondHouse", name := "applied", desc := "(I)I" } : Jvm.MethodName) prog_1_method_48_code (2 : Nat) (Option.some Jvm.ClassFile.FieldType.int)) ∈ lw_all := lw_g (lw_at lw_m4 164 rfl) rfl
theorem q1046 : (Jvm.Cond.instanceMethod ({ cls := "PondHouse", name := "outcome", desc := "(I)I" } : Jvm.MethodName)) ∈ lw_all := lw_g (lw_at lw_m4 166 rfl) rfl
theorem q1047 : (Jvm.Cond.selects "PondHouse" ({ cls := "PondHouse", name := "outcome", desc := "(I)I" } : Jvm.MethodName) ({ cls := "PondHouse", name := "outcome", desc := "(I)I" } : Jvm.MethodName)) ∈ lw_all := lw_g (lw_at lw_m4 167 rfl) rfl
theorem q1048 : (Jvm.Cond.code ({ cls := "PondHouse", name := "outcome", desc := "(I)I" } : Jvm.MethodName) prog_1_method_49_code (2 : Nat) (Option.some Jvm.ClassFile.FieldType.int)) ∈ lw_all := lw_g (lw_at lw_m4 168 rfl) rfl
theorem q1050 : (Jvm.Cond.instanceMethod ({ cls := "PondHouse", name := "ran", desc := "(II)I" } : Jvm.MethodName)) ∈ lw_all := lw_g (lw_at lw_m4 170 rfl) rfl
theorem q1051 : (Jvm.Cond.selects "PondHouse" ({ cls := "PondHouse", name := "ran", desc := "(II)I" } : Jvm.MethodName) ({ cls := "PondHouse", name := "ran", desc := "(II)I" } : Jvm.MethodName)) ∈ lw_all := lw_g (lw_at lw_m4 171 rfl) rfl
theorem q1052 : (Jvm.Cond.code ({ cls := "PondHouse", name := "ran", desc := "(II)I" } : Jvm.MethodName) prog_1_method_50_code (3 : Nat) (Option.some Jvm.ClassFile.FieldType.int)) ∈ lw_all := lw_g (lw_at lw_m4 172 rfl) rfl
theorem q1055 : (Jvm.Cond.instanceMethod ({ cls := "PondHouse", name := "<init>", desc := "()V" } : Jvm.MethodName)) ∈ lw_all := lw_g (lw_at lw_m4 175 rfl) rfl
theorem q1056 : (Jvm.Cond.code ({ cls := "PondHouse", name := "<init>", desc := "()V" } : Jvm.MethodName) prog_1_method_51_code (2 : Nat) (Option.none : Option Jvm.ClassFile.FieldType)) ∈ lw_all := lw_g (lw_at lw_m4 176 rfl) rfl
theorem q1057 : (Jvm.Cond.methodLink "PondHouse" (491 : Nat) ({ cls := "java/lang/Object", name := "<init>", desc := "()V" } : Jvm.MethodName)) ∈ lw_all := lw_g (lw_at lw_m4 177 rfl) rfl
theorem q1058 : (Jvm.Cond.classLink "PondHouse" (2 : Nat) "java/lang/String") ∈ lw_all := lw_g (lw_at lw_m4 178 rfl) rfl
theorem q1060 : (Jvm.Cond.stringRef "PondHouse" (494 : Nat) "kind") ∈ lw_tbl := lw_at lw_m4 180 rfl
theorem q1061 : (Jvm.Cond.stringRef "PondHouse" (495 : Nat) "under") ∈ lw_tbl := lw_at lw_m4 181 rfl
theorem q1062 : (Jvm.Cond.stringRef "PondHouse" (497 : Nat) "field") ∈ lw_tbl := lw_at lw_m4 182 rfl
theorem q1063 : (Jvm.Cond.stringRef "PondHouse" (498 : Nat) "link") ∈ lw_tbl := lw_at lw_m4 183 rfl
theorem q1064 : (Jvm.Cond.stringRef "PondHouse" (500 : Nat) "static") ∈ lw_tbl := lw_at lw_m4 184 rfl
theorem q1065 : (Jvm.Cond.stringRef "PondHouse" (502 : Nat) "act") ∈ lw_tbl := lw_at lw_m4 185 rfl
theorem q1066 : (Jvm.Cond.stringRef "PondHouse" (504 : Nat) "give") ∈ lw_tbl := lw_at lw_m4 186 rfl
theorem q1067 : (Jvm.Cond.stringRef "PondHouse" (506 : Nat) "fail") ∈ lw_tbl := lw_at lw_m4 187 rfl
theorem q1068 : (Jvm.Cond.stringRef "PondHouse" (508 : Nat) "above") ∈ lw_tbl := lw_at lw_m4 188 rfl
theorem q1069 : (Jvm.Cond.stringRef "PondHouse" (509 : Nat) "do") ∈ lw_tbl := lw_at lw_m4 189 rfl
theorem q1070 : (Jvm.Cond.stringRef "PondHouse" (511 : Nat) "send") ∈ lw_tbl := lw_at lw_m4 190 rfl
theorem q1071 : (Jvm.Cond.stringRef "PondHouse" (513 : Nat) "rest") ∈ lw_tbl := lw_at lw_m4 191 rfl
theorem q1072 : (Jvm.Cond.stringRef "PondHouse" (515 : Nat) "if") ∈ lw_tbl := lw_at lw_m4 192 rfl
theorem q1073 : (Jvm.Cond.stringRef "PondHouse" (517 : Nat) "else") ∈ lw_tbl := lw_at lw_m4 193 rfl
theorem q1074 : (Jvm.Cond.stringRef "PondHouse" (519 : Nat) "v") ∈ lw_tbl := lw_at lw_m4 194 rfl
theorem q1075 : (Jvm.Cond.stringRef "PondHouse" (521 : Nat) "last") ∈ lw_tbl := lw_at lw_m4 195 rfl
theorem q1076 : (Jvm.Cond.stringRef "PondHouse" (523 : Nat) "change") ∈ lw_tbl := lw_at lw_m4 196 rfl
theorem q1077 : (Jvm.Cond.stringRef "PondHouse" (524 : Nat) "drop") ∈ lw_tbl := lw_at lw_m4 197 rfl
theorem q1078 : (Jvm.Cond.stringRef "PondHouse" (526 : Nat) "move") ∈ lw_tbl := lw_at lw_m4 198 rfl
theorem q1079 : (Jvm.Cond.stringRef "PondHouse" (528 : Nat) "rename") ∈ lw_tbl := lw_at lw_m4 199 rfl
theorem q1080 : (Jvm.Cond.stringRef "PondHouse" (530 : Nat) "carry") ∈ lw_tbl := lw_at lw_m4 200 rfl
theorem q1081 : (Jvm.Cond.stringRef "PondHouse" (532 : Nat) "check") ∈ lw_tbl := lw_at lw_m4 201 rfl
theorem q1082 : (Jvm.Cond.classLink "PondHouse" (48 : Nat) "PondHouse$Creature") ∈ lw_all := lw_g (lw_at lw_m4 202 rfl) rfl
theorem q1123 : (Jvm.Cond.methodLink "PondHouse" (537 : Nat) ({ cls := "PondHouse$Failure", name := "<init>", desc := "()V" } : Jvm.MethodName)) ∈ lw_all := lw_g (lw_at lw_m5 3 rfl) rfl
theorem q1132 : (Jvm.Cond.fieldLink "PondHouse" (55 : Nat) "PondHouse$Failure" "code" "I") ∈ lw_all := lw_g (lw_at lw_m5 12 rfl) rfl
theorem q1133 : (Jvm.Cond.fieldLink "PondHouse" (60 : Nat) "PondHouse$Failure" "isSpent" "Z") ∈ lw_all := lw_g (lw_at lw_m5 13 rfl) rfl
theorem q1152 : (Jvm.Cond.classLink "PondHouse" (142 : Nat) "PondHouse$Fault") ∈ lw_all := lw_g (lw_at lw_m5 32 rfl) rfl
theorem q1161 : (Jvm.Cond.methodLink "PondHouse" (545 : Nat) ({ cls := "PondHouse$Fault", name := "<init>", desc := "()V" } : Jvm.MethodName)) ∈ lw_all := lw_g (lw_at lw_m5 41 rfl) rfl
theorem q1165 : (Jvm.Cond.fieldLink "PondHouse" (141 : Nat) "PondHouse$Fault" "kind" "I") ∈ lw_all := lw_g (lw_at lw_m5 45 rfl) rfl
theorem q1166 : (Jvm.Cond.fieldLink "PondHouse" (144 : Nat) "PondHouse$Fault" "place" "I") ∈ lw_all := lw_g (lw_at lw_m5 46 rfl) rfl
theorem q1173 : (Jvm.Cond.classLink "PondHouse" (546 : Nat) "PondHouse$Reader") ∈ lw_all := lw_g (lw_at lw_m5 53 rfl) rfl
theorem q1175 : (Jvm.Cond.methodLinkNest "PondHouse" (548 : Nat) ({ cls := "PondHouse$Reader", name := "<init>", desc := "(LPondHouse;)V" } : Jvm.MethodName) "PondHouse") ∈ lw_tbl := lw_at lw_m5 55 rfl
theorem q1182 : (Jvm.Cond.fieldLinkNest "PondHouse" (570 : Nat) "PondHouse$Reader" "token" "I" "PondHouse") ∈ lw_tbl := lw_at lw_m5 62 rfl
theorem q1213 : (Jvm.Cond.methodLink "PondHouse" (555 : Nat) ({ cls := "PondHouse$Refusal", name := "<init>", desc := "()V" } : Jvm.MethodName)) ∈ lw_all := lw_g (lw_at lw_m5 93 rfl) rfl
theorem q1217 : (Jvm.Cond.fieldLink "PondHouse" (164 : Nat) "PondHouse$Refusal" "why" "I") ∈ lw_all := lw_g (lw_at lw_m5 97 rfl) rfl
theorem q1218 : (Jvm.Cond.fieldLink "PondHouse" (169 : Nat) "PondHouse$Refusal" "change" "I") ∈ lw_all := lw_g (lw_at lw_m5 98 rfl) rfl
theorem q1219 : (Jvm.Cond.fieldLink "PondHouse" (172 : Nat) "PondHouse$Refusal" "creature" "I") ∈ lw_all := lw_g (lw_at lw_m5 99 rfl) rfl
theorem q1228 : (Jvm.Cond.classLink "PondHouse" (225 : Nat) "PondHouse$Patch") ∈ lw_all := lw_g (lw_at lw_m5 108 rfl) rfl
theorem q1230 : (Jvm.Cond.classLink "PondHouse" (556 : Nat) "[[I") ∈ lw_all := lw_g (lw_at lw_m5 110 rfl) rfl
theorem q1232 : (Jvm.Cond.classLink "PondHouse" (557 : Nat) "[[Z") ∈ lw_all := lw_g (lw_at lw_m5 112 rfl) rfl
theorem q1234 : (Jvm.Cond.classLink "PondHouse" (558 : Nat) "[I") ∈ lw_all := lw_g (lw_at lw_m5 114 rfl) rfl
theorem q1236 : (Jvm.Cond.fieldLink "PondHouse" (13 : Nat) "PondHouse" "names" "[Ljava/lang/String;") ∈ lw_all := lw_g (lw_at lw_m5 116 rfl) rfl
theorem q1237 : (Jvm.Cond.fieldLink "PondHouse" (7 : Nat) "PondHouse" "named" "I") ∈ lw_all := lw_g (lw_at lw_m5 117 rfl) rfl
theorem q1239 : (Jvm.Cond.fieldLink "PondHouse" (534 : Nat) "PondHouse" "words" "[Ljava/lang/String;") ∈ lw_all := lw_g (lw_at lw_m5 119 rfl) rfl
theorem q1240 : (Jvm.Cond.fieldLink "PondHouse" (213 : Nat) "PondHouse" "kinds" "[LPondHouse$Kind;") ∈ lw_all := lw_g (lw_at lw_m5 120 rfl) rfl
theorem q1241 : (Jvm.Cond.fieldLink "PondHouse" (28 : Nat) "PondHouse" "fixed" "[LPondHouse$Fixed;") ∈ lw_all := lw_g (lw_at lw_m5 121 rfl) rfl
theorem q1242 : (Jvm.Cond.fieldLink "PondHouse" (43 : Nat) "PondHouse" "creatures" "[LPondHouse$Creature;") ∈ lw_all := lw_g (lw_at lw_m5 122 rfl) rfl
theorem q1243 : (Jvm.Cond.fieldLink "PondHouse" (40 : Nat) "PondHouse" "made" "I") ∈ lw_all := lw_g (lw_at lw_m5 123 rfl) rfl
theorem q1244 : (Jvm.Cond.fieldLink "PondHouse" (102 : Nat) "PondHouse" "frames" "[LPondHouse$Frame;") ∈ lw_all := lw_g (lw_at lw_m5 124 rfl) rfl
theorem q1246 : (Jvm.Cond.fieldLink "PondHouse" (330 : Nat) "PondHouse" "asked" "LPondHouse$Frame;") ∈ lw_all := lw_g (lw_at lw_m5 126 rfl) rfl
theorem q1247 : (Jvm.Cond.fieldLink "PondHouse" (51 : Nat) "PondHouse" "failure" "LPondHouse$Failure;") ∈ lw_all := lw_g (lw_at lw_m5 127 rfl) rfl
theorem q1248 : (Jvm.Cond.fieldLink "PondHouse" (64 : Nat) "PondHouse" "fuel" "I") ∈ lw_all := lw_g (lw_at lw_m5 128 rfl) rfl
theorem q1249 : (Jvm.Cond.fieldLink "PondHouse" (87 : Nat) "PondHouse" "calls" "I") ∈ lw_all := lw_g (lw_at lw_m5 129 rfl) rfl
theorem q1250 : (Jvm.Cond.fieldLink "PondHouse" (67 : Nat) "PondHouse" "inBeat" "Z") ∈ lw_all := lw_g (lw_at lw_m5 130 rfl) rfl
theorem q1251 : (Jvm.Cond.fieldLink "PondHouse" (73 : Nat) "PondHouse" "ran" "[I") ∈ lw_all := lw_g (lw_at lw_m5 131 rfl) rfl
theorem q1252 : (Jvm.Cond.fieldLink "PondHouse" (70 : Nat) "PondHouse" "rans" "I") ∈ lw_all := lw_g (lw_at lw_m5 132 rfl) rfl
theorem q1253 : (Jvm.Cond.fieldLink "PondHouse" (125 : Nat) "PondHouse" "gave" "I") ∈ lw_all := lw_g (lw_at lw_m5 133 rfl) rfl
theorem q1254 : (Jvm.Cond.fieldLink "PondHouse" (126 : Nat) "PondHouse" "code" "I") ∈ lw_all := lw_g (lw_at lw_m5 134 rfl) rfl
theorem q1256 : (Jvm.Cond.fieldLink "PondHouse" (538 : Nat) "PondHouse" "tape" "[B") ∈ lw_all := lw_g (lw_at lw_m5 136 rfl) rfl
theorem q1258 : (Jvm.Cond.fieldLink "PondHouse" (559 : Nat) "PondHouse" "taped" "I") ∈ lw_all := lw_g (lw_at lw_m5 138 rfl) rfl
theorem q1259 : (Jvm.Cond.fieldLink "PondHouse" (573 : Nat) "PondHouse" "faultKind" "I") ∈ lw_all := lw_g (lw_at lw_m5 139 rfl) rfl
theorem q1260 : (Jvm.Cond.fieldLink "PondHouse" (542 : Nat) "PondHouse" "faultPlace" "I") ∈ lw_all := lw_g (lw_at lw_m5 140 rfl) rfl
theorem q1261 : (Jvm.Cond.fieldLink "PondHouse" (137 : Nat) "PondHouse" "refusedText" "LPondHouse$Fault;") ∈ lw_all := lw_g (lw_at lw_m5 141 rfl) rfl
theorem q1262 : (Jvm.Cond.fieldLink "PondHouse" (551 : Nat) "PondHouse" "reader" "LPondHouse$Reader;") ∈ lw_all := lw_g (lw_at lw_m5 142 rfl) rfl
theorem q1263 : (Jvm.Cond.fieldLink "PondHouse" (160 : Nat) "PondHouse" "refusal" "LPondHouse$Refusal;") ∈ lw_all := lw_g (lw_at lw_m5 143 rfl) rfl
theorem q1264 : (Jvm.Cond.fieldLink "PondHouse" (487 : Nat) "PondHouse" "patches" "[LPondHouse$Patch;") ∈ lw_all := lw_g (lw_at lw_m5 144 rfl) rfl
theorem q1265 : (Jvm.Cond.fieldLink "PondHouse" (484 : Nat) "PondHouse" "patched" "I") ∈ lw_all := lw_g (lw_at lw_m5 145 rfl) rfl
theorem q1266 : (Jvm.Cond.fieldLink "PondHouse" (236 : Nat) "PondHouse" "greatest" "I") ∈ lw_all := lw_g (lw_at lw_m5 146 rfl) rfl
theorem q1267 : (Jvm.Cond.fieldLink "PondHouse" (384 : Nat) "PondHouse" "waiting" "LPondHouse$Patch;") ∈ lw_all := lw_g (lw_at lw_m5 147 rfl) rfl
theorem q1268 : (Jvm.Cond.fieldLink "PondHouse" (343 : Nat) "PondHouse" "wasLost" "[[I") ∈ lw_all := lw_g (lw_at lw_m5 148 rfl) rfl
theorem q1269 : (Jvm.Cond.fieldLink "PondHouse" (356 : Nat) "PondHouse" "hadLost" "[[Z") ∈ lw_all := lw_g (lw_at lw_m5 149 rfl) rfl
theorem q1270 : (Jvm.Cond.fieldLink "PondHouse" (302 : Nat) "PondHouse" "kindOf" "[LPondHouse$Kind;") ∈ lw_all := lw_g (lw_at lw_m5 150 rfl) rfl
theorem q1271 : (Jvm.Cond.fieldLink "PondHouse" (305 : Nat) "PondHouse" "valuesOf" "[[I") ∈ lw_all := lw_g (lw_at lw_m5 151 rfl) rfl
theorem q1272 : (Jvm.Cond.fieldLink "PondHouse" (266 : Nat) "PondHouse" "formerKinds" "[LPondHouse$Kind;") ∈ lw_all := lw_g (lw_at lw_m5 152 rfl) rfl
theorem q1273 : (Jvm.Cond.fieldLink "PondHouse" (269 : Nat) "PondHouse" "formerFixed" "[LPondHouse$Fixed;") ∈ lw_all := lw_g (lw_at lw_m5 153 rfl) rfl
theorem q1274 : (Jvm.Cond.fieldLink "PondHouse" (272 : Nat) "PondHouse" "latest" "LPondHouse$Patch;") ∈ lw_all := lw_g (lw_at lw_m5 154 rfl) rfl
theorem q1275 : (Jvm.Cond.fieldLink "PondHouse" (397 : Nat) "PondHouse" "acts" "[LPondHouse$LongAct;") ∈ lw_all := lw_g (lw_at lw_m5 155 rfl) rfl
theorem q1276 : (Jvm.Cond.fieldLink "PondHouse" (445 : Nat) "PondHouse" "beats" "I") ∈ lw_all := lw_g (lw_at lw_m5 156 rfl) rfl
theorem q1277 : (Jvm.Cond.fieldLink "PondHouse" (442 : Nat) "PondHouse" "wakes" "I") ∈ lw_all := lw_g (lw_at lw_m5 157 rfl) rfl
theorem q1278 : (Jvm.Cond.fieldLink "PondHouse" (448 : Nat) "PondHouse" "outcomes" "[I") ∈ lw_all := lw_g (lw_at lw_m5 158 rfl) rfl
theorem q1279 : (Jvm.Cond.fieldLink "PondHouse" (477 : Nat) "PondHouse" "why" "I") ∈ lw_all := lw_g (lw_at lw_m5 159 rfl) rfl
theorem q1280 : (Jvm.Cond.fieldLink "PondHouse" (478 : Nat) "PondHouse" "whyChange" "I") ∈ lw_all := lw_g (lw_at lw_m5 160 rfl) rfl
theorem q1281 : (Jvm.Cond.fieldLink "PondHouse" (481 : Nat) "PondHouse" "whyCreature" "I") ∈ lw_all := lw_g (lw_at lw_m5 161 rfl) rfl
theorem q1282 : (Jvm.Cond.fieldLink "PondHouse" (609 : Nat) "PondHouse" "toldGave" "I") ∈ lw_all := lw_g (lw_at lw_m5 162 rfl) rfl
theorem q1283 : (Jvm.Cond.fieldLink "PondHouse" (612 : Nat) "PondHouse" "toldCode" "I") ∈ lw_all := lw_g (lw_at lw_m5 163 rfl) rfl
theorem q1284 : (Jvm.Cond.fieldLink "PondHouse" (615 : Nat) "PondHouse" "toldSteps" "I") ∈ lw_all := lw_g (lw_at lw_m5 164 rfl) rfl
theorem q1285 : (Jvm.Cond.laysFinal "PondHouse" "PondHouse" "names" "[Ljava/lang/String;") ∈ lw_all := lw_g (lw_at lw_m5 165 rfl) rfl
theorem q1286 : (Jvm.Cond.soleField "PondHouse" "names") ∈ lw_all := lw_g (lw_at lw_m5 166 rfl) rfl
theorem q1287 : (Jvm.Cond.lays "PondHouse" "PondHouse" "named" "I") ∈ lw_all := lw_g (lw_at lw_m5 167 rfl) rfl
theorem q1288 : (Jvm.Cond.soleField "PondHouse" "named") ∈ lw_all := lw_g (lw_at lw_m5 168 rfl) rfl
theorem q1289 : (Jvm.Cond.laysFinal "PondHouse" "PondHouse" "words" "[Ljava/lang/String;") ∈ lw_all := lw_g (lw_at lw_m5 169 rfl) rfl
theorem q1290 : (Jvm.Cond.soleField "PondHouse" "words") ∈ lw_all := lw_g (lw_at lw_m5 170 rfl) rfl
theorem q1291 : (Jvm.Cond.lays "PondHouse" "PondHouse" "kinds" "[LPondHouse$Kind;") ∈ lw_all := lw_g (lw_at lw_m5 171 rfl) rfl
theorem q1292 : (Jvm.Cond.soleField "PondHouse" "kinds") ∈ lw_all := lw_g (lw_at lw_m5 172 rfl) rfl
theorem q1293 : (Jvm.Cond.lays "PondHouse" "PondHouse" "fixed" "[LPondHouse$Fixed;") ∈ lw_all := lw_g (lw_at lw_m5 173 rfl) rfl
theorem q1294 : (Jvm.Cond.soleField "PondHouse" "fixed") ∈ lw_all := lw_g (lw_at lw_m5 174 rfl) rfl
theorem q1295 : (Jvm.Cond.laysFinal "PondHouse" "PondHouse" "creatures" "[LPondHouse$Creature;") ∈ lw_all := lw_g (lw_at lw_m5 175 rfl) rfl
theorem q1296 : (Jvm.Cond.soleField "PondHouse" "creatures") ∈ lw_all := lw_g (lw_at lw_m5 176 rfl) rfl
theorem q1297 : (Jvm.Cond.lays "PondHouse" "PondHouse" "made" "I") ∈ lw_all := lw_g (lw_at lw_m5 177 rfl) rfl
theorem q1298 : (Jvm.Cond.soleField "PondHouse" "made") ∈ lw_all := lw_g (lw_at lw_m5 178 rfl) rfl
theorem q1299 : (Jvm.Cond.laysFinal "PondHouse" "PondHouse" "frames" "[LPondHouse$Frame;") ∈ lw_all := lw_g (lw_at lw_m5 179 rfl) rfl
theorem q1300 : (Jvm.Cond.soleField "PondHouse" "frames") ∈ lw_all := lw_g (lw_at lw_m5 180 rfl) rfl
theorem q1301 : (Jvm.Cond.laysFinal "PondHouse" "PondHouse" "asked" "LPondHouse$Frame;") ∈ lw_all := lw_g (lw_at lw_m5 181 rfl) rfl
theorem q1302 : (Jvm.Cond.soleField "PondHouse" "asked") ∈ lw_all := lw_g (lw_at lw_m5 182 rfl) rfl
theorem q1303 : (Jvm.Cond.laysFinal "PondHouse" "PondHouse" "failure" "LPondHouse$Failure;") ∈ lw_all := lw_g (lw_at lw_m5 183 rfl) rfl
theorem q1304 : (Jvm.Cond.soleField "PondHouse" "failure") ∈ lw_all := lw_g (lw_at lw_m5 184 rfl) rfl
theorem q1305 : (Jvm.Cond.lays "PondHouse" "PondHouse" "fuel" "I") ∈ lw_all := lw_g (lw_at lw_m5 185 rfl) rfl
theorem q1306 : (Jvm.Cond.soleField "PondHouse" "fuel") ∈ lw_all := lw_g (lw_at lw_m5 186 rfl) rfl
theorem q1307 : (Jvm.Cond.lays "PondHouse" "PondHouse" "calls" "I") ∈ lw_all := lw_g (lw_at lw_m5 187 rfl) rfl
theorem q1308 : (Jvm.Cond.soleField "PondHouse" "calls") ∈ lw_all := lw_g (lw_at lw_m5 188 rfl) rfl
theorem q1309 : (Jvm.Cond.lays "PondHouse" "PondHouse" "inBeat" "Z") ∈ lw_all := lw_g (lw_at lw_m5 189 rfl) rfl
theorem q1310 : (Jvm.Cond.soleField "PondHouse" "inBeat") ∈ lw_all := lw_g (lw_at lw_m5 190 rfl) rfl
theorem q1311 : (Jvm.Cond.laysFinal "PondHouse" "PondHouse" "ran" "[I") ∈ lw_all := lw_g (lw_at lw_m5 191 rfl) rfl
theorem q1312 : (Jvm.Cond.soleField "PondHouse" "ran") ∈ lw_all := lw_g (lw_at lw_m5 192 rfl) rfl
theorem q1313 : (Jvm.Cond.lays "PondHouse" "PondHouse" "rans" "I") ∈ lw_all := lw_g (lw_at lw_m5 193 rfl) rfl
theorem q1314 : (Jvm.Cond.soleField "PondHouse" "rans") ∈ lw_all := lw_g (lw_at lw_m5 194 rfl) rfl
theorem q1315 : (Jvm.Cond.lays "PondHouse" "PondHouse" "gave" "I") ∈ lw_all := lw_g (lw_at lw_m5 195 rfl) rfl
theorem q1316 : (Jvm.Cond.soleField "PondHouse" "gave") ∈ lw_all := lw_g (lw_at lw_m5 196 rfl) rfl
theorem q1317 : (Jvm.Cond.lays "PondHouse" "PondHouse" "code" "I") ∈ lw_all := lw_g (lw_at lw_m5 197 rfl) rfl
theorem q1318 : (Jvm.Cond.soleField "PondHouse" "code") ∈ lw_all := lw_g (lw_at lw_m5 198 rfl) rfl
theorem q1319 : (Jvm.Cond.laysFinal "PondHouse" "PondHouse" "tape" "[B") ∈ lw_all := lw_g (lw_at lw_m5 199 rfl) rfl
theorem q1320 : (Jvm.Cond.soleField "PondHouse" "tape") ∈ lw_all := lw_g (lw_at lw_m5 200 rfl) rfl
theorem q1321 : (Jvm.Cond.lays "PondHouse" "PondHouse" "taped" "I") ∈ lw_all := lw_g (lw_at lw_m5 201 rfl) rfl
theorem q1322 : (Jvm.Cond.soleField "PondHouse" "taped") ∈ lw_all := lw_g (lw_at lw_m5 202 rfl) rfl
theorem q1323 : (Jvm.Cond.lays "PondHouse" "PondHouse" "faultKind" "I") ∈ lw_all := lw_g (lw_at lw_m5 203 rfl) rfl
theorem q1324 : (Jvm.Cond.soleField "PondHouse" "faultKind") ∈ lw_all := lw_g (lw_at lw_m5 204 rfl) rfl
theorem q1325 : (Jvm.Cond.lays "PondHouse" "PondHouse" "faultPlace" "I") ∈ lw_all := lw_g (lw_at lw_m5 205 rfl) rfl
theorem q1326 : (Jvm.Cond.soleField "PondHouse" "faultPlace") ∈ lw_all := lw_g (lw_at lw_m5 206 rfl) rfl
theorem q1327 : (Jvm.Cond.laysFinal "PondHouse" "PondHouse" "refusedText" "LPondHouse$Fault;") ∈ lw_all := lw_g (lw_at lw_m5 207 rfl) rfl
theorem q1328 : (Jvm.Cond.soleField "PondHouse" "refusedText") ∈ lw_all := lw_g (lw_at lw_m5 208 rfl) rfl
theorem q1329 : (Jvm.Cond.laysFinal "PondHouse" "PondHouse" "reader" "LPondHouse$Reader;") ∈ lw_all := lw_g (lw_at lw_m5 209 rfl) rfl
theorem q1330 : (Jvm.Cond.soleField "PondHouse" "reader") ∈ lw_all := lw_g (lw_at lw_m5 210 rfl) rfl
theorem q1331 : (Jvm.Cond.laysFinal "PondHouse" "PondHouse" "refusal" "LPondHouse$Refusal;") ∈ lw_all := lw_g (lw_at lw_m5 211 rfl) rfl
theorem q1332 : (Jvm.Cond.soleField "PondHouse" "refusal") ∈ lw_all := lw_g (lw_at lw_m5 212 rfl) rfl
theorem q1333 : (Jvm.Cond.laysFinal "PondHouse" "PondHouse" "patches" "[LPondHouse$Patch;") ∈ lw_all := lw_g (lw_at lw_m5 213 rfl) rfl
theorem q1334 : (Jvm.Cond.soleField "PondHouse" "patches") ∈ lw_all := lw_g (lw_at lw_m5 214 rfl) rfl
theorem q1335 : (Jvm.Cond.lays "PondHouse" "PondHouse" "patched" "I") ∈ lw_all := lw_g (lw_at lw_m5 215 rfl) rfl
theorem q1336 : (Jvm.Cond.soleField "PondHouse" "patched") ∈ lw_all := lw_g (lw_at lw_m5 216 rfl) rfl
theorem q1337 : (Jvm.Cond.lays "PondHouse" "PondHouse" "greatest" "I") ∈ lw_all := lw_g (lw_at lw_m5 217 rfl) rfl
theorem q1338 : (Jvm.Cond.soleField "PondHouse" "greatest") ∈ lw_all := lw_g (lw_at lw_m5 218 rfl) rfl
theorem q1339 : (Jvm.Cond.lays "PondHouse" "PondHouse" "waiting" "LPondHouse$Patch;") ∈ lw_all := lw_g (lw_at lw_m5 219 rfl) rfl
theorem q1340 : (Jvm.Cond.soleField "PondHouse" "waiting") ∈ lw_all := lw_g (lw_at lw_m5 220 rfl) rfl
theorem q1341 : (Jvm.Cond.laysFinal "PondHouse" "PondHouse" "wasLost" "[[I") ∈ lw_all := lw_g (lw_at lw_m5 221 rfl) rfl
theorem q1342 : (Jvm.Cond.soleField "PondHouse" "wasLost") ∈ lw_all := lw_g (lw_at lw_m5 222 rfl) rfl
theorem q1343 : (Jvm.Cond.laysFinal "PondHouse" "PondHouse" "hadLost" "[[Z") ∈ lw_all := lw_g (lw_at lw_m5 223 rfl) rfl
theorem q1344 : (Jvm.Cond.soleField "PondHouse" "hadLost") ∈ lw_all := lw_g (lw_at lw_m5 224 rfl) rfl
theorem q1345 : (Jvm.Cond.laysFinal "PondHouse" "PondHouse" "kindOf" "[LPondHouse$Kind;") ∈ lw_all := lw_g (lw_at lw_m5 225 rfl) rfl
theorem q1346 : (Jvm.Cond.soleField "PondHouse" "kindOf") ∈ lw_all := lw_g (lw_at lw_m5 226 rfl) rfl
theorem q1347 : (Jvm.Cond.laysFinal "PondHouse" "PondHouse" "valuesOf" "[[I") ∈ lw_all := lw_g (lw_at lw_m5 227 rfl) rfl
theorem q1348 : (Jvm.Cond.soleField "PondHouse" "valuesOf") ∈ lw_all := lw_g (lw_at lw_m5 228 rfl) rfl
theorem q1349 : (Jvm.Cond.lays "PondHouse" "PondHouse" "formerKinds" "[LPondHouse$Kind;") ∈ lw_all := lw_g (lw_at lw_m5 229 rfl) rfl
theorem q1350 : (Jvm.Cond.soleField "PondHouse" "formerKinds") ∈ lw_all := lw_g (lw_at lw_m5 230 rfl) rfl
theorem q1351 : (Jvm.Cond.lays "PondHouse" "PondHouse" "formerFixed" "[LPondHouse$Fixed;") ∈ lw_all := lw_g (lw_at lw_m5 231 rfl) rfl
theorem q1352 : (Jvm.Cond.soleField "PondHouse" "formerFixed") ∈ lw_all := lw_g (lw_at lw_m5 232 rfl) rfl
theorem q1353 : (Jvm.Cond.lays "PondHouse" "PondHouse" "latest" "LPondHouse$Patch;") ∈ lw_all := lw_g (lw_at lw_m5 233 rfl) rfl
theorem q1354 : (Jvm.Cond.soleField "PondHouse" "latest") ∈ lw_all := lw_g (lw_at lw_m5 234 rfl) rfl
theorem q1355 : (Jvm.Cond.laysFinal "PondHouse" "PondHouse" "acts" "[LPondHouse$LongAct;") ∈ lw_all := lw_g (lw_at lw_m5 235 rfl) rfl
theorem q1356 : (Jvm.Cond.soleField "PondHouse" "acts") ∈ lw_all := lw_g (lw_at lw_m5 236 rfl) rfl
theorem q1357 : (Jvm.Cond.lays "PondHouse" "PondHouse" "beats" "I") ∈ lw_all := lw_g (lw_at lw_m5 237 rfl) rfl
theorem q1358 : (Jvm.Cond.soleField "PondHouse" "beats") ∈ lw_all := lw_g (lw_at lw_m5 238 rfl) rfl
theorem q1359 : (Jvm.Cond.lays "PondHouse" "PondHouse" "wakes" "I") ∈ lw_all := lw_g (lw_at lw_m5 239 rfl) rfl
theorem q1360 : (Jvm.Cond.soleField "PondHouse" "wakes") ∈ lw_all := lw_g (lw_at lw_m6 0 rfl) rfl
theorem q1361 : (Jvm.Cond.laysFinal "PondHouse" "PondHouse" "outcomes" "[I") ∈ lw_all := lw_g (lw_at lw_m6 1 rfl) rfl
theorem q1362 : (Jvm.Cond.soleField "PondHouse" "outcomes") ∈ lw_all := lw_g (lw_at lw_m6 2 rfl) rfl
theorem q1363 : (Jvm.Cond.lays "PondHouse" "PondHouse" "why" "I") ∈ lw_all := lw_g (lw_at lw_m6 3 rfl) rfl
theorem q1364 : (Jvm.Cond.soleField "PondHouse" "why") ∈ lw_all := lw_g (lw_at lw_m6 4 rfl) rfl
theorem q1365 : (Jvm.Cond.lays "PondHouse" "PondHouse" "whyChange" "I") ∈ lw_all := lw_g (lw_at lw_m6 5 rfl) rfl
theorem q1366 : (Jvm.Cond.soleField "PondHouse" "whyChange") ∈ lw_all := lw_g (lw_at lw_m6 6 rfl) rfl
theorem q1367 : (Jvm.Cond.lays "PondHouse" "PondHouse" "whyCreature" "I") ∈ lw_all := lw_g (lw_at lw_m6 7 rfl) rfl
theorem q1368 : (Jvm.Cond.soleField "PondHouse" "whyCreature") ∈ lw_all := lw_g (lw_at lw_m6 8 rfl) rfl
theorem q1369 : (Jvm.Cond.lays "PondHouse" "PondHouse" "toldGave" "I") ∈ lw_all := lw_g (lw_at lw_m6 9 rfl) rfl
theorem q1370 : (Jvm.Cond.soleField "PondHouse" "toldGave") ∈ lw_all := lw_g (lw_at lw_m6 10 rfl) rfl
theorem q1371 : (Jvm.Cond.lays "PondHouse" "PondHouse" "toldCode" "I") ∈ lw_all := lw_g (lw_at lw_m6 11 rfl) rfl
theorem q1372 : (Jvm.Cond.soleField "PondHouse" "toldCode") ∈ lw_all := lw_g (lw_at lw_m6 12 rfl) rfl
theorem q1373 : (Jvm.Cond.lays "PondHouse" "PondHouse" "toldSteps" "I") ∈ lw_all := lw_g (lw_at lw_m6 13 rfl) rfl
theorem q1374 : (Jvm.Cond.soleField "PondHouse" "toldSteps") ∈ lw_all := lw_g (lw_at lw_m6 14 rfl) rfl
theorem q1375 : (Jvm.Cond.superclass "PondHouse" "java/lang/Object") ∈ lw_all := lw_g (lw_at lw_m6 15 rfl) rfl
theorem q1377 : (Jvm.Cond.instanceMethod ({ cls := "PondHouse", name := "feed", desc := "(IIIII)I" } : Jvm.MethodName)) ∈ lw_all := lw_g (lw_at lw_m6 17 rfl) rfl
theorem q1378 : (Jvm.Cond.selects "PondHouse" ({ cls := "PondHouse", name := "feed", desc := "(IIIII)I" } : Jvm.MethodName) ({ cls := "PondHouse", name := "feed", desc := "(IIIII)I" } : Jvm.MethodName)) ∈ lw_all := lw_g (lw_at lw_m6 18 rfl) rfl
theorem q1379 : (Jvm.Cond.code ({ cls := "PondHouse", name := "feed", desc := "(IIIII)I" } : Jvm.MethodName) prog_1_method_53_code (6 : Nat) (Option.some Jvm.ClassFile.FieldType.int)) ∈ lw_all := lw_g (lw_at lw_m6 19 rfl) rfl
theorem q1380 : (Jvm.Cond.methodLink "PondHouse" (562 : Nat) ({ cls := "PondHouse", name := "puts", desc := "(I)V" } : Jvm.MethodName)) ∈ lw_all := lw_g (lw_at lw_m6 20 rfl) rfl
theorem q1381 : (Jvm.Cond.privateMethod ({ cls := "PondHouse", name := "puts", desc := "(I)V" } : Jvm.MethodName)) ∈ lw_tbl := lw_at lw_m6 21 rfl
theorem q1382 : (Jvm.Cond.instanceMethod ({ cls := "PondHouse", name := "puts", desc := "(I)V" } : Jvm.MethodName)) ∈ lw_all := lw_g (lw_at lw_m6 22 rfl) rfl
theorem q1383 : (Jvm.Cond.code ({ cls := "PondHouse", name := "puts", desc := "(I)V" } : Jvm.MethodName) prog_1_method_52_code (3 : Nat) (Option.none : Option Jvm.ClassFile.FieldType)) ∈ lw_all := lw_g (lw_at lw_m6 23 rfl) rfl
theorem q1385 : (Jvm.Cond.instanceMethod ({ cls := "PondHouse", name := "end", desc := "(I)Z" } : Jvm.MethodName)) ∈ lw_all := lw_g (lw_at lw_m6 25 rfl) rfl
theorem q1386 : (Jvm.Cond.selects "PondHouse" ({ cls := "PondHouse", name := "end", desc := "(I)Z" } : Jvm.MethodName) ({ cls := "PondHouse", name := "end", desc := "(I)Z" } : Jvm.MethodName)) ∈ lw_all := lw_g (lw_at lw_m6 26 rfl) rfl
theorem q1387 : (Jvm.Cond.code ({ cls := "PondHouse", name := "end", desc := "(I)Z" } : Jvm.MethodName) prog_1_method_54_code (2 : Nat) (Option.some Jvm.ClassFile.FieldType.boolean)) ∈ lw_all := lw_g (lw_at lw_m6 27 rfl) rfl
theorem q1389 : (Jvm.Cond.instanceMethod ({ cls := "PondHouse", name := "word", desc := "()I" } : Jvm.MethodName)) ∈ lw_all := lw_g (lw_at lw_m6 29 rfl) rfl
theorem q1390 : (Jvm.Cond.selects "PondHouse" ({ cls := "PondHouse", name := "word", desc := "()I" } : Jvm.MethodName) ({ cls := "PondHouse", name := "word", desc := "()I" } : Jvm.MethodName)) ∈ lw_all := lw_g (lw_at lw_m6 30 rfl) rfl
theorem q1391 : (Jvm.Cond.codeWith ({ cls := "PondHouse", name := "word", desc := "()I" } : Jvm.MethodName) prog_1_method_55_code (4 : Nat) (Option.some Jvm.ClassFile.FieldType.int) [((0 : Nat), (31 : Nat), (38 : Nat), (142 : Nat)), ((0 : Nat), (31 : Nat), (48 : Nat), (0 : Nat)), ((38 : Nat), (41 : Nat), (48 : Nat), (0 : Nat))]) ∈ lw_all := lw_g (lw_at lw_m6 31 rfl) rfl
theorem q1392 : (Jvm.Cond.methodLink "PondHouse" (566 : Nat) ({ cls := "PondHouse$Reader", name := "begins", desc := "()V" } : Jvm.MethodName)) ∈ lw_all := lw_g (lw_at lw_m6 32 rfl) rfl
theorem q1581 : (Jvm.Cond.static ({ cls := "PondHouse", name := "isAmong", desc := "([Ljava/lang/String;Ljava/lang/String;)Z" } : Jvm.MethodName)) ∈ lw_all := lw_g (lw_at lw_m6 221 rfl) rfl
theorem q1582 : (Jvm.Cond.code ({ cls := "PondHouse", name := "isAmong", desc := "([Ljava/lang/String;Ljava/lang/String;)Z" } : Jvm.MethodName) prog_1_method_1_code (6 : Nat) (Option.some Jvm.ClassFile.FieldType.boolean)) ∈ lw_all := lw_g (lw_at lw_m6 222 rfl) rfl
theorem q1583 : (Jvm.Cond.methodLink "PondHouse" (1 : Nat) ({ cls := "java/lang/String", name := "equals", desc := "(Ljava/lang/Object;)Z" } : Jvm.MethodName)) ∈ lw_all := lw_g (lw_at lw_m6 223 rfl) rfl
theorem q1674 : (Jvm.Cond.methodLinkNest "PondHouse" (567 : Nat) ({ cls := "PondHouse$Reader", name := "takesName", desc := "()I" } : Jvm.MethodName) "PondHouse") ∈ lw_tbl := lw_at lw_m7 74 rfl
theorem q1687 : (Jvm.Cond.privateMethod ({ cls := "PondHouse", name := "refused", desc := "(II)LPondHouse$Fault;" } : Jvm.MethodName)) ∈ lw_tbl := lw_at lw_m7 87 rfl
theorem q1688 : (Jvm.Cond.instanceMethod ({ cls := "PondHouse", name := "refused", desc := "(II)LPondHouse$Fault;" } : Jvm.MethodName)) ∈ lw_all := lw_g (lw_at lw_m7 88 rfl) rfl
theorem q1689 : (Jvm.Cond.code ({ cls := "PondHouse", name := "refused", desc := "(II)LPondHouse$Fault;" } : Jvm.MethodName) prog_1_method_15_code (3 : Nat) (Option.some (Jvm.ClassFile.FieldType.object "PondHouse$Fault"))) ∈ lw_all := lw_g (lw_at lw_m7 89 rfl) rfl
theorem q1691 : (Jvm.Cond.privateMethod ({ cls := "PondHouse", name := "number", desc := "(Ljava/lang/String;)I" } : Jvm.MethodName)) ∈ lw_tbl := lw_at lw_m7 91 rfl
theorem q1692 : (Jvm.Cond.instanceMethod ({ cls := "PondHouse", name := "number", desc := "(Ljava/lang/String;)I" } : Jvm.MethodName)) ∈ lw_all := lw_g (lw_at lw_m7 92 rfl) rfl
theorem q1693 : (Jvm.Cond.code ({ cls := "PondHouse", name := "number", desc := "(Ljava/lang/String;)I" } : Jvm.MethodName) prog_1_method_2_code (3 : Nat) (Option.some Jvm.ClassFile.FieldType.int)) ∈ lw_all := lw_g (lw_at lw_m7 93 rfl) rfl
theorem q1695 : (Jvm.Cond.instanceMethod ({ cls := "PondHouse", name := "pond", desc := "()I" } : Jvm.MethodName)) ∈ lw_all := lw_g (lw_at lw_m7 95 rfl) rfl
theorem q1696 : (Jvm.Cond.selects "PondHouse" ({ cls := "PondHouse", name := "pond", desc := "()I" } : Jvm.MethodName) ({ cls := "PondHouse", name := "pond", desc := "()I" } : Jvm.MethodName)) ∈ lw_all := lw_g (lw_at lw_m7 96 rfl) rfl
theorem q1697 : (Jvm.Cond.codeWith ({ cls := "PondHouse", name := "pond", desc := "()I" } : Jvm.MethodName) prog_1_method_58_code (4 : Nat) (Option.some Jvm.ClassFile.FieldType.int) [((0 : Nat), (113 : Nat), (120 : Nat), (142 : Nat)), ((0 : Nat), (113 : Nat), (134 : Nat), (0 : Nat)), ((120 : Nat), (127 : Nat), (134 : Nat), (0 : Nat))]) ∈ lw_all := lw_g (lw_at lw_m7 97 rfl) rfl
theorem q1698 : (Jvm.Cond.methodLinkNest "PondHouse" (576 : Nat) ({ cls := "PondHouse$Reader", name := "pond", desc := "()LPondHouse$Row;" } : Jvm.MethodName) "PondHouse") ∈ lw_tbl := lw_at lw_m7 98 rfl
theorem q2048 : (Jvm.Cond.methodLink "PondHouse" (580 : Nat) ({ cls := "PondHouse", name := "fine", desc := "()V" } : Jvm.MethodName)) ∈ lw_all := lw_g (lw_at lw_m8 208 rfl) rfl
theorem q2049 : (Jvm.Cond.privateMethod ({ cls := "PondHouse", name := "fine", desc := "()V" } : Jvm.MethodName)) ∈ lw_tbl := lw_at lw_m8 209 rfl
theorem q2050 : (Jvm.Cond.instanceMethod ({ cls := "PondHouse", name := "fine", desc := "()V" } : Jvm.MethodName)) ∈ lw_all := lw_g (lw_at lw_m8 210 rfl) rfl
theorem q2051 : (Jvm.Cond.code ({ cls := "PondHouse", name := "fine", desc := "()V" } : Jvm.MethodName) prog_1_method_56_code (1 : Nat) (Option.none : Option Jvm.ClassFile.FieldType)) ∈ lw_all := lw_g (lw_at lw_m8 211 rfl) rfl
theorem q2052 : (Jvm.Cond.methodLink "PondHouse" (583 : Nat) ({ cls := "java/util/Arrays", name := "fill", desc := "([Ljava/lang/Object;Ljava/lang/Object;)V" } : Jvm.MethodName)) ∈ lw_all := lw_g (lw_at lw_m8 212 rfl) rfl
theorem q2055 : (Jvm.Cond.methodLink "PondHouse" (586 : Nat) ({ cls := "PondHouse", name := "faulty", desc := "(LPondHouse$Fault;)I" } : Jvm.MethodName)) ∈ lw_all := lw_g (lw_at lw_m8 215 rfl) rfl
theorem q2056 : (Jvm.Cond.privateMethod ({ cls := "PondHouse", name := "faulty", desc := "(LPondHouse$Fault;)I" } : Jvm.MethodName)) ∈ lw_tbl := lw_at lw_m8 216 rfl
theorem q2057 : (Jvm.Cond.instanceMethod ({ cls := "PondHouse", name := "faulty", desc := "(LPondHouse$Fault;)I" } : Jvm.MethodName)) ∈ lw_all := lw_g (lw_at lw_m8 217 rfl) rfl
theorem q2058 : (Jvm.Cond.code ({ cls := "PondHouse", name := "faulty", desc := "(LPondHouse$Fault;)I" } : Jvm.MethodName) prog_1_method_57_code (2 : Nat) (Option.some Jvm.ClassFile.FieldType.int)) ∈ lw_all := lw_g (lw_at lw_m8 218 rfl) rfl
theorem q2060 : (Jvm.Cond.instanceMethod ({ cls := "PondHouse", name := "patch", desc := "()I" } : Jvm.MethodName)) ∈ lw_all := lw_g (lw_at lw_m8 220 rfl) rfl
theorem q2061 : (Jvm.Cond.selects "PondHouse" ({ cls := "PondHouse", name := "patch", desc := "()I" } : Jvm.MethodName) ({ cls := "PondHouse", name := "patch", desc := "()I" } : Jvm.MethodName)) ∈ lw_all := lw_g (lw_at lw_m8 221 rfl) rfl
theorem q2062 : (Jvm.Cond.codeWith ({ cls := "PondHouse", name := "patch", desc := "()I" } : Jvm.MethodName) prog_1_method_59_code (4 : Nat) (Option.some Jvm.ClassFile.FieldType.int) [((0 : Nat), (15 : Nat), (69 : Nat), (142 : Nat)), ((22 : Nat), (62 : Nat), (69 : Nat), (142 : Nat)), ((0 : Nat), (15 : Nat), (83 : Nat), (0 : Nat)), ((22 : Nat), (62 : Nat), (83 : Nat), (0 : Nat)), ((69 : Nat), (76 : Nat), (83 : Nat), (0 : Nat))]) ∈ lw_all := lw_g (lw_at lw_m8 222 rfl) rfl
theorem q2064 : (Jvm.Cond.methodLinkNest "PondHouse" (590 : Nat) ({ cls := "PondHouse$Reader", name := "patch", desc := "()LPondHouse$Row;" } : Jvm.MethodName) "PondHouse") ∈ lw_tbl := lw_at lw_m8 224 rfl
theorem q2102 : (Jvm.Cond.fieldLink "PondHouse" (294 : Nat) "PondHouse$Change" "kind" "I") ∈ lw_all := lw_g (lw_at lw_m9 22 rfl) rfl
theorem q2211 : (Jvm.Cond.methodLink "PondHouse" (593 : Nat) ({ cls := "PondHouse$Patch", name := "<init>", desc := "(LPondHouse$Row;)V" } : Jvm.MethodName)) ∈ lw_all := lw_g (lw_at lw_m9 131 rfl) rfl
theorem q2216 : (Jvm.Cond.fieldLink "PondHouse" (224 : Nat) "PondHouse$Patch" "changes" "LPondHouse$Row;") ∈ lw_all := lw_g (lw_at lw_m9 136 rfl) rfl
theorem q2217 : (Jvm.Cond.fieldLink "PondHouse" (394 : Nat) "PondHouse$Patch" "state" "I") ∈ lw_all := lw_g (lw_at lw_m9 137 rfl) rfl
theorem q2218 : (Jvm.Cond.fieldLink "PondHouse" (472 : Nat) "PondHouse$Patch" "waited" "I") ∈ lw_all := lw_g (lw_at lw_m9 138 rfl) rfl
theorem q2227 : (Jvm.Cond.instanceMethod ({ cls := "PondHouse", name := "fault", desc := "(I)I" } : Jvm.MethodName)) ∈ lw_all := lw_g (lw_at lw_m9 147 rfl) rfl
theorem q2228 : (Jvm.Cond.selects "PondHouse" ({ cls := "PondHouse", name := "fault", desc := "(I)I" } : Jvm.MethodName) ({ cls := "PondHouse", name := "fault", desc := "(I)I" } : Jvm.MethodName)) ∈ lw_all := lw_g (lw_at lw_m9 148 rfl) rfl
theorem q2229 : (Jvm.Cond.code ({ cls := "PondHouse", name := "fault", desc := "(I)I" } : Jvm.MethodName) prog_1_method_60_code (2 : Nat) (Option.some Jvm.ClassFile.FieldType.int)) ∈ lw_all := lw_g (lw_at lw_m9 149 rfl) rfl
theorem q2231 : (Jvm.Cond.instanceMethod ({ cls := "PondHouse", name := "kinds", desc := "()I" } : Jvm.MethodName)) ∈ lw_all := lw_g (lw_at lw_m9 151 rfl) rfl
theorem q2232 : (Jvm.Cond.selects "PondHouse" ({ cls := "PondHouse", name := "kinds", desc := "()I" } : Jvm.MethodName) ({ cls := "PondHouse", name := "kinds", desc := "()I" } : Jvm.MethodName)) ∈ lw_all := lw_g (lw_at lw_m9 152 rfl) rfl
theorem q2233 : (Jvm.Cond.code ({ cls := "PondHouse", name := "kinds", desc := "()I" } : Jvm.MethodName) prog_1_method_61_code (1 : Nat) (Option.some Jvm.ClassFile.FieldType.int)) ∈ lw_all := lw_g (lw_at lw_m9 153 rfl) rfl
theorem q2235 : (Jvm.Cond.instanceMethod ({ cls := "PondHouse", name := "kind", desc := "(II)I" } : Jvm.MethodName)) ∈ lw_all := lw_g (lw_at lw_m9 155 rfl) rfl
theorem q2236 : (Jvm.Cond.selects "PondHouse" ({ cls := "PondHouse", name := "kind", desc := "(II)I" } : Jvm.MethodName) ({ cls := "PondHouse", name := "kind", desc := "(II)I" } : Jvm.MethodName)) ∈ lw_all := lw_g (lw_at lw_m9 156 rfl) rfl
theorem q2237 : (Jvm.Cond.code ({ cls := "PondHouse", name := "kind", desc := "(II)I" } : Jvm.MethodName) prog_1_method_62_code (4 : Nat) (Option.some Jvm.ClassFile.FieldType.int)) ∈ lw_all := lw_g (lw_at lw_m9 157 rfl) rfl
theorem q2239 : (Jvm.Cond.instanceMethod ({ cls := "PondHouse", name := "create", desc := "(I)I" } : Jvm.MethodName)) ∈ lw_all := lw_g (lw_at lw_m9 159 rfl) rfl
theorem q2240 : (Jvm.Cond.selects "PondHouse" ({ cls := "PondHouse", name := "create", desc := "(I)I" } : Jvm.MethodName) ({ cls := "PondHouse", name := "create", desc := "(I)I" } : Jvm.MethodName)) ∈ lw_all := lw_g (lw_at lw_m9 160 rfl) rfl
theorem q2241 : (Jvm.Cond.code ({ cls := "PondHouse", name := "create", desc := "(I)I" } : Jvm.MethodName) prog_1_method_63_code (3 : Nat) (Option.some Jvm.ClassFile.FieldType.int)) ∈ lw_all := lw_g (lw_at lw_m9 161 rfl) rfl
theorem q2243 : (Jvm.Cond.methodLink "PondHouse" (600 : Nat) ({ cls := "PondHouse$Creature", name := "<init>", desc := "(LPondHouse;ILPondHouse$Kind;)V" } : Jvm.MethodName)) ∈ lw_all := lw_g (lw_at lw_m9 163 rfl) rfl
theorem q2250 : (Jvm.Cond.fieldLink "PondHouse" (77 : Nat) "PondHouse$Creature" "number" "I") ∈ lw_all := lw_g (lw_at lw_m9 170 rfl) rfl
theorem q2253 : (Jvm.Cond.fieldLink "PondHouse" (47 : Nat) "PondHouse$Creature" "kind" "LPondHouse$Kind;") ∈ lw_all := lw_g (lw_at lw_m9 173 rfl) rfl
theorem q2255 : (Jvm.Cond.fieldLink "PondHouse" (309 : Nat) "PondHouse$Creature" "values" "[I") ∈ lw_all := lw_g (lw_at lw_m9 175 rfl) rfl
theorem q2257 : (Jvm.Cond.fieldLinkNest "PondHouse" (340 : Nat) "PondHouse$Creature" "lost" "[I" "PondHouse") ∈ lw_tbl := lw_at lw_m9 177 rfl
theorem q2259 : (Jvm.Cond.fieldLinkNest "PondHouse" (352 : Nat) "PondHouse$Creature" "hasLost" "[Z" "PondHouse") ∈ lw_tbl := lw_at lw_m9 179 rfl
theorem q2275 : (Jvm.Cond.instanceMethod ({ cls := "PondHouse", name := "kindOf", desc := "(I)I" } : Jvm.MethodName)) ∈ lw_all := lw_g (lw_at lw_m9 195 rfl) rfl
theorem q2276 : (Jvm.Cond.selects "PondHouse" ({ cls := "PondHouse", name := "kindOf", desc := "(I)I" } : Jvm.MethodName) ({ cls := "PondHouse", name := "kindOf", desc := "(I)I" } : Jvm.MethodName)) ∈ lw_all := lw_g (lw_at lw_m9 196 rfl) rfl
theorem q2277 : (Jvm.Cond.code ({ cls := "PondHouse", name := "kindOf", desc := "(I)I" } : Jvm.MethodName) prog_1_method_64_code (3 : Nat) (Option.some Jvm.ClassFile.FieldType.int)) ∈ lw_all := lw_g (lw_at lw_m9 197 rfl) rfl
theorem q2279 : (Jvm.Cond.instanceMethod ({ cls := "PondHouse", name := "generation", desc := "(I)I" } : Jvm.MethodName)) ∈ lw_all := lw_g (lw_at lw_m9 199 rfl) rfl
theorem q2280 : (Jvm.Cond.selects "PondHouse" ({ cls := "PondHouse", name := "generation", desc := "(I)I" } : Jvm.MethodName) ({ cls := "PondHouse", name := "generation", desc := "(I)I" } : Jvm.MethodName)) ∈ lw_all := lw_g (lw_at lw_m9 200 rfl) rfl
theorem q2281 : (Jvm.Cond.code ({ cls := "PondHouse", name := "generation", desc := "(I)I" } : Jvm.MethodName) prog_1_method_65_code (3 : Nat) (Option.some Jvm.ClassFile.FieldType.int)) ∈ lw_all := lw_g (lw_at lw_m9 201 rfl) rfl
theorem q2283 : (Jvm.Cond.instanceMethod ({ cls := "PondHouse", name := "has", desc := "(II)Z" } : Jvm.MethodName)) ∈ lw_all := lw_g (lw_at lw_m9 203 rfl) rfl
theorem q2284 : (Jvm.Cond.selects "PondHouse" ({ cls := "PondHouse", name := "has", desc := "(II)Z" } : Jvm.MethodName) ({ cls := "PondHouse", name := "has", desc := "(II)Z" } : Jvm.MethodName)) ∈ lw_all := lw_g (lw_at lw_m9 204 rfl) rfl
theorem q2285 : (Jvm.Cond.code ({ cls := "PondHouse", name := "has", desc := "(II)Z" } : Jvm.MethodName) prog_1_method_66_code (4 : Nat) (Option.some Jvm.ClassFile.FieldType.boolean)) ∈ lw_all := lw_g (lw_at lw_m9 205 rfl) rfl
theorem q2287 : (Jvm.Cond.instanceMethod ({ cls := "PondHouse", name := "value", desc := "(II)I" } : Jvm.MethodName)) ∈ lw_all := lw_g (lw_at lw_m9 207 rfl) rfl
theorem q2288 : (Jvm.Cond.selects "PondHouse" ({ cls := "PondHouse", name := "value", desc := "(II)I" } : Jvm.MethodName) ({ cls := "PondHouse", name := "value", desc := "(II)I" } : Jvm.MethodName)) ∈ lw_all := lw_g (lw_at lw_m9 208 rfl) rfl
theorem q2289 : (Jvm.Cond.code ({ cls := "PondHouse", name := "value", desc := "(II)I" } : Jvm.MethodName) prog_1_method_67_code (5 : Nat) (Option.some Jvm.ClassFile.FieldType.int)) ∈ lw_all := lw_g (lw_at lw_m9 209 rfl) rfl
theorem q2291 : (Jvm.Cond.instanceMethod ({ cls := "PondHouse", name := "put", desc := "(III)Z" } : Jvm.MethodName)) ∈ lw_all := lw_g (lw_at lw_m9 211 rfl) rfl
theorem q2292 : (Jvm.Cond.selects "PondHouse" ({ cls := "PondHouse", name := "put", desc := "(III)Z" } : Jvm.MethodName) ({ cls := "PondHouse", name := "put", desc := "(III)Z" } : Jvm.MethodName)) ∈ lw_all := lw_g (lw_at lw_m9 212 rfl) rfl
theorem q2293 : (Jvm.Cond.code ({ cls := "PondHouse", name := "put", desc := "(III)Z" } : Jvm.MethodName) prog_1_method_68_code (5 : Nat) (Option.some Jvm.ClassFile.FieldType.boolean)) ∈ lw_all := lw_g (lw_at lw_m9 213 rfl) rfl
theorem q2294 : (Jvm.Cond.methodLink "PondHouse" (603 : Nat) ({ cls := "PondHouse", name := "has", desc := "(II)Z" } : Jvm.MethodName)) ∈ lw_all := lw_g (lw_at lw_m9 214 rfl) rfl
theorem q2296 : (Jvm.Cond.instanceMethod ({ cls := "PondHouse", name := "fixed", desc := "(II)I" } : Jvm.MethodName)) ∈ lw_all := lw_g (lw_at lw_m9 216 rfl) rfl
theorem q2297 : (Jvm.Cond.selects "PondHouse" ({ cls := "PondHouse", name := "fixed", desc := "(II)I" } : Jvm.MethodName) ({ cls := "PondHouse", name := "fixed", desc := "(II)I" } : Jvm.MethodName)) ∈ lw_all := lw_g (lw_at lw_m9 217 rfl) rfl
theorem q2298 : (Jvm.Cond.code ({ cls := "PondHouse", name := "fixed", desc := "(II)I" } : Jvm.MethodName) prog_1_method_69_code (5 : Nat) (Option.some Jvm.ClassFile.FieldType.int)) ∈ lw_all := lw_g (lw_at lw_m9 218 rfl) rfl
theorem q2299 : (Jvm.Cond.methodLink "PondHouse" (606 : Nat) ({ cls := "PondHouse", name := "fixedOf", desc := "(LPondHouse$Kind;I)LPondHouse$Fixed;" } : Jvm.MethodName)) ∈ lw_all := lw_g (lw_at lw_m9 219 rfl) rfl
theorem q2301 : (Jvm.Cond.instanceMethod ({ cls := "PondHouse", name := "act", desc := "(III)I" } : Jvm.MethodName)) ∈ lw_all := lw_g (lw_at lw_m9 221 rfl) rfl
theorem q2302 : (Jvm.Cond.selects "PondHouse" ({ cls := "PondHouse", name := "act", desc := "(III)I" } : Jvm.MethodName) ({ cls := "PondHouse", name := "act", desc := "(III)I" } : Jvm.MethodName)) ∈ lw_all := lw_g (lw_at lw_m9 222 rfl) rfl
theorem q2303 : (Jvm.Cond.code ({ cls := "PondHouse", name := "act", desc := "(III)I" } : Jvm.MethodName) prog_1_method_70_code (6 : Nat) (Option.some Jvm.ClassFile.FieldType.int)) ∈ lw_all := lw_g (lw_at lw_m9 223 rfl) rfl
theorem q2305 : (Jvm.Cond.instanceMethod ({ cls := "PondHouse", name := "told", desc := "(I)I" } : Jvm.MethodName)) ∈ lw_all := lw_g (lw_at lw_m9 225 rfl) rfl
theorem q2306 : (Jvm.Cond.selects "PondHouse" ({ cls := "PondHouse", name := "told", desc := "(I)I" } : Jvm.MethodName) ({ cls := "PondHouse", name := "told", desc := "(I)I" } : Jvm.MethodName)) ∈ lw_all := lw_g (lw_at lw_m9 226 rfl) rfl
theorem q2307 : (Jvm.Cond.code ({ cls := "PondHouse", name := "told", desc := "(I)I" } : Jvm.MethodName) prog_1_method_71_code (2 : Nat) (Option.some Jvm.ClassFile.FieldType.int)) ∈ lw_all := lw_g (lw_at lw_m9 227 rfl) rfl
theorem q2309 : (Jvm.Cond.instanceMethod ({ cls := "PondHouse", name := "sum", desc := "(I)J" } : Jvm.MethodName)) ∈ lw_all := lw_g (lw_at lw_m9 229 rfl) rfl
theorem q2310 : (Jvm.Cond.selects "PondHouse" ({ cls := "PondHouse", name := "sum", desc := "(I)J" } : Jvm.MethodName) ({ cls := "PondHouse", name := "sum", desc := "(I)J" } : Jvm.MethodName)) ∈ lw_all := lw_g (lw_at lw_m9 230 rfl) rfl
theorem q2311 : (Jvm.Cond.code ({ cls := "PondHouse", name := "sum", desc := "(I)J" } : Jvm.MethodName) prog_1_method_72_code (5 : Nat) (Option.some Jvm.ClassFile.FieldType.long)) ∈ lw_all := lw_g (lw_at lw_m9 231 rfl) rfl
theorem q3098 : (Jvm.Cond.castable "PondHouse" "java/lang/Object") ∈ lw_tbl := lw_at lw_m13 58 rfl
theorem in_X0 : ∀ w ∈ wsX00, w ∈ lw_all := lw_in wsX00 [1285, 1287, 1289, 1291, 1293, 1295, 1297, 1299, 1301, 1303, 1305, 1307, 1309, 1311, 1313, 1315, 1317, 1319, 1321, 1323, 1325, 1327, 1329, 1331, 1333, 1335, 1337, 1339, 1341, 1343, 1345, 1347, 1349, 1351, 1353, 1355, 1357, 1359, 1361, 1363, 1365, 1367, 1369, 1371, 1373] (by decide +kernel) (by decide +kernel)
