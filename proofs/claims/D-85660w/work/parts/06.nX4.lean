/-! PondHouse$Reader -/
set_option maxRecDepth 100000
def RX4 : String := "PondHouse$Reader"
def TX4 : u_T := fun k => match k with
  | 0 => ("PondHouse$Reader", "at", "I", false)
  | 1 => ("PondHouse$Reader", "from", "I", false)
  | 2 => ("PondHouse$Reader", "token", "I", false)
  | 3 => ("PondHouse$Reader", "value", "I", false)
  | 4 => ("PondHouse$Reader", "open", "I", false)
  | 5 => ("PondHouse$Reader", "statements", "I", false)
  | 6 => ("PondHouse$Reader", "word", "Ljava/lang/String;", false)
  | _ => ("PondHouse$Reader", "this$0", "LPondHouse;", true)
def tyX4 : Nat → FieldType := fun k => match k with
  | 0 => .int
  | 1 => .int
  | 2 => .int
  | 3 => .int
  | 4 => .int
  | 5 => .int
  | 6 => .object "java/lang/String"
  | _ => .object "PondHouse"
abbrev wsX40 : List Cond := u_ws RX4 TX4 8
theorem nmX4 : ∀ a, a < 8 → ∀ b, b < 8 → a ≠ b → (TX4 a).2.1 ≠ (TX4 b).2.1 := by decide +kernel
theorem tyX4_ok : ∀ k, k < 8 → parseFieldDescriptor (TX4 k).2.2.1 = some (tyX4 k) := by decide +kernel
abbrev cX4_init : ByteArray := prog_29_method_1_code
def yX4_init : MethodName := ⟨RX4, "<init>", "(LPondHouse;)V"⟩
def dkwX4_init_0 : List UInt8 := [42, 43, 181, 0, 3, 42, 183, 0, 9, 177]
abbrev dktX4_init_0 : List UInt8 := dkwX4_init_0 ++ []
theorem dksX4_init_0 : cX4_init.data.toList.drop 0 = dktX4_init_0 := by decide +kernel
theorem dX4_init_0 : decode cX4_init 0 = .ok (.aload_n 0, 1) := dk_42 (dk_at dksX4_init_0 0 rfl rfl)
theorem dX4_init_1 : decode cX4_init 1 = .ok (.aload_n 1, 1) := dk_43 (dk_at dksX4_init_0 1 rfl rfl)
theorem dX4_init_2 : decode cX4_init 2 = .ok (.putfield 3, 3) := dk_181 0 3 (dk_at dksX4_init_0 2 rfl rfl)
theorem dX4_init_5 : decode cX4_init 5 = .ok (.aload_n 0, 1) := dk_42 (dk_at dksX4_init_0 5 rfl rfl)
theorem dX4_init_6 : decode cX4_init 6 = .ok (.invokespecial 9, 3) := dk_183 0 9 (dk_at dksX4_init_0 6 rfl rfl)
theorem dX4_init_9 : decode cX4_init 9 = .ok (.return_, 1) := dk_177 (dk_at dksX4_init_0 9 rfl rfl)
abbrev cX4_begins : ByteArray := prog_29_method_6_code
def yX4_begins : MethodName := ⟨RX4, "begins", "()V"⟩
def dkwX4_begins_0 : List UInt8 := [42, 3, 181, 0, 15, 42, 3, 181, 0, 26, 42, 182, 0, 29, 177]
abbrev dktX4_begins_0 : List UInt8 := dkwX4_begins_0 ++ []
theorem dksX4_begins_0 : cX4_begins.data.toList.drop 0 = dktX4_begins_0 := by decide +kernel
theorem dX4_begins_0 : decode cX4_begins 0 = .ok (.aload_n 0, 1) := dk_42 (dk_at dksX4_begins_0 0 rfl rfl)
theorem dX4_begins_1 : decode cX4_begins 1 = .ok (.iconst 0, 1) := dk_3 (dk_at dksX4_begins_0 1 rfl rfl)
theorem dX4_begins_2 : decode cX4_begins 2 = .ok (.putfield 15, 3) := dk_181 0 15 (dk_at dksX4_begins_0 2 rfl rfl)
theorem dX4_begins_5 : decode cX4_begins 5 = .ok (.aload_n 0, 1) := dk_42 (dk_at dksX4_begins_0 5 rfl rfl)
theorem dX4_begins_6 : decode cX4_begins 6 = .ok (.iconst 0, 1) := dk_3 (dk_at dksX4_begins_0 6 rfl rfl)
theorem dX4_begins_7 : decode cX4_begins 7 = .ok (.putfield 26, 3) := dk_181 0 26 (dk_at dksX4_begins_0 7 rfl rfl)
theorem dX4_begins_10 : decode cX4_begins 10 = .ok (.aload_n 0, 1) := dk_42 (dk_at dksX4_begins_0 10 rfl rfl)
theorem dX4_begins_11 : decode cX4_begins 11 = .ok (.invokevirtual 29, 3) := dk_182 0 29 (dk_at dksX4_begins_0 11 rfl rfl)
theorem dX4_begins_14 : decode cX4_begins 14 = .ok (.return_, 1) := dk_177 (dk_at dksX4_begins_0 14 rfl rfl)
abbrev cX4_next : ByteArray := prog_29_method_7_code
def yX4_next : MethodName := ⟨RX4, "next", "()V"⟩
def dkwX4_next_4 : List UInt8 := [167, 0, 8, 42, 27, 182, 0, 55, 177]
abbrev dktX4_next_4 : List UInt8 := dkwX4_next_4 ++ []
def dkwX4_next_3 : List UInt8 := [153, 0, 10, 42, 182, 0, 46, 167, 0, 23, 42, 27, 182, 0, 49, 153, 0, 10, 42, 182, 0, 52]
abbrev dktX4_next_3 : List UInt8 := dkwX4_next_3 ++ dktX4_next_4
def dkwX4_next_2 : List UInt8 := [60, 42, 4, 181, 0, 39, 27, 2, 160, 0, 11, 42, 3, 181, 0, 39, 167, 0, 38, 42, 27, 182, 0, 42]
abbrev dktX4_next_2 : List UInt8 := dkwX4_next_2 ++ dktX4_next_3
def dkwX4_next_1 : List UInt8 := [180, 0, 15, 4, 96, 181, 0, 15, 167, 255, 226, 42, 42, 180, 0, 15, 181, 0, 36, 42, 3, 182, 0, 32]
abbrev dktX4_next_1 : List UInt8 := dkwX4_next_1 ++ dktX4_next_2
def dkwX4_next_0 : List UInt8 := [42, 3, 182, 0, 32, 16, 32, 159, 0, 13, 42, 3, 182, 0, 32, 16, 10, 160, 0, 16, 42, 89]
abbrev dktX4_next_0 : List UInt8 := dkwX4_next_0 ++ dktX4_next_1
theorem dksX4_next_0 : cX4_next.data.toList.drop 0 = dktX4_next_0 := by decide +kernel
theorem dksX4_next_1 : cX4_next.data.toList.drop 22 = dktX4_next_1 := dk_seg dksX4_next_0 22 rfl rfl
theorem dksX4_next_2 : cX4_next.data.toList.drop 46 = dktX4_next_2 := dk_seg dksX4_next_1 24 rfl rfl
theorem dksX4_next_3 : cX4_next.data.toList.drop 70 = dktX4_next_3 := dk_seg dksX4_next_2 24 rfl rfl
theorem dksX4_next_4 : cX4_next.data.toList.drop 92 = dktX4_next_4 := dk_seg dksX4_next_3 22 rfl rfl
theorem dX4_next_0 : decode cX4_next 0 = .ok (.aload_n 0, 1) := dk_42 (dk_at dksX4_next_0 0 rfl rfl)
theorem dX4_next_1 : decode cX4_next 1 = .ok (.iconst 0, 1) := dk_3 (dk_at dksX4_next_0 1 rfl rfl)
theorem dX4_next_2 : decode cX4_next 2 = .ok (.invokevirtual 32, 3) := dk_182 0 32 (dk_at dksX4_next_0 2 rfl rfl)
theorem dX4_next_5 : decode cX4_next 5 = .ok (.bipush 32, 2) := dk_16 32 (dk_at dksX4_next_0 5 rfl rfl)
theorem dX4_next_7 : decode cX4_next 7 = .ok (.if_icmp .eq 13, 3) := dk_159 0 13 (dk_at dksX4_next_0 7 rfl rfl)
theorem dX4_next_10 : decode cX4_next 10 = .ok (.aload_n 0, 1) := dk_42 (dk_at dksX4_next_0 10 rfl rfl)
theorem dX4_next_11 : decode cX4_next 11 = .ok (.iconst 0, 1) := dk_3 (dk_at dksX4_next_0 11 rfl rfl)
theorem dX4_next_12 : decode cX4_next 12 = .ok (.invokevirtual 32, 3) := dk_182 0 32 (dk_at dksX4_next_0 12 rfl rfl)
theorem dX4_next_15 : decode cX4_next 15 = .ok (.bipush 10, 2) := dk_16 10 (dk_at dksX4_next_0 15 rfl rfl)
theorem dX4_next_17 : decode cX4_next 17 = .ok (.if_icmp .ne 16, 3) := dk_160 0 16 (dk_at dksX4_next_0 17 rfl rfl)
theorem dX4_next_20 : decode cX4_next 20 = .ok (.aload_n 0, 1) := dk_42 (dk_at dksX4_next_0 20 rfl rfl)
theorem dX4_next_21 : decode cX4_next 21 = .ok (.dup, 1) := dk_89 (dk_at dksX4_next_0 21 rfl rfl)
theorem dX4_next_22 : decode cX4_next 22 = .ok (.getfield 15, 3) := dk_180 0 15 (dk_at dksX4_next_1 0 rfl rfl)
theorem dX4_next_25 : decode cX4_next 25 = .ok (.iconst 1, 1) := dk_4 (dk_at dksX4_next_1 3 rfl rfl)
theorem dX4_next_26 : decode cX4_next 26 = .ok (.iadd, 1) := dk_96 (dk_at dksX4_next_1 4 rfl rfl)
theorem dX4_next_27 : decode cX4_next 27 = .ok (.putfield 15, 3) := dk_181 0 15 (dk_at dksX4_next_1 5 rfl rfl)
theorem dX4_next_30 : decode cX4_next 30 = .ok (.goto (-30), 3) := dk_167 255 226 (dk_at dksX4_next_1 8 rfl rfl)
theorem dX4_next_33 : decode cX4_next 33 = .ok (.aload_n 0, 1) := dk_42 (dk_at dksX4_next_1 11 rfl rfl)
theorem dX4_next_34 : decode cX4_next 34 = .ok (.aload_n 0, 1) := dk_42 (dk_at dksX4_next_1 12 rfl rfl)
theorem dX4_next_35 : decode cX4_next 35 = .ok (.getfield 15, 3) := dk_180 0 15 (dk_at dksX4_next_1 13 rfl rfl)
theorem dX4_next_38 : decode cX4_next 38 = .ok (.putfield 36, 3) := dk_181 0 36 (dk_at dksX4_next_1 16 rfl rfl)
theorem dX4_next_41 : decode cX4_next 41 = .ok (.aload_n 0, 1) := dk_42 (dk_at dksX4_next_1 19 rfl rfl)
theorem dX4_next_42 : decode cX4_next 42 = .ok (.iconst 0, 1) := dk_3 (dk_at dksX4_next_1 20 rfl rfl)
theorem dX4_next_43 : decode cX4_next 43 = .ok (.invokevirtual 32, 3) := dk_182 0 32 (dk_at dksX4_next_1 21 rfl rfl)
theorem dX4_next_46 : decode cX4_next 46 = .ok (.istore_n 1, 1) := dk_60 (dk_at dksX4_next_2 0 rfl rfl)
theorem dX4_next_47 : decode cX4_next 47 = .ok (.aload_n 0, 1) := dk_42 (dk_at dksX4_next_2 1 rfl rfl)
theorem dX4_next_48 : decode cX4_next 48 = .ok (.iconst 1, 1) := dk_4 (dk_at dksX4_next_2 2 rfl rfl)
theorem dX4_next_49 : decode cX4_next 49 = .ok (.putfield 39, 3) := dk_181 0 39 (dk_at dksX4_next_2 3 rfl rfl)
theorem dX4_next_52 : decode cX4_next 52 = .ok (.iload_n 1, 1) := dk_27 (dk_at dksX4_next_2 6 rfl rfl)
theorem dX4_next_53 : decode cX4_next 53 = .ok (.iconst (-1), 1) := dk_2 (dk_at dksX4_next_2 7 rfl rfl)
theorem dX4_next_54 : decode cX4_next 54 = .ok (.if_icmp .ne 11, 3) := dk_160 0 11 (dk_at dksX4_next_2 8 rfl rfl)
theorem dX4_next_57 : decode cX4_next 57 = .ok (.aload_n 0, 1) := dk_42 (dk_at dksX4_next_2 11 rfl rfl)
theorem dX4_next_58 : decode cX4_next 58 = .ok (.iconst 0, 1) := dk_3 (dk_at dksX4_next_2 12 rfl rfl)
theorem dX4_next_59 : decode cX4_next 59 = .ok (.putfield 39, 3) := dk_181 0 39 (dk_at dksX4_next_2 13 rfl rfl)
theorem dX4_next_62 : decode cX4_next 62 = .ok (.goto 38, 3) := dk_167 0 38 (dk_at dksX4_next_2 16 rfl rfl)
theorem dX4_next_65 : decode cX4_next 65 = .ok (.aload_n 0, 1) := dk_42 (dk_at dksX4_next_2 19 rfl rfl)
theorem dX4_next_66 : decode cX4_next 66 = .ok (.iload_n 1, 1) := dk_27 (dk_at dksX4_next_2 20 rfl rfl)
theorem dX4_next_67 : decode cX4_next 67 = .ok (.invokevirtual 42, 3) := dk_182 0 42 (dk_at dksX4_next_2 21 rfl rfl)
theorem dX4_next_70 : decode cX4_next 70 = .ok (.ifCond .eq 10, 3) := dk_153 0 10 (dk_at dksX4_next_3 0 rfl rfl)
theorem dX4_next_73 : decode cX4_next 73 = .ok (.aload_n 0, 1) := dk_42 (dk_at dksX4_next_3 3 rfl rfl)
theorem dX4_next_74 : decode cX4_next 74 = .ok (.invokevirtual 46, 3) := dk_182 0 46 (dk_at dksX4_next_3 4 rfl rfl)
theorem dX4_next_77 : decode cX4_next 77 = .ok (.goto 23, 3) := dk_167 0 23 (dk_at dksX4_next_3 7 rfl rfl)
theorem dX4_next_80 : decode cX4_next 80 = .ok (.aload_n 0, 1) := dk_42 (dk_at dksX4_next_3 10 rfl rfl)
theorem dX4_next_81 : decode cX4_next 81 = .ok (.iload_n 1, 1) := dk_27 (dk_at dksX4_next_3 11 rfl rfl)
theorem dX4_next_82 : decode cX4_next 82 = .ok (.invokevirtual 49, 3) := dk_182 0 49 (dk_at dksX4_next_3 12 rfl rfl)
theorem dX4_next_85 : decode cX4_next 85 = .ok (.ifCond .eq 10, 3) := dk_153 0 10 (dk_at dksX4_next_3 15 rfl rfl)
theorem dX4_next_88 : decode cX4_next 88 = .ok (.aload_n 0, 1) := dk_42 (dk_at dksX4_next_3 18 rfl rfl)
theorem dX4_next_89 : decode cX4_next 89 = .ok (.invokevirtual 52, 3) := dk_182 0 52 (dk_at dksX4_next_3 19 rfl rfl)
theorem dX4_next_92 : decode cX4_next 92 = .ok (.goto 8, 3) := dk_167 0 8 (dk_at dksX4_next_4 0 rfl rfl)
theorem dX4_next_95 : decode cX4_next 95 = .ok (.aload_n 0, 1) := dk_42 (dk_at dksX4_next_4 3 rfl rfl)
theorem dX4_next_96 : decode cX4_next 96 = .ok (.iload_n 1, 1) := dk_27 (dk_at dksX4_next_4 4 rfl rfl)
theorem dX4_next_97 : decode cX4_next 97 = .ok (.invokevirtual 55, 3) := dk_182 0 55 (dk_at dksX4_next_4 5 rfl rfl)
theorem dX4_next_100 : decode cX4_next 100 = .ok (.return_, 1) := dk_177 (dk_at dksX4_next_4 8 rfl rfl)
abbrev cX4_raw : ByteArray := prog_29_method_2_code
def yX4_raw : MethodName := ⟨RX4, "raw", "(I)I"⟩
def dkwX4_raw_1 : List UInt8 := [180, 0, 15, 27, 96, 51, 17, 0, 255, 126, 167, 0, 4, 2, 172]
abbrev dktX4_raw_1 : List UInt8 := dkwX4_raw_1 ++ []
def dkwX4_raw_0 : List UInt8 := [42, 180, 0, 15, 27, 96, 42, 180, 0, 3, 180, 0, 19, 162, 0, 24, 42, 180, 0, 3, 180, 0, 22, 42]
abbrev dktX4_raw_0 : List UInt8 := dkwX4_raw_0 ++ dktX4_raw_1
theorem dksX4_raw_0 : cX4_raw.data.toList.drop 0 = dktX4_raw_0 := by decide +kernel
theorem dksX4_raw_1 : cX4_raw.data.toList.drop 24 = dktX4_raw_1 := dk_seg dksX4_raw_0 24 rfl rfl
theorem dX4_raw_0 : decode cX4_raw 0 = .ok (.aload_n 0, 1) := dk_42 (dk_at dksX4_raw_0 0 rfl rfl)
theorem dX4_raw_1 : decode cX4_raw 1 = .ok (.getfield 15, 3) := dk_180 0 15 (dk_at dksX4_raw_0 1 rfl rfl)
theorem dX4_raw_4 : decode cX4_raw 4 = .ok (.iload_n 1, 1) := dk_27 (dk_at dksX4_raw_0 4 rfl rfl)
theorem dX4_raw_5 : decode cX4_raw 5 = .ok (.iadd, 1) := dk_96 (dk_at dksX4_raw_0 5 rfl rfl)
theorem dX4_raw_6 : decode cX4_raw 6 = .ok (.aload_n 0, 1) := dk_42 (dk_at dksX4_raw_0 6 rfl rfl)
theorem dX4_raw_7 : decode cX4_raw 7 = .ok (.getfield 3, 3) := dk_180 0 3 (dk_at dksX4_raw_0 7 rfl rfl)
theorem dX4_raw_10 : decode cX4_raw 10 = .ok (.getfield 19, 3) := dk_180 0 19 (dk_at dksX4_raw_0 10 rfl rfl)
theorem dX4_raw_13 : decode cX4_raw 13 = .ok (.if_icmp .ge 24, 3) := dk_162 0 24 (dk_at dksX4_raw_0 13 rfl rfl)
theorem dX4_raw_16 : decode cX4_raw 16 = .ok (.aload_n 0, 1) := dk_42 (dk_at dksX4_raw_0 16 rfl rfl)
theorem dX4_raw_17 : decode cX4_raw 17 = .ok (.getfield 3, 3) := dk_180 0 3 (dk_at dksX4_raw_0 17 rfl rfl)
theorem dX4_raw_20 : decode cX4_raw 20 = .ok (.getfield 22, 3) := dk_180 0 22 (dk_at dksX4_raw_0 20 rfl rfl)
theorem dX4_raw_23 : decode cX4_raw 23 = .ok (.aload_n 0, 1) := dk_42 (dk_at dksX4_raw_0 23 rfl rfl)
theorem dX4_raw_24 : decode cX4_raw 24 = .ok (.getfield 15, 3) := dk_180 0 15 (dk_at dksX4_raw_1 0 rfl rfl)
theorem dX4_raw_27 : decode cX4_raw 27 = .ok (.iload_n 1, 1) := dk_27 (dk_at dksX4_raw_1 3 rfl rfl)
theorem dX4_raw_28 : decode cX4_raw 28 = .ok (.iadd, 1) := dk_96 (dk_at dksX4_raw_1 4 rfl rfl)
theorem dX4_raw_29 : decode cX4_raw 29 = .ok (.baload, 1) := dk_51 (dk_at dksX4_raw_1 5 rfl rfl)
theorem dX4_raw_30 : decode cX4_raw 30 = .ok (.sipush 255, 3) := dk_17 0 255 (dk_at dksX4_raw_1 6 rfl rfl)
theorem dX4_raw_33 : decode cX4_raw 33 = .ok (.iand, 1) := dk_126 (dk_at dksX4_raw_1 9 rfl rfl)
theorem dX4_raw_34 : decode cX4_raw 34 = .ok (.goto 4, 3) := dk_167 0 4 (dk_at dksX4_raw_1 10 rfl rfl)
theorem dX4_raw_37 : decode cX4_raw 37 = .ok (.iconst (-1), 1) := dk_2 (dk_at dksX4_raw_1 13 rfl rfl)
theorem dX4_raw_38 : decode cX4_raw 38 = .ok (.ireturn, 1) := dk_172 (dk_at dksX4_raw_1 14 rfl rfl)
abbrev cX4_isSmall : ByteArray := prog_29_method_3_code
def yX4_isSmall : MethodName := ⟨RX4, "isSmall", "(I)Z"⟩
def dkwX4_isSmall_0 : List UInt8 := [27, 16, 97, 161, 0, 13, 27, 16, 122, 163, 0, 7, 4, 167, 0, 4, 3, 172]
abbrev dktX4_isSmall_0 : List UInt8 := dkwX4_isSmall_0 ++ []
theorem dksX4_isSmall_0 : cX4_isSmall.data.toList.drop 0 = dktX4_isSmall_0 := by decide +kernel
theorem dX4_isSmall_0 : decode cX4_isSmall 0 = .ok (.iload_n 1, 1) := dk_27 (dk_at dksX4_isSmall_0 0 rfl rfl)
theorem dX4_isSmall_1 : decode cX4_isSmall 1 = .ok (.bipush 97, 2) := dk_16 97 (dk_at dksX4_isSmall_0 1 rfl rfl)
theorem dX4_isSmall_3 : decode cX4_isSmall 3 = .ok (.if_icmp .lt 13, 3) := dk_161 0 13 (dk_at dksX4_isSmall_0 3 rfl rfl)
theorem dX4_isSmall_6 : decode cX4_isSmall 6 = .ok (.iload_n 1, 1) := dk_27 (dk_at dksX4_isSmall_0 6 rfl rfl)
theorem dX4_isSmall_7 : decode cX4_isSmall 7 = .ok (.bipush 122, 2) := dk_16 122 (dk_at dksX4_isSmall_0 7 rfl rfl)
theorem dX4_isSmall_9 : decode cX4_isSmall 9 = .ok (.if_icmp .gt 7, 3) := dk_163 0 7 (dk_at dksX4_isSmall_0 9 rfl rfl)
theorem dX4_isSmall_12 : decode cX4_isSmall 12 = .ok (.iconst 1, 1) := dk_4 (dk_at dksX4_isSmall_0 12 rfl rfl)
theorem dX4_isSmall_13 : decode cX4_isSmall 13 = .ok (.goto 4, 3) := dk_167 0 4 (dk_at dksX4_isSmall_0 13 rfl rfl)
theorem dX4_isSmall_16 : decode cX4_isSmall 16 = .ok (.iconst 0, 1) := dk_3 (dk_at dksX4_isSmall_0 16 rfl rfl)
theorem dX4_isSmall_17 : decode cX4_isSmall 17 = .ok (.ireturn, 1) := dk_172 (dk_at dksX4_isSmall_0 17 rfl rfl)
abbrev cX4_letters : ByteArray := prog_29_method_8_code
def yX4_letters : MethodName := ⟨RX4, "letters", "()V"⟩
def dkwX4_letters_4 : List UInt8 := [167, 0, 4, 5, 181, 0, 39, 177]
abbrev dktX4_letters_4 : List UInt8 := dkwX4_letters_4 ++ []
def dkwX4_letters_3 : List UInt8 := [162, 0, 29, 42, 42, 180, 0, 3, 180, 0, 79, 42, 180, 0, 75, 184, 0, 83, 153, 0, 7, 6]
abbrev dktX4_letters_3 : List UInt8 := dkwX4_letters_3 ++ dktX4_letters_4
def dkwX4_letters_2 : List UInt8 := [4, 96, 181, 0, 15, 167, 255, 214, 42, 43, 182, 0, 71, 181, 0, 75, 43, 182, 0, 63, 16, 7]
abbrev dktX4_letters_2 : List UInt8 := dkwX4_letters_2 ++ dktX4_letters_3
def dkwX4_letters_1 : List UInt8 := [182, 0, 63, 16, 7, 162, 0, 14, 43, 42, 3, 182, 0, 32, 146, 182, 0, 67, 87, 42, 89, 180, 0, 15]
abbrev dktX4_letters_1 : List UInt8 := dkwX4_letters_1 ++ dktX4_letters_2
def dkwX4_letters_0 : List UInt8 := [187, 0, 59, 89, 16, 8, 183, 0, 61, 76, 42, 42, 3, 182, 0, 32, 182, 0, 42, 153, 0, 36, 43]
abbrev dktX4_letters_0 : List UInt8 := dkwX4_letters_0 ++ dktX4_letters_1
theorem dksX4_letters_0 : cX4_letters.data.toList.drop 0 = dktX4_letters_0 := by decide +kernel
theorem dksX4_letters_1 : cX4_letters.data.toList.drop 23 = dktX4_letters_1 := dk_seg dksX4_letters_0 23 rfl rfl
theorem dksX4_letters_2 : cX4_letters.data.toList.drop 47 = dktX4_letters_2 := dk_seg dksX4_letters_1 24 rfl rfl
theorem dksX4_letters_3 : cX4_letters.data.toList.drop 69 = dktX4_letters_3 := dk_seg dksX4_letters_2 22 rfl rfl
theorem dksX4_letters_4 : cX4_letters.data.toList.drop 91 = dktX4_letters_4 := dk_seg dksX4_letters_3 22 rfl rfl
theorem dX4_letters_0 : decode cX4_letters 0 = .ok (.new 59, 3) := dk_187 0 59 (dk_at dksX4_letters_0 0 rfl rfl)
theorem dX4_letters_3 : decode cX4_letters 3 = .ok (.dup, 1) := dk_89 (dk_at dksX4_letters_0 3 rfl rfl)
theorem dX4_letters_4 : decode cX4_letters 4 = .ok (.bipush 8, 2) := dk_16 8 (dk_at dksX4_letters_0 4 rfl rfl)
theorem dX4_letters_6 : decode cX4_letters 6 = .ok (.invokespecial 61, 3) := dk_183 0 61 (dk_at dksX4_letters_0 6 rfl rfl)
theorem dX4_letters_9 : decode cX4_letters 9 = .ok (.astore_n 1, 1) := dk_76 (dk_at dksX4_letters_0 9 rfl rfl)
theorem dX4_letters_10 : decode cX4_letters 10 = .ok (.aload_n 0, 1) := dk_42 (dk_at dksX4_letters_0 10 rfl rfl)
theorem dX4_letters_11 : decode cX4_letters 11 = .ok (.aload_n 0, 1) := dk_42 (dk_at dksX4_letters_0 11 rfl rfl)
theorem dX4_letters_12 : decode cX4_letters 12 = .ok (.iconst 0, 1) := dk_3 (dk_at dksX4_letters_0 12 rfl rfl)
theorem dX4_letters_13 : decode cX4_letters 13 = .ok (.invokevirtual 32, 3) := dk_182 0 32 (dk_at dksX4_letters_0 13 rfl rfl)
theorem dX4_letters_16 : decode cX4_letters 16 = .ok (.invokevirtual 42, 3) := dk_182 0 42 (dk_at dksX4_letters_0 16 rfl rfl)
theorem dX4_letters_19 : decode cX4_letters 19 = .ok (.ifCond .eq 36, 3) := dk_153 0 36 (dk_at dksX4_letters_0 19 rfl rfl)
theorem dX4_letters_22 : decode cX4_letters 22 = .ok (.aload_n 1, 1) := dk_43 (dk_at dksX4_letters_0 22 rfl rfl)
theorem dX4_letters_23 : decode cX4_letters 23 = .ok (.invokevirtual 63, 3) := dk_182 0 63 (dk_at dksX4_letters_1 0 rfl rfl)
theorem dX4_letters_26 : decode cX4_letters 26 = .ok (.bipush 7, 2) := dk_16 7 (dk_at dksX4_letters_1 3 rfl rfl)
theorem dX4_letters_28 : decode cX4_letters 28 = .ok (.if_icmp .ge 14, 3) := dk_162 0 14 (dk_at dksX4_letters_1 5 rfl rfl)
theorem dX4_letters_31 : decode cX4_letters 31 = .ok (.aload_n 1, 1) := dk_43 (dk_at dksX4_letters_1 8 rfl rfl)
theorem dX4_letters_32 : decode cX4_letters 32 = .ok (.aload_n 0, 1) := dk_42 (dk_at dksX4_letters_1 9 rfl rfl)
theorem dX4_letters_33 : decode cX4_letters 33 = .ok (.iconst 0, 1) := dk_3 (dk_at dksX4_letters_1 10 rfl rfl)
theorem dX4_letters_34 : decode cX4_letters 34 = .ok (.invokevirtual 32, 3) := dk_182 0 32 (dk_at dksX4_letters_1 11 rfl rfl)
theorem dX4_letters_37 : decode cX4_letters 37 = .ok (.i2c, 1) := dk_146 (dk_at dksX4_letters_1 14 rfl rfl)
theorem dX4_letters_38 : decode cX4_letters 38 = .ok (.invokevirtual 67, 3) := dk_182 0 67 (dk_at dksX4_letters_1 15 rfl rfl)
theorem dX4_letters_41 : decode cX4_letters 41 = .ok (.pop, 1) := dk_87 (dk_at dksX4_letters_1 18 rfl rfl)
theorem dX4_letters_42 : decode cX4_letters 42 = .ok (.aload_n 0, 1) := dk_42 (dk_at dksX4_letters_1 19 rfl rfl)
theorem dX4_letters_43 : decode cX4_letters 43 = .ok (.dup, 1) := dk_89 (dk_at dksX4_letters_1 20 rfl rfl)
theorem dX4_letters_44 : decode cX4_letters 44 = .ok (.getfield 15, 3) := dk_180 0 15 (dk_at dksX4_letters_1 21 rfl rfl)
theorem dX4_letters_47 : decode cX4_letters 47 = .ok (.iconst 1, 1) := dk_4 (dk_at dksX4_letters_2 0 rfl rfl)
theorem dX4_letters_48 : decode cX4_letters 48 = .ok (.iadd, 1) := dk_96 (dk_at dksX4_letters_2 1 rfl rfl)
theorem dX4_letters_49 : decode cX4_letters 49 = .ok (.putfield 15, 3) := dk_181 0 15 (dk_at dksX4_letters_2 2 rfl rfl)
theorem dX4_letters_52 : decode cX4_letters 52 = .ok (.goto (-42), 3) := dk_167 255 214 (dk_at dksX4_letters_2 5 rfl rfl)
theorem dX4_letters_55 : decode cX4_letters 55 = .ok (.aload_n 0, 1) := dk_42 (dk_at dksX4_letters_2 8 rfl rfl)
theorem dX4_letters_56 : decode cX4_letters 56 = .ok (.aload_n 1, 1) := dk_43 (dk_at dksX4_letters_2 9 rfl rfl)
theorem dX4_letters_57 : decode cX4_letters 57 = .ok (.invokevirtual 71, 3) := dk_182 0 71 (dk_at dksX4_letters_2 10 rfl rfl)
theorem dX4_letters_60 : decode cX4_letters 60 = .ok (.putfield 75, 3) := dk_181 0 75 (dk_at dksX4_letters_2 13 rfl rfl)
theorem dX4_letters_63 : decode cX4_letters 63 = .ok (.aload_n 1, 1) := dk_43 (dk_at dksX4_letters_2 16 rfl rfl)
theorem dX4_letters_64 : decode cX4_letters 64 = .ok (.invokevirtual 63, 3) := dk_182 0 63 (dk_at dksX4_letters_2 17 rfl rfl)
theorem dX4_letters_67 : decode cX4_letters 67 = .ok (.bipush 7, 2) := dk_16 7 (dk_at dksX4_letters_2 20 rfl rfl)
theorem dX4_letters_69 : decode cX4_letters 69 = .ok (.if_icmp .ge 29, 3) := dk_162 0 29 (dk_at dksX4_letters_3 0 rfl rfl)
theorem dX4_letters_72 : decode cX4_letters 72 = .ok (.aload_n 0, 1) := dk_42 (dk_at dksX4_letters_3 3 rfl rfl)
theorem dX4_letters_73 : decode cX4_letters 73 = .ok (.aload_n 0, 1) := dk_42 (dk_at dksX4_letters_3 4 rfl rfl)
theorem dX4_letters_74 : decode cX4_letters 74 = .ok (.getfield 3, 3) := dk_180 0 3 (dk_at dksX4_letters_3 5 rfl rfl)
theorem dX4_letters_77 : decode cX4_letters 77 = .ok (.getfield 79, 3) := dk_180 0 79 (dk_at dksX4_letters_3 8 rfl rfl)
theorem dX4_letters_80 : decode cX4_letters 80 = .ok (.aload_n 0, 1) := dk_42 (dk_at dksX4_letters_3 11 rfl rfl)
theorem dX4_letters_81 : decode cX4_letters 81 = .ok (.getfield 75, 3) := dk_180 0 75 (dk_at dksX4_letters_3 12 rfl rfl)
theorem dX4_letters_84 : decode cX4_letters 84 = .ok (.invokestatic 83, 3) := dk_184 0 83 (dk_at dksX4_letters_3 15 rfl rfl)
theorem dX4_letters_87 : decode cX4_letters 87 = .ok (.ifCond .eq 7, 3) := dk_153 0 7 (dk_at dksX4_letters_3 18 rfl rfl)
theorem dX4_letters_90 : decode cX4_letters 90 = .ok (.iconst 3, 1) := dk_6 (dk_at dksX4_letters_3 21 rfl rfl)
theorem dX4_letters_91 : decode cX4_letters 91 = .ok (.goto 4, 3) := dk_167 0 4 (dk_at dksX4_letters_4 0 rfl rfl)
theorem dX4_letters_94 : decode cX4_letters 94 = .ok (.iconst 2, 1) := dk_5 (dk_at dksX4_letters_4 3 rfl rfl)
theorem dX4_letters_95 : decode cX4_letters 95 = .ok (.putfield 39, 3) := dk_181 0 39 (dk_at dksX4_letters_4 4 rfl rfl)
theorem dX4_letters_98 : decode cX4_letters 98 = .ok (.return_, 1) := dk_177 (dk_at dksX4_letters_4 7 rfl rfl)
abbrev cX4_isDigit : ByteArray := prog_29_method_5_code
def yX4_isDigit : MethodName := ⟨RX4, "isDigit", "(I)Z"⟩
def dkwX4_isDigit_0 : List UInt8 := [27, 16, 48, 161, 0, 13, 27, 16, 57, 163, 0, 7, 4, 167, 0, 4, 3, 172]
abbrev dktX4_isDigit_0 : List UInt8 := dkwX4_isDigit_0 ++ []
theorem dksX4_isDigit_0 : cX4_isDigit.data.toList.drop 0 = dktX4_isDigit_0 := by decide +kernel
theorem dX4_isDigit_0 : decode cX4_isDigit 0 = .ok (.iload_n 1, 1) := dk_27 (dk_at dksX4_isDigit_0 0 rfl rfl)
theorem dX4_isDigit_1 : decode cX4_isDigit 1 = .ok (.bipush 48, 2) := dk_16 48 (dk_at dksX4_isDigit_0 1 rfl rfl)
theorem dX4_isDigit_3 : decode cX4_isDigit 3 = .ok (.if_icmp .lt 13, 3) := dk_161 0 13 (dk_at dksX4_isDigit_0 3 rfl rfl)
theorem dX4_isDigit_6 : decode cX4_isDigit 6 = .ok (.iload_n 1, 1) := dk_27 (dk_at dksX4_isDigit_0 6 rfl rfl)
theorem dX4_isDigit_7 : decode cX4_isDigit 7 = .ok (.bipush 57, 2) := dk_16 57 (dk_at dksX4_isDigit_0 7 rfl rfl)
theorem dX4_isDigit_9 : decode cX4_isDigit 9 = .ok (.if_icmp .gt 7, 3) := dk_163 0 7 (dk_at dksX4_isDigit_0 9 rfl rfl)
theorem dX4_isDigit_12 : decode cX4_isDigit 12 = .ok (.iconst 1, 1) := dk_4 (dk_at dksX4_isDigit_0 12 rfl rfl)
theorem dX4_isDigit_13 : decode cX4_isDigit 13 = .ok (.goto 4, 3) := dk_167 0 4 (dk_at dksX4_isDigit_0 13 rfl rfl)
theorem dX4_isDigit_16 : decode cX4_isDigit 16 = .ok (.iconst 0, 1) := dk_3 (dk_at dksX4_isDigit_0 16 rfl rfl)
theorem dX4_isDigit_17 : decode cX4_isDigit 17 = .ok (.ireturn, 1) := dk_172 (dk_at dksX4_isDigit_0 17 rfl rfl)
abbrev cX4_digits : ByteArray := prog_29_method_9_code
def yX4_digits : MethodName := ⟨RX4, "digits", "()V"⟩
def dkwX4_digits_4 : List UInt8 := [182, 0, 90, 154, 0, 8, 42, 7, 181, 0, 39, 177]
abbrev dktX4_digits_4 : List UInt8 := dkwX4_digits_4 ++ []
def dkwX4_digits_3 : List UInt8 := [16, 7, 162, 0, 32, 42, 42, 3, 182, 0, 32, 182, 0, 42, 154, 0, 20, 42, 42, 3, 182, 0, 32]
abbrev dktX4_digits_3 : List UInt8 := dkwX4_digits_3 ++ dktX4_digits_4
def dkwX4_digits_2 : List UInt8 := [180, 0, 87, 181, 0, 87, 132, 1, 1, 42, 89, 180, 0, 15, 4, 96, 181, 0, 15, 167, 255, 198, 27]
abbrev dktX4_digits_2 : List UInt8 := dkwX4_digits_2 ++ dktX4_digits_3
def dkwX4_digits_1 : List UInt8 := [162, 0, 22, 16, 10, 42, 180, 0, 87, 104, 42, 3, 182, 0, 32, 96, 16, 48, 100, 167, 0, 7, 42]
abbrev dktX4_digits_1 : List UInt8 := dkwX4_digits_1 ++ dktX4_digits_2
def dkwX4_digits_0 : List UInt8 := [3, 60, 42, 3, 181, 0, 87, 42, 42, 3, 182, 0, 32, 182, 0, 49, 153, 0, 52, 42, 27, 16, 6]
abbrev dktX4_digits_0 : List UInt8 := dkwX4_digits_0 ++ dktX4_digits_1
theorem dksX4_digits_0 : cX4_digits.data.toList.drop 0 = dktX4_digits_0 := by decide +kernel
theorem dksX4_digits_1 : cX4_digits.data.toList.drop 23 = dktX4_digits_1 := dk_seg dksX4_digits_0 23 rfl rfl
theorem dksX4_digits_2 : cX4_digits.data.toList.drop 46 = dktX4_digits_2 := dk_seg dksX4_digits_1 23 rfl rfl
theorem dksX4_digits_3 : cX4_digits.data.toList.drop 69 = dktX4_digits_3 := dk_seg dksX4_digits_2 23 rfl rfl
theorem dksX4_digits_4 : cX4_digits.data.toList.drop 92 = dktX4_digits_4 := dk_seg dksX4_digits_3 23 rfl rfl
theorem dX4_digits_0 : decode cX4_digits 0 = .ok (.iconst 0, 1) := dk_3 (dk_at dksX4_digits_0 0 rfl rfl)
theorem dX4_digits_1 : decode cX4_digits 1 = .ok (.istore_n 1, 1) := dk_60 (dk_at dksX4_digits_0 1 rfl rfl)
theorem dX4_digits_2 : decode cX4_digits 2 = .ok (.aload_n 0, 1) := dk_42 (dk_at dksX4_digits_0 2 rfl rfl)
theorem dX4_digits_3 : decode cX4_digits 3 = .ok (.iconst 0, 1) := dk_3 (dk_at dksX4_digits_0 3 rfl rfl)
theorem dX4_digits_4 : decode cX4_digits 4 = .ok (.putfield 87, 3) := dk_181 0 87 (dk_at dksX4_digits_0 4 rfl rfl)
theorem dX4_digits_7 : decode cX4_digits 7 = .ok (.aload_n 0, 1) := dk_42 (dk_at dksX4_digits_0 7 rfl rfl)
theorem dX4_digits_8 : decode cX4_digits 8 = .ok (.aload_n 0, 1) := dk_42 (dk_at dksX4_digits_0 8 rfl rfl)
theorem dX4_digits_9 : decode cX4_digits 9 = .ok (.iconst 0, 1) := dk_3 (dk_at dksX4_digits_0 9 rfl rfl)
theorem dX4_digits_10 : decode cX4_digits 10 = .ok (.invokevirtual 32, 3) := dk_182 0 32 (dk_at dksX4_digits_0 10 rfl rfl)
theorem dX4_digits_13 : decode cX4_digits 13 = .ok (.invokevirtual 49, 3) := dk_182 0 49 (dk_at dksX4_digits_0 13 rfl rfl)
theorem dX4_digits_16 : decode cX4_digits 16 = .ok (.ifCond .eq 52, 3) := dk_153 0 52 (dk_at dksX4_digits_0 16 rfl rfl)
theorem dX4_digits_19 : decode cX4_digits 19 = .ok (.aload_n 0, 1) := dk_42 (dk_at dksX4_digits_0 19 rfl rfl)
theorem dX4_digits_20 : decode cX4_digits 20 = .ok (.iload_n 1, 1) := dk_27 (dk_at dksX4_digits_0 20 rfl rfl)
theorem dX4_digits_21 : decode cX4_digits 21 = .ok (.bipush 6, 2) := dk_16 6 (dk_at dksX4_digits_0 21 rfl rfl)
theorem dX4_digits_23 : decode cX4_digits 23 = .ok (.if_icmp .ge 22, 3) := dk_162 0 22 (dk_at dksX4_digits_1 0 rfl rfl)
theorem dX4_digits_26 : decode cX4_digits 26 = .ok (.bipush 10, 2) := dk_16 10 (dk_at dksX4_digits_1 3 rfl rfl)
theorem dX4_digits_28 : decode cX4_digits 28 = .ok (.aload_n 0, 1) := dk_42 (dk_at dksX4_digits_1 5 rfl rfl)
theorem dX4_digits_29 : decode cX4_digits 29 = .ok (.getfield 87, 3) := dk_180 0 87 (dk_at dksX4_digits_1 6 rfl rfl)
theorem dX4_digits_32 : decode cX4_digits 32 = .ok (.imul, 1) := dk_104 (dk_at dksX4_digits_1 9 rfl rfl)
theorem dX4_digits_33 : decode cX4_digits 33 = .ok (.aload_n 0, 1) := dk_42 (dk_at dksX4_digits_1 10 rfl rfl)
theorem dX4_digits_34 : decode cX4_digits 34 = .ok (.iconst 0, 1) := dk_3 (dk_at dksX4_digits_1 11 rfl rfl)
theorem dX4_digits_35 : decode cX4_digits 35 = .ok (.invokevirtual 32, 3) := dk_182 0 32 (dk_at dksX4_digits_1 12 rfl rfl)
theorem dX4_digits_38 : decode cX4_digits 38 = .ok (.iadd, 1) := dk_96 (dk_at dksX4_digits_1 15 rfl rfl)
theorem dX4_digits_39 : decode cX4_digits 39 = .ok (.bipush 48, 2) := dk_16 48 (dk_at dksX4_digits_1 16 rfl rfl)
theorem dX4_digits_41 : decode cX4_digits 41 = .ok (.isub, 1) := dk_100 (dk_at dksX4_digits_1 18 rfl rfl)
theorem dX4_digits_42 : decode cX4_digits 42 = .ok (.goto 7, 3) := dk_167 0 7 (dk_at dksX4_digits_1 19 rfl rfl)
theorem dX4_digits_45 : decode cX4_digits 45 = .ok (.aload_n 0, 1) := dk_42 (dk_at dksX4_digits_1 22 rfl rfl)
theorem dX4_digits_46 : decode cX4_digits 46 = .ok (.getfield 87, 3) := dk_180 0 87 (dk_at dksX4_digits_2 0 rfl rfl)
theorem dX4_digits_49 : decode cX4_digits 49 = .ok (.putfield 87, 3) := dk_181 0 87 (dk_at dksX4_digits_2 3 rfl rfl)
theorem dX4_digits_52 : decode cX4_digits 52 = .ok (.iinc 1 1, 3) := dk_132 1 1 (dk_at dksX4_digits_2 6 rfl rfl)
theorem dX4_digits_55 : decode cX4_digits 55 = .ok (.aload_n 0, 1) := dk_42 (dk_at dksX4_digits_2 9 rfl rfl)
theorem dX4_digits_56 : decode cX4_digits 56 = .ok (.dup, 1) := dk_89 (dk_at dksX4_digits_2 10 rfl rfl)
theorem dX4_digits_57 : decode cX4_digits 57 = .ok (.getfield 15, 3) := dk_180 0 15 (dk_at dksX4_digits_2 11 rfl rfl)
theorem dX4_digits_60 : decode cX4_digits 60 = .ok (.iconst 1, 1) := dk_4 (dk_at dksX4_digits_2 14 rfl rfl)
theorem dX4_digits_61 : decode cX4_digits 61 = .ok (.iadd, 1) := dk_96 (dk_at dksX4_digits_2 15 rfl rfl)
theorem dX4_digits_62 : decode cX4_digits 62 = .ok (.putfield 15, 3) := dk_181 0 15 (dk_at dksX4_digits_2 16 rfl rfl)
theorem dX4_digits_65 : decode cX4_digits 65 = .ok (.goto (-58), 3) := dk_167 255 198 (dk_at dksX4_digits_2 19 rfl rfl)
theorem dX4_digits_68 : decode cX4_digits 68 = .ok (.iload_n 1, 1) := dk_27 (dk_at dksX4_digits_2 22 rfl rfl)
theorem dX4_digits_69 : decode cX4_digits 69 = .ok (.bipush 7, 2) := dk_16 7 (dk_at dksX4_digits_3 0 rfl rfl)
theorem dX4_digits_71 : decode cX4_digits 71 = .ok (.if_icmp .ge 32, 3) := dk_162 0 32 (dk_at dksX4_digits_3 2 rfl rfl)
theorem dX4_digits_74 : decode cX4_digits 74 = .ok (.aload_n 0, 1) := dk_42 (dk_at dksX4_digits_3 5 rfl rfl)
theorem dX4_digits_75 : decode cX4_digits 75 = .ok (.aload_n 0, 1) := dk_42 (dk_at dksX4_digits_3 6 rfl rfl)
theorem dX4_digits_76 : decode cX4_digits 76 = .ok (.iconst 0, 1) := dk_3 (dk_at dksX4_digits_3 7 rfl rfl)
theorem dX4_digits_77 : decode cX4_digits 77 = .ok (.invokevirtual 32, 3) := dk_182 0 32 (dk_at dksX4_digits_3 8 rfl rfl)
theorem dX4_digits_80 : decode cX4_digits 80 = .ok (.invokevirtual 42, 3) := dk_182 0 42 (dk_at dksX4_digits_3 11 rfl rfl)
theorem dX4_digits_83 : decode cX4_digits 83 = .ok (.ifCond .ne 20, 3) := dk_154 0 20 (dk_at dksX4_digits_3 14 rfl rfl)
theorem dX4_digits_86 : decode cX4_digits 86 = .ok (.aload_n 0, 1) := dk_42 (dk_at dksX4_digits_3 17 rfl rfl)
theorem dX4_digits_87 : decode cX4_digits 87 = .ok (.aload_n 0, 1) := dk_42 (dk_at dksX4_digits_3 18 rfl rfl)
theorem dX4_digits_88 : decode cX4_digits 88 = .ok (.iconst 0, 1) := dk_3 (dk_at dksX4_digits_3 19 rfl rfl)
theorem dX4_digits_89 : decode cX4_digits 89 = .ok (.invokevirtual 32, 3) := dk_182 0 32 (dk_at dksX4_digits_3 20 rfl rfl)
theorem dX4_digits_92 : decode cX4_digits 92 = .ok (.invokevirtual 90, 3) := dk_182 0 90 (dk_at dksX4_digits_4 0 rfl rfl)
theorem dX4_digits_95 : decode cX4_digits 95 = .ok (.ifCond .ne 8, 3) := dk_154 0 8 (dk_at dksX4_digits_4 3 rfl rfl)
theorem dX4_digits_98 : decode cX4_digits 98 = .ok (.aload_n 0, 1) := dk_42 (dk_at dksX4_digits_4 6 rfl rfl)
theorem dX4_digits_99 : decode cX4_digits 99 = .ok (.iconst 4, 1) := dk_7 (dk_at dksX4_digits_4 7 rfl rfl)
theorem dX4_digits_100 : decode cX4_digits 100 = .ok (.putfield 39, 3) := dk_181 0 39 (dk_at dksX4_digits_4 8 rfl rfl)
theorem dX4_digits_103 : decode cX4_digits 103 = .ok (.return_, 1) := dk_177 (dk_at dksX4_digits_4 11 rfl rfl)
abbrev cX4_isGreat : ByteArray := prog_29_method_4_code
def yX4_isGreat : MethodName := ⟨RX4, "isGreat", "(I)Z"⟩
def dkwX4_isGreat_0 : List UInt8 := [27, 16, 65, 161, 0, 13, 27, 16, 90, 163, 0, 7, 4, 167, 0, 4, 3, 172]
abbrev dktX4_isGreat_0 : List UInt8 := dkwX4_isGreat_0 ++ []
theorem dksX4_isGreat_0 : cX4_isGreat.data.toList.drop 0 = dktX4_isGreat_0 := by decide +kernel
theorem dX4_isGreat_0 : decode cX4_isGreat 0 = .ok (.iload_n 1, 1) := dk_27 (dk_at dksX4_isGreat_0 0 rfl rfl)
theorem dX4_isGreat_1 : decode cX4_isGreat 1 = .ok (.bipush 65, 2) := dk_16 65 (dk_at dksX4_isGreat_0 1 rfl rfl)
theorem dX4_isGreat_3 : decode cX4_isGreat 3 = .ok (.if_icmp .lt 13, 3) := dk_161 0 13 (dk_at dksX4_isGreat_0 3 rfl rfl)
theorem dX4_isGreat_6 : decode cX4_isGreat 6 = .ok (.iload_n 1, 1) := dk_27 (dk_at dksX4_isGreat_0 6 rfl rfl)
theorem dX4_isGreat_7 : decode cX4_isGreat 7 = .ok (.bipush 90, 2) := dk_16 90 (dk_at dksX4_isGreat_0 7 rfl rfl)
theorem dX4_isGreat_9 : decode cX4_isGreat 9 = .ok (.if_icmp .gt 7, 3) := dk_163 0 7 (dk_at dksX4_isGreat_0 9 rfl rfl)
theorem dX4_isGreat_12 : decode cX4_isGreat 12 = .ok (.iconst 1, 1) := dk_4 (dk_at dksX4_isGreat_0 12 rfl rfl)
theorem dX4_isGreat_13 : decode cX4_isGreat 13 = .ok (.goto 4, 3) := dk_167 0 4 (dk_at dksX4_isGreat_0 13 rfl rfl)
theorem dX4_isGreat_16 : decode cX4_isGreat 16 = .ok (.iconst 0, 1) := dk_3 (dk_at dksX4_isGreat_0 16 rfl rfl)
theorem dX4_isGreat_17 : decode cX4_isGreat 17 = .ok (.ireturn, 1) := dk_172 (dk_at dksX4_isGreat_0 17 rfl rfl)
abbrev cX4_sign : ByteArray := prog_29_method_10_code
def yX4_sign : MethodName := ⟨RX4, "sign", "(I)V"⟩
def dkwX4_sign_2 : List UInt8 := [181, 0, 87, 42, 89, 180, 0, 15, 28, 153, 0, 7, 5, 167, 0, 4, 4, 96, 181, 0, 15, 177]
abbrev dktX4_sign_2 : List UInt8 := dkwX4_sign_2 ++ []
def dkwX4_sign_1 : List UInt8 := [27, 182, 0, 95, 155, 0, 8, 42, 8, 181, 0, 39, 42, 28, 153, 0, 9, 17, 1, 0, 167, 0, 4, 27]
abbrev dktX4_sign_1 : List UInt8 := dkwX4_sign_1 ++ dktX4_sign_2
def dkwX4_sign_0 : List UInt8 := [27, 16, 61, 160, 0, 17, 42, 4, 182, 0, 32, 16, 61, 160, 0, 7, 4, 167, 0, 4, 3, 61, 18, 93]
abbrev dktX4_sign_0 : List UInt8 := dkwX4_sign_0 ++ dktX4_sign_1
theorem dksX4_sign_0 : cX4_sign.data.toList.drop 0 = dktX4_sign_0 := by decide +kernel
theorem dksX4_sign_1 : cX4_sign.data.toList.drop 24 = dktX4_sign_1 := dk_seg dksX4_sign_0 24 rfl rfl
theorem dksX4_sign_2 : cX4_sign.data.toList.drop 48 = dktX4_sign_2 := dk_seg dksX4_sign_1 24 rfl rfl
theorem dX4_sign_0 : decode cX4_sign 0 = .ok (.iload_n 1, 1) := dk_27 (dk_at dksX4_sign_0 0 rfl rfl)
theorem dX4_sign_1 : decode cX4_sign 1 = .ok (.bipush 61, 2) := dk_16 61 (dk_at dksX4_sign_0 1 rfl rfl)
theorem dX4_sign_3 : decode cX4_sign 3 = .ok (.if_icmp .ne 17, 3) := dk_160 0 17 (dk_at dksX4_sign_0 3 rfl rfl)
theorem dX4_sign_6 : decode cX4_sign 6 = .ok (.aload_n 0, 1) := dk_42 (dk_at dksX4_sign_0 6 rfl rfl)
theorem dX4_sign_7 : decode cX4_sign 7 = .ok (.iconst 1, 1) := dk_4 (dk_at dksX4_sign_0 7 rfl rfl)
theorem dX4_sign_8 : decode cX4_sign 8 = .ok (.invokevirtual 32, 3) := dk_182 0 32 (dk_at dksX4_sign_0 8 rfl rfl)
theorem dX4_sign_11 : decode cX4_sign 11 = .ok (.bipush 61, 2) := dk_16 61 (dk_at dksX4_sign_0 11 rfl rfl)
theorem dX4_sign_13 : decode cX4_sign 13 = .ok (.if_icmp .ne 7, 3) := dk_160 0 7 (dk_at dksX4_sign_0 13 rfl rfl)
theorem dX4_sign_16 : decode cX4_sign 16 = .ok (.iconst 1, 1) := dk_4 (dk_at dksX4_sign_0 16 rfl rfl)
theorem dX4_sign_17 : decode cX4_sign 17 = .ok (.goto 4, 3) := dk_167 0 4 (dk_at dksX4_sign_0 17 rfl rfl)
theorem dX4_sign_20 : decode cX4_sign 20 = .ok (.iconst 0, 1) := dk_3 (dk_at dksX4_sign_0 20 rfl rfl)
theorem dX4_sign_21 : decode cX4_sign 21 = .ok (.istore_n 2, 1) := dk_61 (dk_at dksX4_sign_0 21 rfl rfl)
theorem dX4_sign_22 : decode cX4_sign 22 = .ok (.ldc 93, 2) := dk_18 93 (dk_at dksX4_sign_0 22 rfl rfl)
theorem dX4_sign_24 : decode cX4_sign 24 = .ok (.iload_n 1, 1) := dk_27 (dk_at dksX4_sign_1 0 rfl rfl)
theorem dX4_sign_25 : decode cX4_sign 25 = .ok (.invokevirtual 95, 3) := dk_182 0 95 (dk_at dksX4_sign_1 1 rfl rfl)
theorem dX4_sign_28 : decode cX4_sign 28 = .ok (.ifCond .lt 8, 3) := dk_155 0 8 (dk_at dksX4_sign_1 4 rfl rfl)
theorem dX4_sign_31 : decode cX4_sign 31 = .ok (.aload_n 0, 1) := dk_42 (dk_at dksX4_sign_1 7 rfl rfl)
theorem dX4_sign_32 : decode cX4_sign 32 = .ok (.iconst 5, 1) := dk_8 (dk_at dksX4_sign_1 8 rfl rfl)
theorem dX4_sign_33 : decode cX4_sign 33 = .ok (.putfield 39, 3) := dk_181 0 39 (dk_at dksX4_sign_1 9 rfl rfl)
theorem dX4_sign_36 : decode cX4_sign 36 = .ok (.aload_n 0, 1) := dk_42 (dk_at dksX4_sign_1 12 rfl rfl)
theorem dX4_sign_37 : decode cX4_sign 37 = .ok (.iload_n 2, 1) := dk_28 (dk_at dksX4_sign_1 13 rfl rfl)
theorem dX4_sign_38 : decode cX4_sign 38 = .ok (.ifCond .eq 9, 3) := dk_153 0 9 (dk_at dksX4_sign_1 14 rfl rfl)
theorem dX4_sign_41 : decode cX4_sign 41 = .ok (.sipush 256, 3) := dk_17 1 0 (dk_at dksX4_sign_1 17 rfl rfl)
theorem dX4_sign_44 : decode cX4_sign 44 = .ok (.goto 4, 3) := dk_167 0 4 (dk_at dksX4_sign_1 20 rfl rfl)
theorem dX4_sign_47 : decode cX4_sign 47 = .ok (.iload_n 1, 1) := dk_27 (dk_at dksX4_sign_1 23 rfl rfl)
theorem dX4_sign_48 : decode cX4_sign 48 = .ok (.putfield 87, 3) := dk_181 0 87 (dk_at dksX4_sign_2 0 rfl rfl)
theorem dX4_sign_51 : decode cX4_sign 51 = .ok (.aload_n 0, 1) := dk_42 (dk_at dksX4_sign_2 3 rfl rfl)
theorem dX4_sign_52 : decode cX4_sign 52 = .ok (.dup, 1) := dk_89 (dk_at dksX4_sign_2 4 rfl rfl)
theorem dX4_sign_53 : decode cX4_sign 53 = .ok (.getfield 15, 3) := dk_180 0 15 (dk_at dksX4_sign_2 5 rfl rfl)
theorem dX4_sign_56 : decode cX4_sign 56 = .ok (.iload_n 2, 1) := dk_28 (dk_at dksX4_sign_2 8 rfl rfl)
theorem dX4_sign_57 : decode cX4_sign 57 = .ok (.ifCond .eq 7, 3) := dk_153 0 7 (dk_at dksX4_sign_2 9 rfl rfl)
theorem dX4_sign_60 : decode cX4_sign 60 = .ok (.iconst 2, 1) := dk_5 (dk_at dksX4_sign_2 12 rfl rfl)
theorem dX4_sign_61 : decode cX4_sign 61 = .ok (.goto 4, 3) := dk_167 0 4 (dk_at dksX4_sign_2 13 rfl rfl)
theorem dX4_sign_64 : decode cX4_sign 64 = .ok (.iconst 1, 1) := dk_4 (dk_at dksX4_sign_2 16 rfl rfl)
theorem dX4_sign_65 : decode cX4_sign 65 = .ok (.iadd, 1) := dk_96 (dk_at dksX4_sign_2 17 rfl rfl)
theorem dX4_sign_66 : decode cX4_sign 66 = .ok (.putfield 15, 3) := dk_181 0 15 (dk_at dksX4_sign_2 18 rfl rfl)
theorem dX4_sign_69 : decode cX4_sign 69 = .ok (.return_, 1) := dk_177 (dk_at dksX4_sign_2 21 rfl rfl)
abbrev cX4_takesName : ByteArray := prog_29_method_18_code
def yX4_takesName : MethodName := ⟨RX4, "takesName", "()I"⟩
def dkwX4_takesName_0 : List UInt8 := [42, 182, 0, 126, 60, 42, 182, 0, 29, 27, 172]
abbrev dktX4_takesName_0 : List UInt8 := dkwX4_takesName_0 ++ []
theorem dksX4_takesName_0 : cX4_takesName.data.toList.drop 0 = dktX4_takesName_0 := by decide +kernel
theorem dX4_takesName_0 : decode cX4_takesName 0 = .ok (.aload_n 0, 1) := dk_42 (dk_at dksX4_takesName_0 0 rfl rfl)
theorem dX4_takesName_1 : decode cX4_takesName 1 = .ok (.invokevirtual 126, 3) := dk_182 0 126 (dk_at dksX4_takesName_0 1 rfl rfl)
theorem dX4_takesName_4 : decode cX4_takesName 4 = .ok (.istore_n 1, 1) := dk_60 (dk_at dksX4_takesName_0 4 rfl rfl)
theorem dX4_takesName_5 : decode cX4_takesName 5 = .ok (.aload_n 0, 1) := dk_42 (dk_at dksX4_takesName_0 5 rfl rfl)
theorem dX4_takesName_6 : decode cX4_takesName 6 = .ok (.invokevirtual 29, 3) := dk_182 0 29 (dk_at dksX4_takesName_0 6 rfl rfl)
theorem dX4_takesName_9 : decode cX4_takesName 9 = .ok (.iload_n 1, 1) := dk_27 (dk_at dksX4_takesName_0 9 rfl rfl)
theorem dX4_takesName_10 : decode cX4_takesName 10 = .ok (.ireturn, 1) := dk_172 (dk_at dksX4_takesName_0 10 rfl rfl)
abbrev cX4_name : ByteArray := prog_29_method_17_code
def yX4_name : MethodName := ⟨RX4, "name", "()I"⟩
def dkwX4_name_1 : List UInt8 := [60, 27, 2, 160, 0, 16, 42, 180, 0, 3, 6, 42, 180, 0, 36, 182, 0, 100, 191, 27, 172]
abbrev dktX4_name_1 : List UInt8 := dkwX4_name_1 ++ []
def dkwX4_name_0 : List UInt8 := [42, 180, 0, 39, 5, 159, 0, 8, 42, 182, 0, 114, 191, 42, 180, 0, 3, 42, 180, 0, 75, 182, 0, 122]
abbrev dktX4_name_0 : List UInt8 := dkwX4_name_0 ++ dktX4_name_1
theorem dksX4_name_0 : cX4_name.data.toList.drop 0 = dktX4_name_0 := by decide +kernel
theorem dksX4_name_1 : cX4_name.data.toList.drop 24 = dktX4_name_1 := dk_seg dksX4_name_0 24 rfl rfl
theorem dX4_name_0 : decode cX4_name 0 = .ok (.aload_n 0, 1) := dk_42 (dk_at dksX4_name_0 0 rfl rfl)
theorem dX4_name_1 : decode cX4_name 1 = .ok (.getfield 39, 3) := dk_180 0 39 (dk_at dksX4_name_0 1 rfl rfl)
theorem dX4_name_4 : decode cX4_name 4 = .ok (.iconst 2, 1) := dk_5 (dk_at dksX4_name_0 4 rfl rfl)
theorem dX4_name_5 : decode cX4_name 5 = .ok (.if_icmp .eq 8, 3) := dk_159 0 8 (dk_at dksX4_name_0 5 rfl rfl)
theorem dX4_name_8 : decode cX4_name 8 = .ok (.aload_n 0, 1) := dk_42 (dk_at dksX4_name_0 8 rfl rfl)
theorem dX4_name_9 : decode cX4_name 9 = .ok (.invokevirtual 114, 3) := dk_182 0 114 (dk_at dksX4_name_0 9 rfl rfl)
theorem dX4_name_12 : decode cX4_name 12 = .ok (.athrow, 1) := dk_191 (dk_at dksX4_name_0 12 rfl rfl)
theorem dX4_name_13 : decode cX4_name 13 = .ok (.aload_n 0, 1) := dk_42 (dk_at dksX4_name_0 13 rfl rfl)
theorem dX4_name_14 : decode cX4_name 14 = .ok (.getfield 3, 3) := dk_180 0 3 (dk_at dksX4_name_0 14 rfl rfl)
theorem dX4_name_17 : decode cX4_name 17 = .ok (.aload_n 0, 1) := dk_42 (dk_at dksX4_name_0 17 rfl rfl)
theorem dX4_name_18 : decode cX4_name 18 = .ok (.getfield 75, 3) := dk_180 0 75 (dk_at dksX4_name_0 18 rfl rfl)
theorem dX4_name_21 : decode cX4_name 21 = .ok (.invokevirtual 122, 3) := dk_182 0 122 (dk_at dksX4_name_0 21 rfl rfl)
theorem dX4_name_24 : decode cX4_name 24 = .ok (.istore_n 1, 1) := dk_60 (dk_at dksX4_name_1 0 rfl rfl)
theorem dX4_name_25 : decode cX4_name 25 = .ok (.iload_n 1, 1) := dk_27 (dk_at dksX4_name_1 1 rfl rfl)
theorem dX4_name_26 : decode cX4_name 26 = .ok (.iconst (-1), 1) := dk_2 (dk_at dksX4_name_1 2 rfl rfl)
theorem dX4_name_27 : decode cX4_name 27 = .ok (.if_icmp .ne 16, 3) := dk_160 0 16 (dk_at dksX4_name_1 3 rfl rfl)
theorem dX4_name_30 : decode cX4_name 30 = .ok (.aload_n 0, 1) := dk_42 (dk_at dksX4_name_1 6 rfl rfl)
theorem dX4_name_31 : decode cX4_name 31 = .ok (.getfield 3, 3) := dk_180 0 3 (dk_at dksX4_name_1 7 rfl rfl)
theorem dX4_name_34 : decode cX4_name 34 = .ok (.iconst 3, 1) := dk_6 (dk_at dksX4_name_1 10 rfl rfl)
theorem dX4_name_35 : decode cX4_name 35 = .ok (.aload_n 0, 1) := dk_42 (dk_at dksX4_name_1 11 rfl rfl)
theorem dX4_name_36 : decode cX4_name 36 = .ok (.getfield 36, 3) := dk_180 0 36 (dk_at dksX4_name_1 12 rfl rfl)
theorem dX4_name_39 : decode cX4_name 39 = .ok (.invokevirtual 100, 3) := dk_182 0 100 (dk_at dksX4_name_1 15 rfl rfl)
theorem dX4_name_42 : decode cX4_name 42 = .ok (.athrow, 1) := dk_191 (dk_at dksX4_name_1 18 rfl rfl)
theorem dX4_name_43 : decode cX4_name 43 = .ok (.iload_n 1, 1) := dk_27 (dk_at dksX4_name_1 19 rfl rfl)
theorem dX4_name_44 : decode cX4_name 44 = .ok (.ireturn, 1) := dk_172 (dk_at dksX4_name_1 20 rfl rfl)
abbrev cX4_bad : ByteArray := prog_29_method_11_code
def yX4_bad : MethodName := ⟨RX4, "bad", "()LPondHouse$Fault;"⟩
def dkwX4_bad_0 : List UInt8 := [42, 180, 0, 3, 4, 42, 180, 0, 36, 182, 0, 100, 176]
abbrev dktX4_bad_0 : List UInt8 := dkwX4_bad_0 ++ []
theorem dksX4_bad_0 : cX4_bad.data.toList.drop 0 = dktX4_bad_0 := by decide +kernel
theorem dX4_bad_0 : decode cX4_bad 0 = .ok (.aload_n 0, 1) := dk_42 (dk_at dksX4_bad_0 0 rfl rfl)
theorem dX4_bad_1 : decode cX4_bad 1 = .ok (.getfield 3, 3) := dk_180 0 3 (dk_at dksX4_bad_0 1 rfl rfl)
theorem dX4_bad_4 : decode cX4_bad 4 = .ok (.iconst 1, 1) := dk_4 (dk_at dksX4_bad_0 4 rfl rfl)
theorem dX4_bad_5 : decode cX4_bad 5 = .ok (.aload_n 0, 1) := dk_42 (dk_at dksX4_bad_0 5 rfl rfl)
theorem dX4_bad_6 : decode cX4_bad 6 = .ok (.getfield 36, 3) := dk_180 0 36 (dk_at dksX4_bad_0 6 rfl rfl)
theorem dX4_bad_9 : decode cX4_bad 9 = .ok (.invokevirtual 100, 3) := dk_182 0 100 (dk_at dksX4_bad_0 9 rfl rfl)
theorem dX4_bad_12 : decode cX4_bad 12 = .ok (.areturn, 1) := dk_176 (dk_at dksX4_bad_0 12 rfl rfl)
abbrev cX4_pond : ByteArray := prog_29_method_33_code
def yX4_pond : MethodName := ⟨RX4, "pond", "()LPondHouse$Row;"⟩
def dkwX4_pond_5 : List UInt8 := [182, 1, 61, 182, 1, 65, 167, 255, 239, 42, 16, 125, 182, 0, 177, 42, 180, 0, 39, 154, 255, 134, 43, 176]
abbrev dktX4_pond_5 : List UInt8 := dkwX4_pond_5 ++ []
def dkwX4_pond_4 : List UInt8 := [78, 43, 45, 182, 1, 55, 42, 16, 123, 182, 0, 177, 42, 182, 1, 58, 153, 0, 16, 45, 42, 45, 43]
abbrev dktX4_pond_4 : List UInt8 := dkwX4_pond_4 ++ dktX4_pond_5
def dkwX4_pond_3 : List UInt8 := [180, 0, 36, 182, 0, 100, 191, 42, 182, 0, 29, 187, 1, 12, 89, 28, 42, 43, 182, 1, 48, 183, 1, 52]
abbrev dktX4_pond_3 : List UInt8 := dkwX4_pond_3 ++ dktX4_pond_4
def dkwX4_pond_2 : List UInt8 := [180, 0, 36, 182, 0, 100, 191, 43, 182, 1, 45, 16, 12, 160, 0, 16, 42, 180, 0, 3, 8, 42]
abbrev dktX4_pond_2 : List UInt8 := dkwX4_pond_2 ++ dktX4_pond_3
def dkwX4_pond_1 : List UInt8 := [182, 0, 114, 191, 42, 182, 0, 126, 61, 43, 28, 184, 1, 33, 198, 0, 16, 42, 180, 0, 3, 7, 42]
abbrev dktX4_pond_1 : List UInt8 := dkwX4_pond_1 ++ dktX4_pond_2
def dkwX4_pond_0 : List UInt8 := [42, 182, 1, 37, 187, 1, 40, 89, 183, 1, 42, 76, 42, 19, 1, 43, 182, 0, 161, 154, 0, 8, 42]
abbrev dktX4_pond_0 : List UInt8 := dkwX4_pond_0 ++ dktX4_pond_1
theorem dksX4_pond_0 : cX4_pond.data.toList.drop 0 = dktX4_pond_0 := by decide +kernel
theorem dksX4_pond_1 : cX4_pond.data.toList.drop 23 = dktX4_pond_1 := dk_seg dksX4_pond_0 23 rfl rfl
theorem dksX4_pond_2 : cX4_pond.data.toList.drop 46 = dktX4_pond_2 := dk_seg dksX4_pond_1 23 rfl rfl
theorem dksX4_pond_3 : cX4_pond.data.toList.drop 68 = dktX4_pond_3 := dk_seg dksX4_pond_2 22 rfl rfl
theorem dksX4_pond_4 : cX4_pond.data.toList.drop 92 = dktX4_pond_4 := dk_seg dksX4_pond_3 24 rfl rfl
theorem dksX4_pond_5 : cX4_pond.data.toList.drop 115 = dktX4_pond_5 := dk_seg dksX4_pond_4 23 rfl rfl
theorem dX4_pond_0 : decode cX4_pond 0 = .ok (.aload_n 0, 1) := dk_42 (dk_at dksX4_pond_0 0 rfl rfl)
theorem dX4_pond_1 : decode cX4_pond 1 = .ok (.invokevirtual 293, 3) := dk_182 1 37 (dk_at dksX4_pond_0 1 rfl rfl)
theorem dX4_pond_4 : decode cX4_pond 4 = .ok (.new 296, 3) := dk_187 1 40 (dk_at dksX4_pond_0 4 rfl rfl)
theorem dX4_pond_7 : decode cX4_pond 7 = .ok (.dup, 1) := dk_89 (dk_at dksX4_pond_0 7 rfl rfl)
theorem dX4_pond_8 : decode cX4_pond 8 = .ok (.invokespecial 298, 3) := dk_183 1 42 (dk_at dksX4_pond_0 8 rfl rfl)
theorem dX4_pond_11 : decode cX4_pond 11 = .ok (.astore_n 1, 1) := dk_76 (dk_at dksX4_pond_0 11 rfl rfl)
theorem dX4_pond_12 : decode cX4_pond 12 = .ok (.aload_n 0, 1) := dk_42 (dk_at dksX4_pond_0 12 rfl rfl)
theorem dX4_pond_13 : decode cX4_pond 13 = .ok (.ldc_w 299, 3) := dk_19 1 43 (dk_at dksX4_pond_0 13 rfl rfl)
theorem dX4_pond_16 : decode cX4_pond 16 = .ok (.invokevirtual 161, 3) := dk_182 0 161 (dk_at dksX4_pond_0 16 rfl rfl)
theorem dX4_pond_19 : decode cX4_pond 19 = .ok (.ifCond .ne 8, 3) := dk_154 0 8 (dk_at dksX4_pond_0 19 rfl rfl)
theorem dX4_pond_22 : decode cX4_pond 22 = .ok (.aload_n 0, 1) := dk_42 (dk_at dksX4_pond_0 22 rfl rfl)
theorem dX4_pond_23 : decode cX4_pond 23 = .ok (.invokevirtual 114, 3) := dk_182 0 114 (dk_at dksX4_pond_1 0 rfl rfl)
theorem dX4_pond_26 : decode cX4_pond 26 = .ok (.athrow, 1) := dk_191 (dk_at dksX4_pond_1 3 rfl rfl)
theorem dX4_pond_27 : decode cX4_pond 27 = .ok (.aload_n 0, 1) := dk_42 (dk_at dksX4_pond_1 4 rfl rfl)
theorem dX4_pond_28 : decode cX4_pond 28 = .ok (.invokevirtual 126, 3) := dk_182 0 126 (dk_at dksX4_pond_1 5 rfl rfl)
theorem dX4_pond_31 : decode cX4_pond 31 = .ok (.istore_n 2, 1) := dk_61 (dk_at dksX4_pond_1 8 rfl rfl)
theorem dX4_pond_32 : decode cX4_pond 32 = .ok (.aload_n 1, 1) := dk_43 (dk_at dksX4_pond_1 9 rfl rfl)
theorem dX4_pond_33 : decode cX4_pond 33 = .ok (.iload_n 2, 1) := dk_28 (dk_at dksX4_pond_1 10 rfl rfl)
theorem dX4_pond_34 : decode cX4_pond 34 = .ok (.invokestatic 289, 3) := dk_184 1 33 (dk_at dksX4_pond_1 11 rfl rfl)
theorem dX4_pond_37 : decode cX4_pond 37 = .ok (.ifnull 16, 3) := dk_198 0 16 (dk_at dksX4_pond_1 14 rfl rfl)
theorem dX4_pond_40 : decode cX4_pond 40 = .ok (.aload_n 0, 1) := dk_42 (dk_at dksX4_pond_1 17 rfl rfl)
theorem dX4_pond_41 : decode cX4_pond 41 = .ok (.getfield 3, 3) := dk_180 0 3 (dk_at dksX4_pond_1 18 rfl rfl)
theorem dX4_pond_44 : decode cX4_pond 44 = .ok (.iconst 4, 1) := dk_7 (dk_at dksX4_pond_1 21 rfl rfl)
theorem dX4_pond_45 : decode cX4_pond 45 = .ok (.aload_n 0, 1) := dk_42 (dk_at dksX4_pond_1 22 rfl rfl)
theorem dX4_pond_46 : decode cX4_pond 46 = .ok (.getfield 36, 3) := dk_180 0 36 (dk_at dksX4_pond_2 0 rfl rfl)
theorem dX4_pond_49 : decode cX4_pond 49 = .ok (.invokevirtual 100, 3) := dk_182 0 100 (dk_at dksX4_pond_2 3 rfl rfl)
theorem dX4_pond_52 : decode cX4_pond 52 = .ok (.athrow, 1) := dk_191 (dk_at dksX4_pond_2 6 rfl rfl)
theorem dX4_pond_53 : decode cX4_pond 53 = .ok (.aload_n 1, 1) := dk_43 (dk_at dksX4_pond_2 7 rfl rfl)
theorem dX4_pond_54 : decode cX4_pond 54 = .ok (.invokevirtual 301, 3) := dk_182 1 45 (dk_at dksX4_pond_2 8 rfl rfl)
theorem dX4_pond_57 : decode cX4_pond 57 = .ok (.bipush 12, 2) := dk_16 12 (dk_at dksX4_pond_2 11 rfl rfl)
theorem dX4_pond_59 : decode cX4_pond 59 = .ok (.if_icmp .ne 16, 3) := dk_160 0 16 (dk_at dksX4_pond_2 13 rfl rfl)
theorem dX4_pond_62 : decode cX4_pond 62 = .ok (.aload_n 0, 1) := dk_42 (dk_at dksX4_pond_2 16 rfl rfl)
theorem dX4_pond_63 : decode cX4_pond 63 = .ok (.getfield 3, 3) := dk_180 0 3 (dk_at dksX4_pond_2 17 rfl rfl)
theorem dX4_pond_66 : decode cX4_pond 66 = .ok (.iconst 5, 1) := dk_8 (dk_at dksX4_pond_2 20 rfl rfl)
theorem dX4_pond_67 : decode cX4_pond 67 = .ok (.aload_n 0, 1) := dk_42 (dk_at dksX4_pond_2 21 rfl rfl)
theorem dX4_pond_68 : decode cX4_pond 68 = .ok (.getfield 36, 3) := dk_180 0 36 (dk_at dksX4_pond_3 0 rfl rfl)
theorem dX4_pond_71 : decode cX4_pond 71 = .ok (.invokevirtual 100, 3) := dk_182 0 100 (dk_at dksX4_pond_3 3 rfl rfl)
theorem dX4_pond_74 : decode cX4_pond 74 = .ok (.athrow, 1) := dk_191 (dk_at dksX4_pond_3 6 rfl rfl)
theorem dX4_pond_75 : decode cX4_pond 75 = .ok (.aload_n 0, 1) := dk_42 (dk_at dksX4_pond_3 7 rfl rfl)
theorem dX4_pond_76 : decode cX4_pond 76 = .ok (.invokevirtual 29, 3) := dk_182 0 29 (dk_at dksX4_pond_3 8 rfl rfl)
theorem dX4_pond_79 : decode cX4_pond 79 = .ok (.new 268, 3) := dk_187 1 12 (dk_at dksX4_pond_3 11 rfl rfl)
theorem dX4_pond_82 : decode cX4_pond 82 = .ok (.dup, 1) := dk_89 (dk_at dksX4_pond_3 14 rfl rfl)
theorem dX4_pond_83 : decode cX4_pond 83 = .ok (.iload_n 2, 1) := dk_28 (dk_at dksX4_pond_3 15 rfl rfl)
theorem dX4_pond_84 : decode cX4_pond 84 = .ok (.aload_n 0, 1) := dk_42 (dk_at dksX4_pond_3 16 rfl rfl)
theorem dX4_pond_85 : decode cX4_pond 85 = .ok (.aload_n 1, 1) := dk_43 (dk_at dksX4_pond_3 17 rfl rfl)
theorem dX4_pond_86 : decode cX4_pond 86 = .ok (.invokevirtual 304, 3) := dk_182 1 48 (dk_at dksX4_pond_3 18 rfl rfl)
theorem dX4_pond_89 : decode cX4_pond 89 = .ok (.invokespecial 308, 3) := dk_183 1 52 (dk_at dksX4_pond_3 21 rfl rfl)
theorem dX4_pond_92 : decode cX4_pond 92 = .ok (.astore_n 3, 1) := dk_78 (dk_at dksX4_pond_4 0 rfl rfl)
theorem dX4_pond_93 : decode cX4_pond 93 = .ok (.aload_n 1, 1) := dk_43 (dk_at dksX4_pond_4 1 rfl rfl)
theorem dX4_pond_94 : decode cX4_pond 94 = .ok (.aload_n 3, 1) := dk_45 (dk_at dksX4_pond_4 2 rfl rfl)
theorem dX4_pond_95 : decode cX4_pond 95 = .ok (.invokevirtual 311, 3) := dk_182 1 55 (dk_at dksX4_pond_4 3 rfl rfl)
theorem dX4_pond_98 : decode cX4_pond 98 = .ok (.aload_n 0, 1) := dk_42 (dk_at dksX4_pond_4 6 rfl rfl)
theorem dX4_pond_99 : decode cX4_pond 99 = .ok (.bipush 123, 2) := dk_16 123 (dk_at dksX4_pond_4 7 rfl rfl)
theorem dX4_pond_101 : decode cX4_pond 101 = .ok (.invokevirtual 177, 3) := dk_182 0 177 (dk_at dksX4_pond_4 9 rfl rfl)
theorem dX4_pond_104 : decode cX4_pond 104 = .ok (.aload_n 0, 1) := dk_42 (dk_at dksX4_pond_4 12 rfl rfl)
theorem dX4_pond_105 : decode cX4_pond 105 = .ok (.invokevirtual 314, 3) := dk_182 1 58 (dk_at dksX4_pond_4 13 rfl rfl)
theorem dX4_pond_108 : decode cX4_pond 108 = .ok (.ifCond .eq 16, 3) := dk_153 0 16 (dk_at dksX4_pond_4 16 rfl rfl)
theorem dX4_pond_111 : decode cX4_pond 111 = .ok (.aload_n 3, 1) := dk_45 (dk_at dksX4_pond_4 19 rfl rfl)
theorem dX4_pond_112 : decode cX4_pond 112 = .ok (.aload_n 0, 1) := dk_42 (dk_at dksX4_pond_4 20 rfl rfl)
theorem dX4_pond_113 : decode cX4_pond 113 = .ok (.aload_n 3, 1) := dk_45 (dk_at dksX4_pond_4 21 rfl rfl)
theorem dX4_pond_114 : decode cX4_pond 114 = .ok (.aload_n 1, 1) := dk_43 (dk_at dksX4_pond_4 22 rfl rfl)
theorem dX4_pond_115 : decode cX4_pond 115 = .ok (.invokevirtual 317, 3) := dk_182 1 61 (dk_at dksX4_pond_5 0 rfl rfl)
theorem dX4_pond_118 : decode cX4_pond 118 = .ok (.invokevirtual 321, 3) := dk_182 1 65 (dk_at dksX4_pond_5 3 rfl rfl)
theorem dX4_pond_121 : decode cX4_pond 121 = .ok (.goto (-17), 3) := dk_167 255 239 (dk_at dksX4_pond_5 6 rfl rfl)
theorem dX4_pond_124 : decode cX4_pond 124 = .ok (.aload_n 0, 1) := dk_42 (dk_at dksX4_pond_5 9 rfl rfl)
theorem dX4_pond_125 : decode cX4_pond 125 = .ok (.bipush 125, 2) := dk_16 125 (dk_at dksX4_pond_5 10 rfl rfl)
theorem dX4_pond_127 : decode cX4_pond 127 = .ok (.invokevirtual 177, 3) := dk_182 0 177 (dk_at dksX4_pond_5 12 rfl rfl)
theorem dX4_pond_130 : decode cX4_pond 130 = .ok (.aload_n 0, 1) := dk_42 (dk_at dksX4_pond_5 15 rfl rfl)
theorem dX4_pond_131 : decode cX4_pond 131 = .ok (.getfield 39, 3) := dk_180 0 39 (dk_at dksX4_pond_5 16 rfl rfl)
theorem dX4_pond_134 : decode cX4_pond 134 = .ok (.ifCond .ne (-122), 3) := dk_154 255 134 (dk_at dksX4_pond_5 19 rfl rfl)
theorem dX4_pond_137 : decode cX4_pond 137 = .ok (.aload_n 1, 1) := dk_43 (dk_at dksX4_pond_5 22 rfl rfl)
theorem dX4_pond_138 : decode cX4_pond 138 = .ok (.areturn, 1) := dk_176 (dk_at dksX4_pond_5 23 rfl rfl)
abbrev cX4_takesWord : ByteArray := prog_29_method_16_code
def yX4_takesWord : MethodName := ⟨RX4, "takesWord", "(Ljava/lang/String;)Z"⟩
def dkwX4_takesWord_0 : List UInt8 := [42, 43, 182, 0, 118, 154, 0, 5, 3, 172, 42, 182, 0, 29, 4, 172]
abbrev dktX4_takesWord_0 : List UInt8 := dkwX4_takesWord_0 ++ []
theorem dksX4_takesWord_0 : cX4_takesWord.data.toList.drop 0 = dktX4_takesWord_0 := by decide +kernel
theorem dX4_takesWord_0 : decode cX4_takesWord 0 = .ok (.aload_n 0, 1) := dk_42 (dk_at dksX4_takesWord_0 0 rfl rfl)
theorem dX4_takesWord_1 : decode cX4_takesWord 1 = .ok (.aload_n 1, 1) := dk_43 (dk_at dksX4_takesWord_0 1 rfl rfl)
theorem dX4_takesWord_2 : decode cX4_takesWord 2 = .ok (.invokevirtual 118, 3) := dk_182 0 118 (dk_at dksX4_takesWord_0 2 rfl rfl)
theorem dX4_takesWord_5 : decode cX4_takesWord 5 = .ok (.ifCond .ne 5, 3) := dk_154 0 5 (dk_at dksX4_takesWord_0 5 rfl rfl)
theorem dX4_takesWord_8 : decode cX4_takesWord 8 = .ok (.iconst 0, 1) := dk_3 (dk_at dksX4_takesWord_0 8 rfl rfl)
theorem dX4_takesWord_9 : decode cX4_takesWord 9 = .ok (.ireturn, 1) := dk_172 (dk_at dksX4_takesWord_0 9 rfl rfl)
theorem dX4_takesWord_10 : decode cX4_takesWord 10 = .ok (.aload_n 0, 1) := dk_42 (dk_at dksX4_takesWord_0 10 rfl rfl)
theorem dX4_takesWord_11 : decode cX4_takesWord 11 = .ok (.invokevirtual 29, 3) := dk_182 0 29 (dk_at dksX4_takesWord_0 11 rfl rfl)
theorem dX4_takesWord_14 : decode cX4_takesWord 14 = .ok (.iconst 1, 1) := dk_4 (dk_at dksX4_takesWord_0 14 rfl rfl)
theorem dX4_takesWord_15 : decode cX4_takesWord 15 = .ok (.ireturn, 1) := dk_172 (dk_at dksX4_takesWord_0 15 rfl rfl)
abbrev cX4_isWord : ByteArray := prog_29_method_13_code
def yX4_isWord : MethodName := ⟨RX4, "isWord", "(Ljava/lang/String;)Z"⟩
def dkwX4_isWord_1 : List UInt8 := [172]
abbrev dktX4_isWord_1 : List UInt8 := dkwX4_isWord_1 ++ []
def dkwX4_isWord_0 : List UInt8 := [42, 180, 0, 39, 6, 160, 0, 18, 42, 180, 0, 75, 43, 182, 0, 104, 153, 0, 7, 4, 167, 0, 4, 3]
abbrev dktX4_isWord_0 : List UInt8 := dkwX4_isWord_0 ++ dktX4_isWord_1
theorem dksX4_isWord_0 : cX4_isWord.data.toList.drop 0 = dktX4_isWord_0 := by decide +kernel
theorem dksX4_isWord_1 : cX4_isWord.data.toList.drop 24 = dktX4_isWord_1 := dk_seg dksX4_isWord_0 24 rfl rfl
theorem dX4_isWord_0 : decode cX4_isWord 0 = .ok (.aload_n 0, 1) := dk_42 (dk_at dksX4_isWord_0 0 rfl rfl)
theorem dX4_isWord_1 : decode cX4_isWord 1 = .ok (.getfield 39, 3) := dk_180 0 39 (dk_at dksX4_isWord_0 1 rfl rfl)
theorem dX4_isWord_4 : decode cX4_isWord 4 = .ok (.iconst 3, 1) := dk_6 (dk_at dksX4_isWord_0 4 rfl rfl)
theorem dX4_isWord_5 : decode cX4_isWord 5 = .ok (.if_icmp .ne 18, 3) := dk_160 0 18 (dk_at dksX4_isWord_0 5 rfl rfl)
theorem dX4_isWord_8 : decode cX4_isWord 8 = .ok (.aload_n 0, 1) := dk_42 (dk_at dksX4_isWord_0 8 rfl rfl)
theorem dX4_isWord_9 : decode cX4_isWord 9 = .ok (.getfield 75, 3) := dk_180 0 75 (dk_at dksX4_isWord_0 9 rfl rfl)
theorem dX4_isWord_12 : decode cX4_isWord 12 = .ok (.aload_n 1, 1) := dk_43 (dk_at dksX4_isWord_0 12 rfl rfl)
theorem dX4_isWord_13 : decode cX4_isWord 13 = .ok (.invokevirtual 104, 3) := dk_182 0 104 (dk_at dksX4_isWord_0 13 rfl rfl)
theorem dX4_isWord_16 : decode cX4_isWord 16 = .ok (.ifCond .eq 7, 3) := dk_153 0 7 (dk_at dksX4_isWord_0 16 rfl rfl)
theorem dX4_isWord_19 : decode cX4_isWord 19 = .ok (.iconst 1, 1) := dk_4 (dk_at dksX4_isWord_0 19 rfl rfl)
theorem dX4_isWord_20 : decode cX4_isWord 20 = .ok (.goto 4, 3) := dk_167 0 4 (dk_at dksX4_isWord_0 20 rfl rfl)
theorem dX4_isWord_23 : decode cX4_isWord 23 = .ok (.iconst 0, 1) := dk_3 (dk_at dksX4_isWord_0 23 rfl rfl)
theorem dX4_isWord_24 : decode cX4_isWord 24 = .ok (.ireturn, 1) := dk_172 (dk_at dksX4_isWord_1 0 rfl rfl)
abbrev cX4_under : ByteArray := prog_29_method_34_code
def yX4_under : MethodName := ⟨RX4, "under", "(LPondHouse$Row;)I"⟩
def dkwX4_under_2 : List UInt8 := [172]
abbrev dktX4_under_2 : List UInt8 := dkwX4_under_2 ++ []
def dkwX4_under_1 : List UInt8 := [184, 1, 33, 199, 0, 16, 42, 180, 0, 3, 7, 42, 180, 0, 36, 182, 0, 100, 191, 42, 182, 0, 29, 28]
abbrev dktX4_under_1 : List UInt8 := dkwX4_under_1 ++ dktX4_under_2
def dkwX4_under_0 : List UInt8 := [42, 19, 1, 68, 182, 0, 161, 154, 0, 5, 2, 172, 42, 182, 0, 126, 61, 43, 198, 0, 24, 43, 28]
abbrev dktX4_under_0 : List UInt8 := dkwX4_under_0 ++ dktX4_under_1
theorem dksX4_under_0 : cX4_under.data.toList.drop 0 = dktX4_under_0 := by decide +kernel
theorem dksX4_under_1 : cX4_under.data.toList.drop 23 = dktX4_under_1 := dk_seg dksX4_under_0 23 rfl rfl
theorem dksX4_under_2 : cX4_under.data.toList.drop 47 = dktX4_under_2 := dk_seg dksX4_under_1 24 rfl rfl
theorem dX4_under_0 : decode cX4_under 0 = .ok (.aload_n 0, 1) := dk_42 (dk_at dksX4_under_0 0 rfl rfl)
theorem dX4_under_1 : decode cX4_under 1 = .ok (.ldc_w 324, 3) := dk_19 1 68 (dk_at dksX4_under_0 1 rfl rfl)
theorem dX4_under_4 : decode cX4_under 4 = .ok (.invokevirtual 161, 3) := dk_182 0 161 (dk_at dksX4_under_0 4 rfl rfl)
theorem dX4_under_7 : decode cX4_under 7 = .ok (.ifCond .ne 5, 3) := dk_154 0 5 (dk_at dksX4_under_0 7 rfl rfl)
theorem dX4_under_10 : decode cX4_under 10 = .ok (.iconst (-1), 1) := dk_2 (dk_at dksX4_under_0 10 rfl rfl)
theorem dX4_under_11 : decode cX4_under 11 = .ok (.ireturn, 1) := dk_172 (dk_at dksX4_under_0 11 rfl rfl)
theorem dX4_under_12 : decode cX4_under 12 = .ok (.aload_n 0, 1) := dk_42 (dk_at dksX4_under_0 12 rfl rfl)
theorem dX4_under_13 : decode cX4_under 13 = .ok (.invokevirtual 126, 3) := dk_182 0 126 (dk_at dksX4_under_0 13 rfl rfl)
theorem dX4_under_16 : decode cX4_under 16 = .ok (.istore_n 2, 1) := dk_61 (dk_at dksX4_under_0 16 rfl rfl)
theorem dX4_under_17 : decode cX4_under 17 = .ok (.aload_n 1, 1) := dk_43 (dk_at dksX4_under_0 17 rfl rfl)
theorem dX4_under_18 : decode cX4_under 18 = .ok (.ifnull 24, 3) := dk_198 0 24 (dk_at dksX4_under_0 18 rfl rfl)
theorem dX4_under_21 : decode cX4_under 21 = .ok (.aload_n 1, 1) := dk_43 (dk_at dksX4_under_0 21 rfl rfl)
theorem dX4_under_22 : decode cX4_under 22 = .ok (.iload_n 2, 1) := dk_28 (dk_at dksX4_under_0 22 rfl rfl)
theorem dX4_under_23 : decode cX4_under 23 = .ok (.invokestatic 289, 3) := dk_184 1 33 (dk_at dksX4_under_1 0 rfl rfl)
theorem dX4_under_26 : decode cX4_under 26 = .ok (.ifnonnull 16, 3) := dk_199 0 16 (dk_at dksX4_under_1 3 rfl rfl)
theorem dX4_under_29 : decode cX4_under 29 = .ok (.aload_n 0, 1) := dk_42 (dk_at dksX4_under_1 6 rfl rfl)
theorem dX4_under_30 : decode cX4_under 30 = .ok (.getfield 3, 3) := dk_180 0 3 (dk_at dksX4_under_1 7 rfl rfl)
theorem dX4_under_33 : decode cX4_under 33 = .ok (.iconst 4, 1) := dk_7 (dk_at dksX4_under_1 10 rfl rfl)
theorem dX4_under_34 : decode cX4_under 34 = .ok (.aload_n 0, 1) := dk_42 (dk_at dksX4_under_1 11 rfl rfl)
theorem dX4_under_35 : decode cX4_under 35 = .ok (.getfield 36, 3) := dk_180 0 36 (dk_at dksX4_under_1 12 rfl rfl)
theorem dX4_under_38 : decode cX4_under 38 = .ok (.invokevirtual 100, 3) := dk_182 0 100 (dk_at dksX4_under_1 15 rfl rfl)
theorem dX4_under_41 : decode cX4_under 41 = .ok (.athrow, 1) := dk_191 (dk_at dksX4_under_1 18 rfl rfl)
theorem dX4_under_42 : decode cX4_under 42 = .ok (.aload_n 0, 1) := dk_42 (dk_at dksX4_under_1 19 rfl rfl)
theorem dX4_under_43 : decode cX4_under 43 = .ok (.invokevirtual 29, 3) := dk_182 0 29 (dk_at dksX4_under_1 20 rfl rfl)
theorem dX4_under_46 : decode cX4_under 46 = .ok (.iload_n 2, 1) := dk_28 (dk_at dksX4_under_1 23 rfl rfl)
theorem dX4_under_47 : decode cX4_under 47 = .ok (.ireturn, 1) := dk_172 (dk_at dksX4_under_2 0 rfl rfl)
abbrev cX4_needs : ByteArray := prog_29_method_15_code
def yX4_needs : MethodName := ⟨RX4, "needs", "(I)V"⟩
def dkwX4_needs_0 : List UInt8 := [42, 27, 182, 0, 111, 154, 0, 8, 42, 182, 0, 114, 191, 177]
abbrev dktX4_needs_0 : List UInt8 := dkwX4_needs_0 ++ []
theorem dksX4_needs_0 : cX4_needs.data.toList.drop 0 = dktX4_needs_0 := by decide +kernel
theorem dX4_needs_0 : decode cX4_needs 0 = .ok (.aload_n 0, 1) := dk_42 (dk_at dksX4_needs_0 0 rfl rfl)
theorem dX4_needs_1 : decode cX4_needs 1 = .ok (.iload_n 1, 1) := dk_27 (dk_at dksX4_needs_0 1 rfl rfl)
theorem dX4_needs_2 : decode cX4_needs 2 = .ok (.invokevirtual 111, 3) := dk_182 0 111 (dk_at dksX4_needs_0 2 rfl rfl)
theorem dX4_needs_5 : decode cX4_needs 5 = .ok (.ifCond .ne 8, 3) := dk_154 0 8 (dk_at dksX4_needs_0 5 rfl rfl)
theorem dX4_needs_8 : decode cX4_needs 8 = .ok (.aload_n 0, 1) := dk_42 (dk_at dksX4_needs_0 8 rfl rfl)
theorem dX4_needs_9 : decode cX4_needs 9 = .ok (.invokevirtual 114, 3) := dk_182 0 114 (dk_at dksX4_needs_0 9 rfl rfl)
theorem dX4_needs_12 : decode cX4_needs 12 = .ok (.athrow, 1) := dk_191 (dk_at dksX4_needs_0 12 rfl rfl)
theorem dX4_needs_13 : decode cX4_needs 13 = .ok (.return_, 1) := dk_177 (dk_at dksX4_needs_0 13 rfl rfl)
abbrev cX4_takes : ByteArray := prog_29_method_14_code
def yX4_takes : MethodName := ⟨RX4, "takes", "(I)Z"⟩
def dkwX4_takes_0 : List UInt8 := [42, 27, 182, 0, 108, 154, 0, 5, 3, 172, 42, 182, 0, 29, 4, 172]
abbrev dktX4_takes_0 : List UInt8 := dkwX4_takes_0 ++ []
theorem dksX4_takes_0 : cX4_takes.data.toList.drop 0 = dktX4_takes_0 := by decide +kernel
theorem dX4_takes_0 : decode cX4_takes 0 = .ok (.aload_n 0, 1) := dk_42 (dk_at dksX4_takes_0 0 rfl rfl)
theorem dX4_takes_1 : decode cX4_takes 1 = .ok (.iload_n 1, 1) := dk_27 (dk_at dksX4_takes_0 1 rfl rfl)
theorem dX4_takes_2 : decode cX4_takes 2 = .ok (.invokevirtual 108, 3) := dk_182 0 108 (dk_at dksX4_takes_0 2 rfl rfl)
theorem dX4_takes_5 : decode cX4_takes 5 = .ok (.ifCond .ne 5, 3) := dk_154 0 5 (dk_at dksX4_takes_0 5 rfl rfl)
theorem dX4_takes_8 : decode cX4_takes 8 = .ok (.iconst 0, 1) := dk_3 (dk_at dksX4_takes_0 8 rfl rfl)
theorem dX4_takes_9 : decode cX4_takes 9 = .ok (.ireturn, 1) := dk_172 (dk_at dksX4_takes_0 9 rfl rfl)
theorem dX4_takes_10 : decode cX4_takes 10 = .ok (.aload_n 0, 1) := dk_42 (dk_at dksX4_takes_0 10 rfl rfl)
theorem dX4_takes_11 : decode cX4_takes 11 = .ok (.invokevirtual 29, 3) := dk_182 0 29 (dk_at dksX4_takes_0 11 rfl rfl)
theorem dX4_takes_14 : decode cX4_takes 14 = .ok (.iconst 1, 1) := dk_4 (dk_at dksX4_takes_0 14 rfl rfl)
theorem dX4_takes_15 : decode cX4_takes 15 = .ok (.ireturn, 1) := dk_172 (dk_at dksX4_takes_0 15 rfl rfl)
abbrev cX4_isSign : ByteArray := prog_29_method_12_code
def yX4_isSign : MethodName := ⟨RX4, "isSign", "(I)Z"⟩
def dkwX4_isSign_0 : List UInt8 := [42, 180, 0, 39, 8, 160, 0, 15, 42, 180, 0, 87, 27, 160, 0, 7, 4, 167, 0, 4, 3, 172]
abbrev dktX4_isSign_0 : List UInt8 := dkwX4_isSign_0 ++ []
theorem dksX4_isSign_0 : cX4_isSign.data.toList.drop 0 = dktX4_isSign_0 := by decide +kernel
theorem dX4_isSign_0 : decode cX4_isSign 0 = .ok (.aload_n 0, 1) := dk_42 (dk_at dksX4_isSign_0 0 rfl rfl)
theorem dX4_isSign_1 : decode cX4_isSign 1 = .ok (.getfield 39, 3) := dk_180 0 39 (dk_at dksX4_isSign_0 1 rfl rfl)
theorem dX4_isSign_4 : decode cX4_isSign 4 = .ok (.iconst 5, 1) := dk_8 (dk_at dksX4_isSign_0 4 rfl rfl)
theorem dX4_isSign_5 : decode cX4_isSign 5 = .ok (.if_icmp .ne 15, 3) := dk_160 0 15 (dk_at dksX4_isSign_0 5 rfl rfl)
theorem dX4_isSign_8 : decode cX4_isSign 8 = .ok (.aload_n 0, 1) := dk_42 (dk_at dksX4_isSign_0 8 rfl rfl)
theorem dX4_isSign_9 : decode cX4_isSign 9 = .ok (.getfield 87, 3) := dk_180 0 87 (dk_at dksX4_isSign_0 9 rfl rfl)
theorem dX4_isSign_12 : decode cX4_isSign 12 = .ok (.iload_n 1, 1) := dk_27 (dk_at dksX4_isSign_0 12 rfl rfl)
theorem dX4_isSign_13 : decode cX4_isSign 13 = .ok (.if_icmp .ne 7, 3) := dk_160 0 7 (dk_at dksX4_isSign_0 13 rfl rfl)
theorem dX4_isSign_16 : decode cX4_isSign 16 = .ok (.iconst 1, 1) := dk_4 (dk_at dksX4_isSign_0 16 rfl rfl)
theorem dX4_isSign_17 : decode cX4_isSign 17 = .ok (.goto 4, 3) := dk_167 0 4 (dk_at dksX4_isSign_0 17 rfl rfl)
theorem dX4_isSign_20 : decode cX4_isSign 20 = .ok (.iconst 0, 1) := dk_3 (dk_at dksX4_isSign_0 20 rfl rfl)
theorem dX4_isSign_21 : decode cX4_isSign 21 = .ok (.ireturn, 1) := dk_172 (dk_at dksX4_isSign_0 21 rfl rfl)
abbrev cX4_isMember : ByteArray := prog_29_method_30_code
def yX4_isMember : MethodName := ⟨RX4, "isMember", "()Z"⟩
def dkwX4_isMember_1 : List UInt8 := [182, 0, 118, 154, 0, 13, 42, 19, 1, 7, 182, 0, 118, 153, 0, 7, 4, 167, 0, 4, 3, 172]
abbrev dktX4_isMember_1 : List UInt8 := dkwX4_isMember_1 ++ []
def dkwX4_isMember_0 : List UInt8 := [42, 19, 1, 1, 182, 0, 118, 154, 0, 33, 42, 19, 1, 3, 182, 0, 118, 154, 0, 23, 42, 19, 1, 5]
abbrev dktX4_isMember_0 : List UInt8 := dkwX4_isMember_0 ++ dktX4_isMember_1
theorem dksX4_isMember_0 : cX4_isMember.data.toList.drop 0 = dktX4_isMember_0 := by decide +kernel
theorem dksX4_isMember_1 : cX4_isMember.data.toList.drop 24 = dktX4_isMember_1 := dk_seg dksX4_isMember_0 24 rfl rfl
theorem dX4_isMember_0 : decode cX4_isMember 0 = .ok (.aload_n 0, 1) := dk_42 (dk_at dksX4_isMember_0 0 rfl rfl)
theorem dX4_isMember_1 : decode cX4_isMember 1 = .ok (.ldc_w 257, 3) := dk_19 1 1 (dk_at dksX4_isMember_0 1 rfl rfl)
theorem dX4_isMember_4 : decode cX4_isMember 4 = .ok (.invokevirtual 118, 3) := dk_182 0 118 (dk_at dksX4_isMember_0 4 rfl rfl)
theorem dX4_isMember_7 : decode cX4_isMember 7 = .ok (.ifCond .ne 33, 3) := dk_154 0 33 (dk_at dksX4_isMember_0 7 rfl rfl)
theorem dX4_isMember_10 : decode cX4_isMember 10 = .ok (.aload_n 0, 1) := dk_42 (dk_at dksX4_isMember_0 10 rfl rfl)
theorem dX4_isMember_11 : decode cX4_isMember 11 = .ok (.ldc_w 259, 3) := dk_19 1 3 (dk_at dksX4_isMember_0 11 rfl rfl)
theorem dX4_isMember_14 : decode cX4_isMember 14 = .ok (.invokevirtual 118, 3) := dk_182 0 118 (dk_at dksX4_isMember_0 14 rfl rfl)
theorem dX4_isMember_17 : decode cX4_isMember 17 = .ok (.ifCond .ne 23, 3) := dk_154 0 23 (dk_at dksX4_isMember_0 17 rfl rfl)
theorem dX4_isMember_20 : decode cX4_isMember 20 = .ok (.aload_n 0, 1) := dk_42 (dk_at dksX4_isMember_0 20 rfl rfl)
theorem dX4_isMember_21 : decode cX4_isMember 21 = .ok (.ldc_w 261, 3) := dk_19 1 5 (dk_at dksX4_isMember_0 21 rfl rfl)
theorem dX4_isMember_24 : decode cX4_isMember 24 = .ok (.invokevirtual 118, 3) := dk_182 0 118 (dk_at dksX4_isMember_1 0 rfl rfl)
theorem dX4_isMember_27 : decode cX4_isMember 27 = .ok (.ifCond .ne 13, 3) := dk_154 0 13 (dk_at dksX4_isMember_1 3 rfl rfl)
theorem dX4_isMember_30 : decode cX4_isMember 30 = .ok (.aload_n 0, 1) := dk_42 (dk_at dksX4_isMember_1 6 rfl rfl)
theorem dX4_isMember_31 : decode cX4_isMember 31 = .ok (.ldc_w 263, 3) := dk_19 1 7 (dk_at dksX4_isMember_1 7 rfl rfl)
theorem dX4_isMember_34 : decode cX4_isMember 34 = .ok (.invokevirtual 118, 3) := dk_182 0 118 (dk_at dksX4_isMember_1 10 rfl rfl)
theorem dX4_isMember_37 : decode cX4_isMember 37 = .ok (.ifCond .eq 7, 3) := dk_153 0 7 (dk_at dksX4_isMember_1 13 rfl rfl)
theorem dX4_isMember_40 : decode cX4_isMember 40 = .ok (.iconst 1, 1) := dk_4 (dk_at dksX4_isMember_1 16 rfl rfl)
theorem dX4_isMember_41 : decode cX4_isMember 41 = .ok (.goto 4, 3) := dk_167 0 4 (dk_at dksX4_isMember_1 17 rfl rfl)
theorem dX4_isMember_44 : decode cX4_isMember 44 = .ok (.iconst 0, 1) := dk_3 (dk_at dksX4_isMember_1 20 rfl rfl)
theorem dX4_isMember_45 : decode cX4_isMember 45 = .ok (.ireturn, 1) := dk_172 (dk_at dksX4_isMember_1 21 rfl rfl)
abbrev cX4_member : ByteArray := prog_29_method_31_code
def yX4_member : MethodName := ⟨RX4, "member", "(LPondHouse$Draft;LPondHouse$Row;)LPondHouse$Member;"⟩
def dkwX4_member_9 : List UInt8 := [21, 6, 1, 183, 1, 25, 176]
abbrev dktX4_member_9 : List UInt8 := dkwX4_member_9 ++ []
def dkwX4_member_8 : List UInt8 := [182, 0, 177, 42, 182, 1, 28, 54, 6, 42, 16, 59, 182, 0, 177, 187, 1, 9, 89, 21, 4, 21, 5]
abbrev dktX4_member_8 : List UInt8 := dkwX4_member_8 ++ dktX4_member_9
def dkwX4_member_7 : List UInt8 := [21, 4, 21, 5, 3, 42, 4, 182, 0, 244, 183, 1, 25, 176, 2, 54, 6, 29, 154, 0, 15, 42, 16, 61]
abbrev dktX4_member_7 : List UInt8 := dkwX4_member_7 ++ dktX4_member_8
def dkwX4_member_6 : List UInt8 := [182, 0, 100, 191, 42, 182, 0, 29, 21, 4, 5, 160, 0, 26, 42, 3, 181, 0, 213, 187, 1, 9, 89]
abbrev dktX4_member_6 : List UInt8 := dkwX4_member_6 ++ dktX4_member_7
def dkwX4_member_5 : List UInt8 := [182, 0, 100, 191, 43, 21, 4, 182, 1, 22, 153, 0, 16, 42, 180, 0, 3, 8, 42, 180, 0, 36]
abbrev dktX4_member_5 : List UInt8 := dkwX4_member_5 ++ dktX4_member_6
def dkwX4_member_4 : List UInt8 := [153, 0, 7, 4, 167, 0, 4, 3, 54, 6, 21, 6, 153, 0, 16, 42, 180, 0, 3, 7, 42, 180, 0, 36]
abbrev dktX4_member_4 : List UInt8 := dkwX4_member_4 ++ dktX4_member_5
def dkwX4_member_3 : List UInt8 := [167, 0, 32, 3, 167, 0, 28, 43, 21, 5, 182, 1, 15, 154, 0, 14, 42, 43, 44, 21, 5, 182, 1, 18]
abbrev dktX4_member_3 : List UInt8 := dkwX4_member_3 ++ dktX4_member_4
def dkwX4_member_2 : List UInt8 := [54, 5, 43, 198, 0, 94, 21, 4, 5, 160, 0, 21, 43, 21, 5, 182, 1, 11, 2, 159, 0, 7, 4]
abbrev dktX4_member_2 : List UInt8 := dkwX4_member_2 ++ dktX4_member_3
def dkwX4_member_1 : List UInt8 := [19, 1, 5, 182, 0, 118, 153, 0, 7, 4, 167, 0, 4, 3, 54, 4, 42, 182, 0, 29, 42, 182, 0, 126]
abbrev dktX4_member_1 : List UInt8 := dkwX4_member_1 ++ dktX4_member_2
def dkwX4_member_0 : List UInt8 := [42, 19, 1, 3, 182, 0, 118, 62, 42, 19, 1, 7, 182, 0, 118, 153, 0, 7, 5, 167, 0, 18, 42]
abbrev dktX4_member_0 : List UInt8 := dkwX4_member_0 ++ dktX4_member_1
theorem dksX4_member_0 : cX4_member.data.toList.drop 0 = dktX4_member_0 := by decide +kernel
theorem dksX4_member_1 : cX4_member.data.toList.drop 23 = dktX4_member_1 := dk_seg dksX4_member_0 23 rfl rfl
theorem dksX4_member_2 : cX4_member.data.toList.drop 47 = dktX4_member_2 := dk_seg dksX4_member_1 24 rfl rfl
theorem dksX4_member_3 : cX4_member.data.toList.drop 70 = dktX4_member_3 := dk_seg dksX4_member_2 23 rfl rfl
theorem dksX4_member_4 : cX4_member.data.toList.drop 94 = dktX4_member_4 := dk_seg dksX4_member_3 24 rfl rfl
theorem dksX4_member_5 : cX4_member.data.toList.drop 118 = dktX4_member_5 := dk_seg dksX4_member_4 24 rfl rfl
theorem dksX4_member_6 : cX4_member.data.toList.drop 140 = dktX4_member_6 := dk_seg dksX4_member_5 22 rfl rfl
theorem dksX4_member_7 : cX4_member.data.toList.drop 163 = dktX4_member_7 := dk_seg dksX4_member_6 23 rfl rfl
theorem dksX4_member_8 : cX4_member.data.toList.drop 187 = dktX4_member_8 := dk_seg dksX4_member_7 24 rfl rfl
theorem dksX4_member_9 : cX4_member.data.toList.drop 210 = dktX4_member_9 := dk_seg dksX4_member_8 23 rfl rfl
theorem dX4_member_0 : decode cX4_member 0 = .ok (.aload_n 0, 1) := dk_42 (dk_at dksX4_member_0 0 rfl rfl)
theorem dX4_member_1 : decode cX4_member 1 = .ok (.ldc_w 259, 3) := dk_19 1 3 (dk_at dksX4_member_0 1 rfl rfl)
theorem dX4_member_4 : decode cX4_member 4 = .ok (.invokevirtual 118, 3) := dk_182 0 118 (dk_at dksX4_member_0 4 rfl rfl)
theorem dX4_member_7 : decode cX4_member 7 = .ok (.istore_n 3, 1) := dk_62 (dk_at dksX4_member_0 7 rfl rfl)
theorem dX4_member_8 : decode cX4_member 8 = .ok (.aload_n 0, 1) := dk_42 (dk_at dksX4_member_0 8 rfl rfl)
theorem dX4_member_9 : decode cX4_member 9 = .ok (.ldc_w 263, 3) := dk_19 1 7 (dk_at dksX4_member_0 9 rfl rfl)
theorem dX4_member_12 : decode cX4_member 12 = .ok (.invokevirtual 118, 3) := dk_182 0 118 (dk_at dksX4_member_0 12 rfl rfl)
theorem dX4_member_15 : decode cX4_member 15 = .ok (.ifCond .eq 7, 3) := dk_153 0 7 (dk_at dksX4_member_0 15 rfl rfl)
theorem dX4_member_18 : decode cX4_member 18 = .ok (.iconst 2, 1) := dk_5 (dk_at dksX4_member_0 18 rfl rfl)
theorem dX4_member_19 : decode cX4_member 19 = .ok (.goto 18, 3) := dk_167 0 18 (dk_at dksX4_member_0 19 rfl rfl)
theorem dX4_member_22 : decode cX4_member 22 = .ok (.aload_n 0, 1) := dk_42 (dk_at dksX4_member_0 22 rfl rfl)
theorem dX4_member_23 : decode cX4_member 23 = .ok (.ldc_w 261, 3) := dk_19 1 5 (dk_at dksX4_member_1 0 rfl rfl)
theorem dX4_member_26 : decode cX4_member 26 = .ok (.invokevirtual 118, 3) := dk_182 0 118 (dk_at dksX4_member_1 3 rfl rfl)
theorem dX4_member_29 : decode cX4_member 29 = .ok (.ifCond .eq 7, 3) := dk_153 0 7 (dk_at dksX4_member_1 6 rfl rfl)
theorem dX4_member_32 : decode cX4_member 32 = .ok (.iconst 1, 1) := dk_4 (dk_at dksX4_member_1 9 rfl rfl)
theorem dX4_member_33 : decode cX4_member 33 = .ok (.goto 4, 3) := dk_167 0 4 (dk_at dksX4_member_1 10 rfl rfl)
theorem dX4_member_36 : decode cX4_member 36 = .ok (.iconst 0, 1) := dk_3 (dk_at dksX4_member_1 13 rfl rfl)
theorem dX4_member_37 : decode cX4_member 37 = .ok (.istore 4, 2) := dk_54 4 (dk_at dksX4_member_1 14 rfl rfl)
theorem dX4_member_39 : decode cX4_member 39 = .ok (.aload_n 0, 1) := dk_42 (dk_at dksX4_member_1 16 rfl rfl)
theorem dX4_member_40 : decode cX4_member 40 = .ok (.invokevirtual 29, 3) := dk_182 0 29 (dk_at dksX4_member_1 17 rfl rfl)
theorem dX4_member_43 : decode cX4_member 43 = .ok (.aload_n 0, 1) := dk_42 (dk_at dksX4_member_1 20 rfl rfl)
theorem dX4_member_44 : decode cX4_member 44 = .ok (.invokevirtual 126, 3) := dk_182 0 126 (dk_at dksX4_member_1 21 rfl rfl)
theorem dX4_member_47 : decode cX4_member 47 = .ok (.istore 5, 2) := dk_54 5 (dk_at dksX4_member_2 0 rfl rfl)
theorem dX4_member_49 : decode cX4_member 49 = .ok (.aload_n 1, 1) := dk_43 (dk_at dksX4_member_2 2 rfl rfl)
theorem dX4_member_50 : decode cX4_member 50 = .ok (.ifnull 94, 3) := dk_198 0 94 (dk_at dksX4_member_2 3 rfl rfl)
theorem dX4_member_53 : decode cX4_member 53 = .ok (.iload 4, 2) := dk_21 4 (dk_at dksX4_member_2 6 rfl rfl)
theorem dX4_member_55 : decode cX4_member 55 = .ok (.iconst 2, 1) := dk_5 (dk_at dksX4_member_2 8 rfl rfl)
theorem dX4_member_56 : decode cX4_member 56 = .ok (.if_icmp .ne 21, 3) := dk_160 0 21 (dk_at dksX4_member_2 9 rfl rfl)
theorem dX4_member_59 : decode cX4_member 59 = .ok (.aload_n 1, 1) := dk_43 (dk_at dksX4_member_2 12 rfl rfl)
theorem dX4_member_60 : decode cX4_member 60 = .ok (.iload 5, 2) := dk_21 5 (dk_at dksX4_member_2 13 rfl rfl)
theorem dX4_member_62 : decode cX4_member 62 = .ok (.invokevirtual 267, 3) := dk_182 1 11 (dk_at dksX4_member_2 15 rfl rfl)
theorem dX4_member_65 : decode cX4_member 65 = .ok (.iconst (-1), 1) := dk_2 (dk_at dksX4_member_2 18 rfl rfl)
theorem dX4_member_66 : decode cX4_member 66 = .ok (.if_icmp .eq 7, 3) := dk_159 0 7 (dk_at dksX4_member_2 19 rfl rfl)
theorem dX4_member_69 : decode cX4_member 69 = .ok (.iconst 1, 1) := dk_4 (dk_at dksX4_member_2 22 rfl rfl)
theorem dX4_member_70 : decode cX4_member 70 = .ok (.goto 32, 3) := dk_167 0 32 (dk_at dksX4_member_3 0 rfl rfl)
theorem dX4_member_73 : decode cX4_member 73 = .ok (.iconst 0, 1) := dk_3 (dk_at dksX4_member_3 3 rfl rfl)
theorem dX4_member_74 : decode cX4_member 74 = .ok (.goto 28, 3) := dk_167 0 28 (dk_at dksX4_member_3 4 rfl rfl)
theorem dX4_member_77 : decode cX4_member 77 = .ok (.aload_n 1, 1) := dk_43 (dk_at dksX4_member_3 7 rfl rfl)
theorem dX4_member_78 : decode cX4_member 78 = .ok (.iload 5, 2) := dk_21 5 (dk_at dksX4_member_3 8 rfl rfl)
theorem dX4_member_80 : decode cX4_member 80 = .ok (.invokevirtual 271, 3) := dk_182 1 15 (dk_at dksX4_member_3 10 rfl rfl)
theorem dX4_member_83 : decode cX4_member 83 = .ok (.ifCond .ne 14, 3) := dk_154 0 14 (dk_at dksX4_member_3 13 rfl rfl)
theorem dX4_member_86 : decode cX4_member 86 = .ok (.aload_n 0, 1) := dk_42 (dk_at dksX4_member_3 16 rfl rfl)
theorem dX4_member_87 : decode cX4_member 87 = .ok (.aload_n 1, 1) := dk_43 (dk_at dksX4_member_3 17 rfl rfl)
theorem dX4_member_88 : decode cX4_member 88 = .ok (.aload_n 2, 1) := dk_44 (dk_at dksX4_member_3 18 rfl rfl)
theorem dX4_member_89 : decode cX4_member 89 = .ok (.iload 5, 2) := dk_21 5 (dk_at dksX4_member_3 19 rfl rfl)
theorem dX4_member_91 : decode cX4_member 91 = .ok (.invokevirtual 274, 3) := dk_182 1 18 (dk_at dksX4_member_3 21 rfl rfl)
theorem dX4_member_94 : decode cX4_member 94 = .ok (.ifCond .eq 7, 3) := dk_153 0 7 (dk_at dksX4_member_4 0 rfl rfl)
theorem dX4_member_97 : decode cX4_member 97 = .ok (.iconst 1, 1) := dk_4 (dk_at dksX4_member_4 3 rfl rfl)
theorem dX4_member_98 : decode cX4_member 98 = .ok (.goto 4, 3) := dk_167 0 4 (dk_at dksX4_member_4 4 rfl rfl)
theorem dX4_member_101 : decode cX4_member 101 = .ok (.iconst 0, 1) := dk_3 (dk_at dksX4_member_4 7 rfl rfl)
theorem dX4_member_102 : decode cX4_member 102 = .ok (.istore 6, 2) := dk_54 6 (dk_at dksX4_member_4 8 rfl rfl)
theorem dX4_member_104 : decode cX4_member 104 = .ok (.iload 6, 2) := dk_21 6 (dk_at dksX4_member_4 10 rfl rfl)
theorem dX4_member_106 : decode cX4_member 106 = .ok (.ifCond .eq 16, 3) := dk_153 0 16 (dk_at dksX4_member_4 12 rfl rfl)
theorem dX4_member_109 : decode cX4_member 109 = .ok (.aload_n 0, 1) := dk_42 (dk_at dksX4_member_4 15 rfl rfl)
theorem dX4_member_110 : decode cX4_member 110 = .ok (.getfield 3, 3) := dk_180 0 3 (dk_at dksX4_member_4 16 rfl rfl)
theorem dX4_member_113 : decode cX4_member 113 = .ok (.iconst 4, 1) := dk_7 (dk_at dksX4_member_4 19 rfl rfl)
theorem dX4_member_114 : decode cX4_member 114 = .ok (.aload_n 0, 1) := dk_42 (dk_at dksX4_member_4 20 rfl rfl)
theorem dX4_member_115 : decode cX4_member 115 = .ok (.getfield 36, 3) := dk_180 0 36 (dk_at dksX4_member_4 21 rfl rfl)
theorem dX4_member_118 : decode cX4_member 118 = .ok (.invokevirtual 100, 3) := dk_182 0 100 (dk_at dksX4_member_5 0 rfl rfl)
theorem dX4_member_121 : decode cX4_member 121 = .ok (.athrow, 1) := dk_191 (dk_at dksX4_member_5 3 rfl rfl)
theorem dX4_member_122 : decode cX4_member 122 = .ok (.aload_n 1, 1) := dk_43 (dk_at dksX4_member_5 4 rfl rfl)
theorem dX4_member_123 : decode cX4_member 123 = .ok (.iload 4, 2) := dk_21 4 (dk_at dksX4_member_5 5 rfl rfl)
theorem dX4_member_125 : decode cX4_member 125 = .ok (.invokevirtual 278, 3) := dk_182 1 22 (dk_at dksX4_member_5 7 rfl rfl)
theorem dX4_member_128 : decode cX4_member 128 = .ok (.ifCond .eq 16, 3) := dk_153 0 16 (dk_at dksX4_member_5 10 rfl rfl)
theorem dX4_member_131 : decode cX4_member 131 = .ok (.aload_n 0, 1) := dk_42 (dk_at dksX4_member_5 13 rfl rfl)
theorem dX4_member_132 : decode cX4_member 132 = .ok (.getfield 3, 3) := dk_180 0 3 (dk_at dksX4_member_5 14 rfl rfl)
theorem dX4_member_135 : decode cX4_member 135 = .ok (.iconst 5, 1) := dk_8 (dk_at dksX4_member_5 17 rfl rfl)
theorem dX4_member_136 : decode cX4_member 136 = .ok (.aload_n 0, 1) := dk_42 (dk_at dksX4_member_5 18 rfl rfl)
theorem dX4_member_137 : decode cX4_member 137 = .ok (.getfield 36, 3) := dk_180 0 36 (dk_at dksX4_member_5 19 rfl rfl)
theorem dX4_member_140 : decode cX4_member 140 = .ok (.invokevirtual 100, 3) := dk_182 0 100 (dk_at dksX4_member_6 0 rfl rfl)
theorem dX4_member_143 : decode cX4_member 143 = .ok (.athrow, 1) := dk_191 (dk_at dksX4_member_6 3 rfl rfl)
theorem dX4_member_144 : decode cX4_member 144 = .ok (.aload_n 0, 1) := dk_42 (dk_at dksX4_member_6 4 rfl rfl)
theorem dX4_member_145 : decode cX4_member 145 = .ok (.invokevirtual 29, 3) := dk_182 0 29 (dk_at dksX4_member_6 5 rfl rfl)
theorem dX4_member_148 : decode cX4_member 148 = .ok (.iload 4, 2) := dk_21 4 (dk_at dksX4_member_6 8 rfl rfl)
theorem dX4_member_150 : decode cX4_member 150 = .ok (.iconst 2, 1) := dk_5 (dk_at dksX4_member_6 10 rfl rfl)
theorem dX4_member_151 : decode cX4_member 151 = .ok (.if_icmp .ne 26, 3) := dk_160 0 26 (dk_at dksX4_member_6 11 rfl rfl)
theorem dX4_member_154 : decode cX4_member 154 = .ok (.aload_n 0, 1) := dk_42 (dk_at dksX4_member_6 14 rfl rfl)
theorem dX4_member_155 : decode cX4_member 155 = .ok (.iconst 0, 1) := dk_3 (dk_at dksX4_member_6 15 rfl rfl)
theorem dX4_member_156 : decode cX4_member 156 = .ok (.putfield 213, 3) := dk_181 0 213 (dk_at dksX4_member_6 16 rfl rfl)
theorem dX4_member_159 : decode cX4_member 159 = .ok (.new 265, 3) := dk_187 1 9 (dk_at dksX4_member_6 19 rfl rfl)
theorem dX4_member_162 : decode cX4_member 162 = .ok (.dup, 1) := dk_89 (dk_at dksX4_member_6 22 rfl rfl)
theorem dX4_member_163 : decode cX4_member 163 = .ok (.iload 4, 2) := dk_21 4 (dk_at dksX4_member_7 0 rfl rfl)
theorem dX4_member_165 : decode cX4_member 165 = .ok (.iload 5, 2) := dk_21 5 (dk_at dksX4_member_7 2 rfl rfl)
theorem dX4_member_167 : decode cX4_member 167 = .ok (.iconst 0, 1) := dk_3 (dk_at dksX4_member_7 4 rfl rfl)
theorem dX4_member_168 : decode cX4_member 168 = .ok (.aload_n 0, 1) := dk_42 (dk_at dksX4_member_7 5 rfl rfl)
theorem dX4_member_169 : decode cX4_member 169 = .ok (.iconst 1, 1) := dk_4 (dk_at dksX4_member_7 6 rfl rfl)
theorem dX4_member_170 : decode cX4_member 170 = .ok (.invokevirtual 244, 3) := dk_182 0 244 (dk_at dksX4_member_7 7 rfl rfl)
theorem dX4_member_173 : decode cX4_member 173 = .ok (.invokespecial 281, 3) := dk_183 1 25 (dk_at dksX4_member_7 10 rfl rfl)
theorem dX4_member_176 : decode cX4_member 176 = .ok (.areturn, 1) := dk_176 (dk_at dksX4_member_7 13 rfl rfl)
theorem dX4_member_177 : decode cX4_member 177 = .ok (.iconst (-1), 1) := dk_2 (dk_at dksX4_member_7 14 rfl rfl)
theorem dX4_member_178 : decode cX4_member 178 = .ok (.istore 6, 2) := dk_54 6 (dk_at dksX4_member_7 15 rfl rfl)
theorem dX4_member_180 : decode cX4_member 180 = .ok (.iload_n 3, 1) := dk_29 (dk_at dksX4_member_7 17 rfl rfl)
theorem dX4_member_181 : decode cX4_member 181 = .ok (.ifCond .ne 15, 3) := dk_154 0 15 (dk_at dksX4_member_7 18 rfl rfl)
theorem dX4_member_184 : decode cX4_member 184 = .ok (.aload_n 0, 1) := dk_42 (dk_at dksX4_member_7 21 rfl rfl)
theorem dX4_member_185 : decode cX4_member 185 = .ok (.bipush 61, 2) := dk_16 61 (dk_at dksX4_member_7 22 rfl rfl)
theorem dX4_member_187 : decode cX4_member 187 = .ok (.invokevirtual 177, 3) := dk_182 0 177 (dk_at dksX4_member_8 0 rfl rfl)
theorem dX4_member_190 : decode cX4_member 190 = .ok (.aload_n 0, 1) := dk_42 (dk_at dksX4_member_8 3 rfl rfl)
theorem dX4_member_191 : decode cX4_member 191 = .ok (.invokevirtual 284, 3) := dk_182 1 28 (dk_at dksX4_member_8 4 rfl rfl)
theorem dX4_member_194 : decode cX4_member 194 = .ok (.istore 6, 2) := dk_54 6 (dk_at dksX4_member_8 7 rfl rfl)
theorem dX4_member_196 : decode cX4_member 196 = .ok (.aload_n 0, 1) := dk_42 (dk_at dksX4_member_8 9 rfl rfl)
theorem dX4_member_197 : decode cX4_member 197 = .ok (.bipush 59, 2) := dk_16 59 (dk_at dksX4_member_8 10 rfl rfl)
theorem dX4_member_199 : decode cX4_member 199 = .ok (.invokevirtual 177, 3) := dk_182 0 177 (dk_at dksX4_member_8 12 rfl rfl)
theorem dX4_member_202 : decode cX4_member 202 = .ok (.new 265, 3) := dk_187 1 9 (dk_at dksX4_member_8 15 rfl rfl)
theorem dX4_member_205 : decode cX4_member 205 = .ok (.dup, 1) := dk_89 (dk_at dksX4_member_8 18 rfl rfl)
theorem dX4_member_206 : decode cX4_member 206 = .ok (.iload 4, 2) := dk_21 4 (dk_at dksX4_member_8 19 rfl rfl)
theorem dX4_member_208 : decode cX4_member 208 = .ok (.iload 5, 2) := dk_21 5 (dk_at dksX4_member_8 21 rfl rfl)
theorem dX4_member_210 : decode cX4_member 210 = .ok (.iload 6, 2) := dk_21 6 (dk_at dksX4_member_9 0 rfl rfl)
theorem dX4_member_212 : decode cX4_member 212 = .ok (.aconst_null, 1) := dk_1 (dk_at dksX4_member_9 2 rfl rfl)
theorem dX4_member_213 : decode cX4_member 213 = .ok (.invokespecial 281, 3) := dk_183 1 25 (dk_at dksX4_member_9 3 rfl rfl)
theorem dX4_member_216 : decode cX4_member 216 = .ok (.areturn, 1) := dk_176 (dk_at dksX4_member_9 6 rfl rfl)
abbrev cX4_isAbove : ByteArray := prog_29_method_32_code
def yX4_isAbove : MethodName := ⟨RX4, "isAbove", "(LPondHouse$Draft;LPondHouse$Row;I)Z"⟩
def dkwX4_isAbove_1 : List UInt8 := [182, 1, 15, 153, 0, 5, 4, 172, 25, 5, 180, 1, 31, 54, 4, 167, 255, 224, 3, 172]
abbrev dktX4_isAbove_1 : List UInt8 := dkwX4_isAbove_1 ++ []
def dkwX4_isAbove_0 : List UInt8 := [43, 180, 1, 31, 54, 4, 21, 4, 2, 159, 0, 32, 44, 21, 4, 184, 1, 33, 58, 5, 25, 5, 29]
abbrev dktX4_isAbove_0 : List UInt8 := dkwX4_isAbove_0 ++ dktX4_isAbove_1
theorem dksX4_isAbove_0 : cX4_isAbove.data.toList.drop 0 = dktX4_isAbove_0 := by decide +kernel
theorem dksX4_isAbove_1 : cX4_isAbove.data.toList.drop 23 = dktX4_isAbove_1 := dk_seg dksX4_isAbove_0 23 rfl rfl
theorem dX4_isAbove_0 : decode cX4_isAbove 0 = .ok (.aload_n 1, 1) := dk_43 (dk_at dksX4_isAbove_0 0 rfl rfl)
theorem dX4_isAbove_1 : decode cX4_isAbove 1 = .ok (.getfield 287, 3) := dk_180 1 31 (dk_at dksX4_isAbove_0 1 rfl rfl)
theorem dX4_isAbove_4 : decode cX4_isAbove 4 = .ok (.istore 4, 2) := dk_54 4 (dk_at dksX4_isAbove_0 4 rfl rfl)
theorem dX4_isAbove_6 : decode cX4_isAbove 6 = .ok (.iload 4, 2) := dk_21 4 (dk_at dksX4_isAbove_0 6 rfl rfl)
theorem dX4_isAbove_8 : decode cX4_isAbove 8 = .ok (.iconst (-1), 1) := dk_2 (dk_at dksX4_isAbove_0 8 rfl rfl)
theorem dX4_isAbove_9 : decode cX4_isAbove 9 = .ok (.if_icmp .eq 32, 3) := dk_159 0 32 (dk_at dksX4_isAbove_0 9 rfl rfl)
theorem dX4_isAbove_12 : decode cX4_isAbove 12 = .ok (.aload_n 2, 1) := dk_44 (dk_at dksX4_isAbove_0 12 rfl rfl)
theorem dX4_isAbove_13 : decode cX4_isAbove 13 = .ok (.iload 4, 2) := dk_21 4 (dk_at dksX4_isAbove_0 13 rfl rfl)
theorem dX4_isAbove_15 : decode cX4_isAbove 15 = .ok (.invokestatic 289, 3) := dk_184 1 33 (dk_at dksX4_isAbove_0 15 rfl rfl)
theorem dX4_isAbove_18 : decode cX4_isAbove 18 = .ok (.astore 5, 2) := dk_58 5 (dk_at dksX4_isAbove_0 18 rfl rfl)
theorem dX4_isAbove_20 : decode cX4_isAbove 20 = .ok (.aload 5, 2) := dk_25 5 (dk_at dksX4_isAbove_0 20 rfl rfl)
theorem dX4_isAbove_22 : decode cX4_isAbove 22 = .ok (.iload_n 3, 1) := dk_29 (dk_at dksX4_isAbove_0 22 rfl rfl)
theorem dX4_isAbove_23 : decode cX4_isAbove 23 = .ok (.invokevirtual 271, 3) := dk_182 1 15 (dk_at dksX4_isAbove_1 0 rfl rfl)
theorem dX4_isAbove_26 : decode cX4_isAbove 26 = .ok (.ifCond .eq 5, 3) := dk_153 0 5 (dk_at dksX4_isAbove_1 3 rfl rfl)
theorem dX4_isAbove_29 : decode cX4_isAbove 29 = .ok (.iconst 1, 1) := dk_4 (dk_at dksX4_isAbove_1 6 rfl rfl)
theorem dX4_isAbove_30 : decode cX4_isAbove 30 = .ok (.ireturn, 1) := dk_172 (dk_at dksX4_isAbove_1 7 rfl rfl)
theorem dX4_isAbove_31 : decode cX4_isAbove 31 = .ok (.aload 5, 2) := dk_25 5 (dk_at dksX4_isAbove_1 8 rfl rfl)
theorem dX4_isAbove_33 : decode cX4_isAbove 33 = .ok (.getfield 287, 3) := dk_180 1 31 (dk_at dksX4_isAbove_1 10 rfl rfl)
theorem dX4_isAbove_36 : decode cX4_isAbove 36 = .ok (.istore 4, 2) := dk_54 4 (dk_at dksX4_isAbove_1 13 rfl rfl)
theorem dX4_isAbove_38 : decode cX4_isAbove 38 = .ok (.goto (-32), 3) := dk_167 255 224 (dk_at dksX4_isAbove_1 15 rfl rfl)
theorem dX4_isAbove_41 : decode cX4_isAbove 41 = .ok (.iconst 0, 1) := dk_3 (dk_at dksX4_isAbove_1 18 rfl rfl)
theorem dX4_isAbove_42 : decode cX4_isAbove 42 = .ok (.ireturn, 1) := dk_172 (dk_at dksX4_isAbove_1 19 rfl rfl)
abbrev cX4_block : ByteArray := prog_29_method_25_code
def yX4_block : MethodName := ⟨RX4, "block", "(Z)LPondHouse$Block;"⟩
def dkwX4_block_1 : List UInt8 := [154, 0, 15, 44, 42, 27, 182, 0, 188, 182, 0, 192, 167, 255, 238, 42, 182, 0, 29, 44, 176]
abbrev dktX4_block_1 : List UInt8 := dkwX4_block_1 ++ []
def dkwX4_block_0 : List UInt8 := [42, 16, 123, 182, 0, 177, 187, 0, 183, 89, 42, 180, 0, 3, 183, 0, 185, 77, 42, 16, 125, 182, 0, 108]
abbrev dktX4_block_0 : List UInt8 := dkwX4_block_0 ++ dktX4_block_1
theorem dksX4_block_0 : cX4_block.data.toList.drop 0 = dktX4_block_0 := by decide +kernel
theorem dksX4_block_1 : cX4_block.data.toList.drop 24 = dktX4_block_1 := dk_seg dksX4_block_0 24 rfl rfl
theorem dX4_block_0 : decode cX4_block 0 = .ok (.aload_n 0, 1) := dk_42 (dk_at dksX4_block_0 0 rfl rfl)
theorem dX4_block_1 : decode cX4_block 1 = .ok (.bipush 123, 2) := dk_16 123 (dk_at dksX4_block_0 1 rfl rfl)
theorem dX4_block_3 : decode cX4_block 3 = .ok (.invokevirtual 177, 3) := dk_182 0 177 (dk_at dksX4_block_0 3 rfl rfl)
theorem dX4_block_6 : decode cX4_block 6 = .ok (.new 183, 3) := dk_187 0 183 (dk_at dksX4_block_0 6 rfl rfl)
theorem dX4_block_9 : decode cX4_block 9 = .ok (.dup, 1) := dk_89 (dk_at dksX4_block_0 9 rfl rfl)
theorem dX4_block_10 : decode cX4_block 10 = .ok (.aload_n 0, 1) := dk_42 (dk_at dksX4_block_0 10 rfl rfl)
theorem dX4_block_11 : decode cX4_block 11 = .ok (.getfield 3, 3) := dk_180 0 3 (dk_at dksX4_block_0 11 rfl rfl)
theorem dX4_block_14 : decode cX4_block 14 = .ok (.invokespecial 185, 3) := dk_183 0 185 (dk_at dksX4_block_0 14 rfl rfl)
theorem dX4_block_17 : decode cX4_block 17 = .ok (.astore_n 2, 1) := dk_77 (dk_at dksX4_block_0 17 rfl rfl)
theorem dX4_block_18 : decode cX4_block 18 = .ok (.aload_n 0, 1) := dk_42 (dk_at dksX4_block_0 18 rfl rfl)
theorem dX4_block_19 : decode cX4_block 19 = .ok (.bipush 125, 2) := dk_16 125 (dk_at dksX4_block_0 19 rfl rfl)
theorem dX4_block_21 : decode cX4_block 21 = .ok (.invokevirtual 108, 3) := dk_182 0 108 (dk_at dksX4_block_0 21 rfl rfl)
theorem dX4_block_24 : decode cX4_block 24 = .ok (.ifCond .ne 15, 3) := dk_154 0 15 (dk_at dksX4_block_1 0 rfl rfl)
theorem dX4_block_27 : decode cX4_block 27 = .ok (.aload_n 2, 1) := dk_44 (dk_at dksX4_block_1 3 rfl rfl)
theorem dX4_block_28 : decode cX4_block 28 = .ok (.aload_n 0, 1) := dk_42 (dk_at dksX4_block_1 4 rfl rfl)
theorem dX4_block_29 : decode cX4_block 29 = .ok (.iload_n 1, 1) := dk_27 (dk_at dksX4_block_1 5 rfl rfl)
theorem dX4_block_30 : decode cX4_block 30 = .ok (.invokevirtual 188, 3) := dk_182 0 188 (dk_at dksX4_block_1 6 rfl rfl)
theorem dX4_block_33 : decode cX4_block 33 = .ok (.invokevirtual 192, 3) := dk_182 0 192 (dk_at dksX4_block_1 9 rfl rfl)
theorem dX4_block_36 : decode cX4_block 36 = .ok (.goto (-18), 3) := dk_167 255 238 (dk_at dksX4_block_1 12 rfl rfl)
theorem dX4_block_39 : decode cX4_block 39 = .ok (.aload_n 0, 1) := dk_42 (dk_at dksX4_block_1 15 rfl rfl)
theorem dX4_block_40 : decode cX4_block 40 = .ok (.invokevirtual 29, 3) := dk_182 0 29 (dk_at dksX4_block_1 16 rfl rfl)
theorem dX4_block_43 : decode cX4_block 43 = .ok (.aload_n 2, 1) := dk_44 (dk_at dksX4_block_1 19 rfl rfl)
theorem dX4_block_44 : decode cX4_block 44 = .ok (.areturn, 1) := dk_176 (dk_at dksX4_block_1 20 rfl rfl)
abbrev cX4_statement : ByteArray := prog_29_method_27_code
def yX4_statement : MethodName := ⟨RX4, "statement", "(Z)LPondHouse$Statement;"⟩
def dkwX4_statement_4 : List UInt8 := [16, 59, 182, 0, 177, 44, 176]
abbrev dktX4_statement_4 : List UInt8 := dkwX4_statement_4 ++ []
def dkwX4_statement_3 : List UInt8 := [181, 0, 213, 42, 18, 207, 182, 0, 118, 153, 0, 8, 42, 182, 0, 216, 176, 42, 182, 0, 220, 77, 42]
abbrev dktX4_statement_3 : List UInt8 := dkwX4_statement_3 ++ dktX4_statement_4
def dkwX4_statement_2 : List UInt8 := [160, 0, 16, 42, 180, 0, 3, 6, 42, 180, 0, 36, 182, 0, 100, 191, 42, 89, 180, 0, 213, 4, 96]
abbrev dktX4_statement_2 : List UInt8 := dkwX4_statement_2 ++ dktX4_statement_3
def dkwX4_statement_1 : List UInt8 := [154, 0, 16, 42, 180, 0, 3, 5, 42, 180, 0, 36, 182, 0, 100, 191, 42, 180, 0, 213, 16, 60]
abbrev dktX4_statement_1 : List UInt8 := dkwX4_statement_1 ++ dktX4_statement_2
def dkwX4_statement_0 : List UInt8 := [42, 182, 0, 209, 154, 0, 8, 42, 182, 0, 114, 191, 42, 18, 205, 182, 0, 118, 153, 0, 20, 27]
abbrev dktX4_statement_0 : List UInt8 := dkwX4_statement_0 ++ dktX4_statement_1
theorem dksX4_statement_0 : cX4_statement.data.toList.drop 0 = dktX4_statement_0 := by decide +kernel
theorem dksX4_statement_1 : cX4_statement.data.toList.drop 22 = dktX4_statement_1 := dk_seg dksX4_statement_0 22 rfl rfl
theorem dksX4_statement_2 : cX4_statement.data.toList.drop 44 = dktX4_statement_2 := dk_seg dksX4_statement_1 22 rfl rfl
theorem dksX4_statement_3 : cX4_statement.data.toList.drop 67 = dktX4_statement_3 := dk_seg dksX4_statement_2 23 rfl rfl
theorem dksX4_statement_4 : cX4_statement.data.toList.drop 90 = dktX4_statement_4 := dk_seg dksX4_statement_3 23 rfl rfl
theorem dX4_statement_0 : decode cX4_statement 0 = .ok (.aload_n 0, 1) := dk_42 (dk_at dksX4_statement_0 0 rfl rfl)
theorem dX4_statement_1 : decode cX4_statement 1 = .ok (.invokevirtual 209, 3) := dk_182 0 209 (dk_at dksX4_statement_0 1 rfl rfl)
theorem dX4_statement_4 : decode cX4_statement 4 = .ok (.ifCond .ne 8, 3) := dk_154 0 8 (dk_at dksX4_statement_0 4 rfl rfl)
theorem dX4_statement_7 : decode cX4_statement 7 = .ok (.aload_n 0, 1) := dk_42 (dk_at dksX4_statement_0 7 rfl rfl)
theorem dX4_statement_8 : decode cX4_statement 8 = .ok (.invokevirtual 114, 3) := dk_182 0 114 (dk_at dksX4_statement_0 8 rfl rfl)
theorem dX4_statement_11 : decode cX4_statement 11 = .ok (.athrow, 1) := dk_191 (dk_at dksX4_statement_0 11 rfl rfl)
theorem dX4_statement_12 : decode cX4_statement 12 = .ok (.aload_n 0, 1) := dk_42 (dk_at dksX4_statement_0 12 rfl rfl)
theorem dX4_statement_13 : decode cX4_statement 13 = .ok (.ldc 205, 2) := dk_18 205 (dk_at dksX4_statement_0 13 rfl rfl)
theorem dX4_statement_15 : decode cX4_statement 15 = .ok (.invokevirtual 118, 3) := dk_182 0 118 (dk_at dksX4_statement_0 15 rfl rfl)
theorem dX4_statement_18 : decode cX4_statement 18 = .ok (.ifCond .eq 20, 3) := dk_153 0 20 (dk_at dksX4_statement_0 18 rfl rfl)
theorem dX4_statement_21 : decode cX4_statement 21 = .ok (.iload_n 1, 1) := dk_27 (dk_at dksX4_statement_0 21 rfl rfl)
theorem dX4_statement_22 : decode cX4_statement 22 = .ok (.ifCond .ne 16, 3) := dk_154 0 16 (dk_at dksX4_statement_1 0 rfl rfl)
theorem dX4_statement_25 : decode cX4_statement 25 = .ok (.aload_n 0, 1) := dk_42 (dk_at dksX4_statement_1 3 rfl rfl)
theorem dX4_statement_26 : decode cX4_statement 26 = .ok (.getfield 3, 3) := dk_180 0 3 (dk_at dksX4_statement_1 4 rfl rfl)
theorem dX4_statement_29 : decode cX4_statement 29 = .ok (.iconst 2, 1) := dk_5 (dk_at dksX4_statement_1 7 rfl rfl)
theorem dX4_statement_30 : decode cX4_statement 30 = .ok (.aload_n 0, 1) := dk_42 (dk_at dksX4_statement_1 8 rfl rfl)
theorem dX4_statement_31 : decode cX4_statement 31 = .ok (.getfield 36, 3) := dk_180 0 36 (dk_at dksX4_statement_1 9 rfl rfl)
theorem dX4_statement_34 : decode cX4_statement 34 = .ok (.invokevirtual 100, 3) := dk_182 0 100 (dk_at dksX4_statement_1 12 rfl rfl)
theorem dX4_statement_37 : decode cX4_statement 37 = .ok (.athrow, 1) := dk_191 (dk_at dksX4_statement_1 15 rfl rfl)
theorem dX4_statement_38 : decode cX4_statement 38 = .ok (.aload_n 0, 1) := dk_42 (dk_at dksX4_statement_1 16 rfl rfl)
theorem dX4_statement_39 : decode cX4_statement 39 = .ok (.getfield 213, 3) := dk_180 0 213 (dk_at dksX4_statement_1 17 rfl rfl)
theorem dX4_statement_42 : decode cX4_statement 42 = .ok (.bipush 60, 2) := dk_16 60 (dk_at dksX4_statement_1 20 rfl rfl)
theorem dX4_statement_44 : decode cX4_statement 44 = .ok (.if_icmp .ne 16, 3) := dk_160 0 16 (dk_at dksX4_statement_2 0 rfl rfl)
theorem dX4_statement_47 : decode cX4_statement 47 = .ok (.aload_n 0, 1) := dk_42 (dk_at dksX4_statement_2 3 rfl rfl)
theorem dX4_statement_48 : decode cX4_statement 48 = .ok (.getfield 3, 3) := dk_180 0 3 (dk_at dksX4_statement_2 4 rfl rfl)
theorem dX4_statement_51 : decode cX4_statement 51 = .ok (.iconst 3, 1) := dk_6 (dk_at dksX4_statement_2 7 rfl rfl)
theorem dX4_statement_52 : decode cX4_statement 52 = .ok (.aload_n 0, 1) := dk_42 (dk_at dksX4_statement_2 8 rfl rfl)
theorem dX4_statement_53 : decode cX4_statement 53 = .ok (.getfield 36, 3) := dk_180 0 36 (dk_at dksX4_statement_2 9 rfl rfl)
theorem dX4_statement_56 : decode cX4_statement 56 = .ok (.invokevirtual 100, 3) := dk_182 0 100 (dk_at dksX4_statement_2 12 rfl rfl)
theorem dX4_statement_59 : decode cX4_statement 59 = .ok (.athrow, 1) := dk_191 (dk_at dksX4_statement_2 15 rfl rfl)
theorem dX4_statement_60 : decode cX4_statement 60 = .ok (.aload_n 0, 1) := dk_42 (dk_at dksX4_statement_2 16 rfl rfl)
theorem dX4_statement_61 : decode cX4_statement 61 = .ok (.dup, 1) := dk_89 (dk_at dksX4_statement_2 17 rfl rfl)
theorem dX4_statement_62 : decode cX4_statement 62 = .ok (.getfield 213, 3) := dk_180 0 213 (dk_at dksX4_statement_2 18 rfl rfl)
theorem dX4_statement_65 : decode cX4_statement 65 = .ok (.iconst 1, 1) := dk_4 (dk_at dksX4_statement_2 21 rfl rfl)
theorem dX4_statement_66 : decode cX4_statement 66 = .ok (.iadd, 1) := dk_96 (dk_at dksX4_statement_2 22 rfl rfl)
theorem dX4_statement_67 : decode cX4_statement 67 = .ok (.putfield 213, 3) := dk_181 0 213 (dk_at dksX4_statement_3 0 rfl rfl)
theorem dX4_statement_70 : decode cX4_statement 70 = .ok (.aload_n 0, 1) := dk_42 (dk_at dksX4_statement_3 3 rfl rfl)
theorem dX4_statement_71 : decode cX4_statement 71 = .ok (.ldc 207, 2) := dk_18 207 (dk_at dksX4_statement_3 4 rfl rfl)
theorem dX4_statement_73 : decode cX4_statement 73 = .ok (.invokevirtual 118, 3) := dk_182 0 118 (dk_at dksX4_statement_3 6 rfl rfl)
theorem dX4_statement_76 : decode cX4_statement 76 = .ok (.ifCond .eq 8, 3) := dk_153 0 8 (dk_at dksX4_statement_3 9 rfl rfl)
theorem dX4_statement_79 : decode cX4_statement 79 = .ok (.aload_n 0, 1) := dk_42 (dk_at dksX4_statement_3 12 rfl rfl)
theorem dX4_statement_80 : decode cX4_statement 80 = .ok (.invokevirtual 216, 3) := dk_182 0 216 (dk_at dksX4_statement_3 13 rfl rfl)
theorem dX4_statement_83 : decode cX4_statement 83 = .ok (.areturn, 1) := dk_176 (dk_at dksX4_statement_3 16 rfl rfl)
theorem dX4_statement_84 : decode cX4_statement 84 = .ok (.aload_n 0, 1) := dk_42 (dk_at dksX4_statement_3 17 rfl rfl)
theorem dX4_statement_85 : decode cX4_statement 85 = .ok (.invokevirtual 220, 3) := dk_182 0 220 (dk_at dksX4_statement_3 18 rfl rfl)
theorem dX4_statement_88 : decode cX4_statement 88 = .ok (.astore_n 2, 1) := dk_77 (dk_at dksX4_statement_3 21 rfl rfl)
theorem dX4_statement_89 : decode cX4_statement 89 = .ok (.aload_n 0, 1) := dk_42 (dk_at dksX4_statement_3 22 rfl rfl)
theorem dX4_statement_90 : decode cX4_statement 90 = .ok (.bipush 59, 2) := dk_16 59 (dk_at dksX4_statement_4 0 rfl rfl)
theorem dX4_statement_92 : decode cX4_statement 92 = .ok (.invokevirtual 177, 3) := dk_182 0 177 (dk_at dksX4_statement_4 2 rfl rfl)
theorem dX4_statement_95 : decode cX4_statement 95 = .ok (.aload_n 2, 1) := dk_44 (dk_at dksX4_statement_4 5 rfl rfl)
theorem dX4_statement_96 : decode cX4_statement 96 = .ok (.areturn, 1) := dk_176 (dk_at dksX4_statement_4 6 rfl rfl)
abbrev cX4_isStatement : ByteArray := prog_29_method_26_code
def yX4_isStatement : MethodName := ⟨RX4, "isStatement", "()Z"⟩
def dkwX4_isStatement_3 : List UInt8 := [4, 167, 0, 4, 3, 172]
abbrev dktX4_isStatement_3 : List UInt8 := dkwX4_isStatement_3 ++ []
def dkwX4_isStatement_2 : List UInt8 := [182, 0, 118, 154, 0, 21, 42, 18, 205, 182, 0, 118, 154, 0, 12, 42, 18, 207, 182, 0, 118, 153, 0, 7]
abbrev dktX4_isStatement_2 : List UInt8 := dkwX4_isStatement_2 ++ dktX4_isStatement_3
def dkwX4_isStatement_1 : List UInt8 := [154, 0, 48, 42, 18, 199, 182, 0, 118, 154, 0, 39, 42, 18, 201, 182, 0, 118, 154, 0, 30, 42, 18, 203]
abbrev dktX4_isStatement_1 : List UInt8 := dkwX4_isStatement_1 ++ dktX4_isStatement_2
def dkwX4_isStatement_0 : List UInt8 := [42, 180, 0, 39, 5, 159, 0, 66, 42, 18, 195, 182, 0, 118, 154, 0, 57, 42, 18, 197, 182, 0, 118]
abbrev dktX4_isStatement_0 : List UInt8 := dkwX4_isStatement_0 ++ dktX4_isStatement_1
theorem dksX4_isStatement_0 : cX4_isStatement.data.toList.drop 0 = dktX4_isStatement_0 := by decide +kernel
theorem dksX4_isStatement_1 : cX4_isStatement.data.toList.drop 23 = dktX4_isStatement_1 := dk_seg dksX4_isStatement_0 23 rfl rfl
theorem dksX4_isStatement_2 : cX4_isStatement.data.toList.drop 47 = dktX4_isStatement_2 := dk_seg dksX4_isStatement_1 24 rfl rfl
theorem dksX4_isStatement_3 : cX4_isStatement.data.toList.drop 71 = dktX4_isStatement_3 := dk_seg dksX4_isStatement_2 24 rfl rfl
theorem dX4_isStatement_0 : decode cX4_isStatement 0 = .ok (.aload_n 0, 1) := dk_42 (dk_at dksX4_isStatement_0 0 rfl rfl)
theorem dX4_isStatement_1 : decode cX4_isStatement 1 = .ok (.getfield 39, 3) := dk_180 0 39 (dk_at dksX4_isStatement_0 1 rfl rfl)
theorem dX4_isStatement_4 : decode cX4_isStatement 4 = .ok (.iconst 2, 1) := dk_5 (dk_at dksX4_isStatement_0 4 rfl rfl)
theorem dX4_isStatement_5 : decode cX4_isStatement 5 = .ok (.if_icmp .eq 66, 3) := dk_159 0 66 (dk_at dksX4_isStatement_0 5 rfl rfl)
theorem dX4_isStatement_8 : decode cX4_isStatement 8 = .ok (.aload_n 0, 1) := dk_42 (dk_at dksX4_isStatement_0 8 rfl rfl)
theorem dX4_isStatement_9 : decode cX4_isStatement 9 = .ok (.ldc 195, 2) := dk_18 195 (dk_at dksX4_isStatement_0 9 rfl rfl)
theorem dX4_isStatement_11 : decode cX4_isStatement 11 = .ok (.invokevirtual 118, 3) := dk_182 0 118 (dk_at dksX4_isStatement_0 11 rfl rfl)
theorem dX4_isStatement_14 : decode cX4_isStatement 14 = .ok (.ifCond .ne 57, 3) := dk_154 0 57 (dk_at dksX4_isStatement_0 14 rfl rfl)
theorem dX4_isStatement_17 : decode cX4_isStatement 17 = .ok (.aload_n 0, 1) := dk_42 (dk_at dksX4_isStatement_0 17 rfl rfl)
theorem dX4_isStatement_18 : decode cX4_isStatement 18 = .ok (.ldc 197, 2) := dk_18 197 (dk_at dksX4_isStatement_0 18 rfl rfl)
theorem dX4_isStatement_20 : decode cX4_isStatement 20 = .ok (.invokevirtual 118, 3) := dk_182 0 118 (dk_at dksX4_isStatement_0 20 rfl rfl)
theorem dX4_isStatement_23 : decode cX4_isStatement 23 = .ok (.ifCond .ne 48, 3) := dk_154 0 48 (dk_at dksX4_isStatement_1 0 rfl rfl)
theorem dX4_isStatement_26 : decode cX4_isStatement 26 = .ok (.aload_n 0, 1) := dk_42 (dk_at dksX4_isStatement_1 3 rfl rfl)
theorem dX4_isStatement_27 : decode cX4_isStatement 27 = .ok (.ldc 199, 2) := dk_18 199 (dk_at dksX4_isStatement_1 4 rfl rfl)
theorem dX4_isStatement_29 : decode cX4_isStatement 29 = .ok (.invokevirtual 118, 3) := dk_182 0 118 (dk_at dksX4_isStatement_1 6 rfl rfl)
theorem dX4_isStatement_32 : decode cX4_isStatement 32 = .ok (.ifCond .ne 39, 3) := dk_154 0 39 (dk_at dksX4_isStatement_1 9 rfl rfl)
theorem dX4_isStatement_35 : decode cX4_isStatement 35 = .ok (.aload_n 0, 1) := dk_42 (dk_at dksX4_isStatement_1 12 rfl rfl)
theorem dX4_isStatement_36 : decode cX4_isStatement 36 = .ok (.ldc 201, 2) := dk_18 201 (dk_at dksX4_isStatement_1 13 rfl rfl)
theorem dX4_isStatement_38 : decode cX4_isStatement 38 = .ok (.invokevirtual 118, 3) := dk_182 0 118 (dk_at dksX4_isStatement_1 15 rfl rfl)
theorem dX4_isStatement_41 : decode cX4_isStatement 41 = .ok (.ifCond .ne 30, 3) := dk_154 0 30 (dk_at dksX4_isStatement_1 18 rfl rfl)
theorem dX4_isStatement_44 : decode cX4_isStatement 44 = .ok (.aload_n 0, 1) := dk_42 (dk_at dksX4_isStatement_1 21 rfl rfl)
theorem dX4_isStatement_45 : decode cX4_isStatement 45 = .ok (.ldc 203, 2) := dk_18 203 (dk_at dksX4_isStatement_1 22 rfl rfl)
theorem dX4_isStatement_47 : decode cX4_isStatement 47 = .ok (.invokevirtual 118, 3) := dk_182 0 118 (dk_at dksX4_isStatement_2 0 rfl rfl)
theorem dX4_isStatement_50 : decode cX4_isStatement 50 = .ok (.ifCond .ne 21, 3) := dk_154 0 21 (dk_at dksX4_isStatement_2 3 rfl rfl)
theorem dX4_isStatement_53 : decode cX4_isStatement 53 = .ok (.aload_n 0, 1) := dk_42 (dk_at dksX4_isStatement_2 6 rfl rfl)
theorem dX4_isStatement_54 : decode cX4_isStatement 54 = .ok (.ldc 205, 2) := dk_18 205 (dk_at dksX4_isStatement_2 7 rfl rfl)
theorem dX4_isStatement_56 : decode cX4_isStatement 56 = .ok (.invokevirtual 118, 3) := dk_182 0 118 (dk_at dksX4_isStatement_2 9 rfl rfl)
theorem dX4_isStatement_59 : decode cX4_isStatement 59 = .ok (.ifCond .ne 12, 3) := dk_154 0 12 (dk_at dksX4_isStatement_2 12 rfl rfl)
theorem dX4_isStatement_62 : decode cX4_isStatement 62 = .ok (.aload_n 0, 1) := dk_42 (dk_at dksX4_isStatement_2 15 rfl rfl)
theorem dX4_isStatement_63 : decode cX4_isStatement 63 = .ok (.ldc 207, 2) := dk_18 207 (dk_at dksX4_isStatement_2 16 rfl rfl)
theorem dX4_isStatement_65 : decode cX4_isStatement 65 = .ok (.invokevirtual 118, 3) := dk_182 0 118 (dk_at dksX4_isStatement_2 18 rfl rfl)
theorem dX4_isStatement_68 : decode cX4_isStatement 68 = .ok (.ifCond .eq 7, 3) := dk_153 0 7 (dk_at dksX4_isStatement_2 21 rfl rfl)
theorem dX4_isStatement_71 : decode cX4_isStatement 71 = .ok (.iconst 1, 1) := dk_4 (dk_at dksX4_isStatement_3 0 rfl rfl)
theorem dX4_isStatement_72 : decode cX4_isStatement 72 = .ok (.goto 4, 3) := dk_167 0 4 (dk_at dksX4_isStatement_3 1 rfl rfl)
theorem dX4_isStatement_75 : decode cX4_isStatement 75 = .ok (.iconst 0, 1) := dk_3 (dk_at dksX4_isStatement_3 4 rfl rfl)
theorem dX4_isStatement_76 : decode cX4_isStatement 76 = .ok (.ireturn, 1) := dk_172 (dk_at dksX4_isStatement_3 5 rfl rfl)
abbrev cX4_chooses : ByteArray := prog_29_method_29_code
def yX4_chooses : MethodName := ⟨RX4, "chooses", "()LPondHouse$Statement;"⟩
def dkwX4_chooses_2 : List UInt8 := [42, 89, 180, 0, 26, 4, 100, 181, 0, 26, 43, 176]
abbrev dktX4_chooses_2 : List UInt8 := dkwX4_chooses_2 ++ []
def dkwX4_chooses_1 : List UInt8 := [182, 0, 244, 181, 0, 248, 42, 18, 252, 182, 0, 161, 153, 0, 12, 43, 42, 3, 182, 0, 244, 181, 0, 254]
abbrev dktX4_chooses_1 : List UInt8 := dkwX4_chooses_1 ++ dktX4_chooses_2
def dkwX4_chooses_0 : List UInt8 := [42, 182, 0, 171, 187, 0, 241, 89, 42, 180, 0, 3, 42, 182, 0, 174, 183, 0, 243, 76, 43, 42, 3]
abbrev dktX4_chooses_0 : List UInt8 := dkwX4_chooses_0 ++ dktX4_chooses_1
theorem dksX4_chooses_0 : cX4_chooses.data.toList.drop 0 = dktX4_chooses_0 := by decide +kernel
theorem dksX4_chooses_1 : cX4_chooses.data.toList.drop 23 = dktX4_chooses_1 := dk_seg dksX4_chooses_0 23 rfl rfl
theorem dksX4_chooses_2 : cX4_chooses.data.toList.drop 47 = dktX4_chooses_2 := dk_seg dksX4_chooses_1 24 rfl rfl
theorem dX4_chooses_0 : decode cX4_chooses 0 = .ok (.aload_n 0, 1) := dk_42 (dk_at dksX4_chooses_0 0 rfl rfl)
theorem dX4_chooses_1 : decode cX4_chooses 1 = .ok (.invokevirtual 171, 3) := dk_182 0 171 (dk_at dksX4_chooses_0 1 rfl rfl)
theorem dX4_chooses_4 : decode cX4_chooses 4 = .ok (.new 241, 3) := dk_187 0 241 (dk_at dksX4_chooses_0 4 rfl rfl)
theorem dX4_chooses_7 : decode cX4_chooses 7 = .ok (.dup, 1) := dk_89 (dk_at dksX4_chooses_0 7 rfl rfl)
theorem dX4_chooses_8 : decode cX4_chooses 8 = .ok (.aload_n 0, 1) := dk_42 (dk_at dksX4_chooses_0 8 rfl rfl)
theorem dX4_chooses_9 : decode cX4_chooses 9 = .ok (.getfield 3, 3) := dk_180 0 3 (dk_at dksX4_chooses_0 9 rfl rfl)
theorem dX4_chooses_12 : decode cX4_chooses 12 = .ok (.aload_n 0, 1) := dk_42 (dk_at dksX4_chooses_0 12 rfl rfl)
theorem dX4_chooses_13 : decode cX4_chooses 13 = .ok (.invokevirtual 174, 3) := dk_182 0 174 (dk_at dksX4_chooses_0 13 rfl rfl)
theorem dX4_chooses_16 : decode cX4_chooses 16 = .ok (.invokespecial 243, 3) := dk_183 0 243 (dk_at dksX4_chooses_0 16 rfl rfl)
theorem dX4_chooses_19 : decode cX4_chooses 19 = .ok (.astore_n 1, 1) := dk_76 (dk_at dksX4_chooses_0 19 rfl rfl)
theorem dX4_chooses_20 : decode cX4_chooses 20 = .ok (.aload_n 1, 1) := dk_43 (dk_at dksX4_chooses_0 20 rfl rfl)
theorem dX4_chooses_21 : decode cX4_chooses 21 = .ok (.aload_n 0, 1) := dk_42 (dk_at dksX4_chooses_0 21 rfl rfl)
theorem dX4_chooses_22 : decode cX4_chooses 22 = .ok (.iconst 0, 1) := dk_3 (dk_at dksX4_chooses_0 22 rfl rfl)
theorem dX4_chooses_23 : decode cX4_chooses 23 = .ok (.invokevirtual 244, 3) := dk_182 0 244 (dk_at dksX4_chooses_1 0 rfl rfl)
theorem dX4_chooses_26 : decode cX4_chooses 26 = .ok (.putfield 248, 3) := dk_181 0 248 (dk_at dksX4_chooses_1 3 rfl rfl)
theorem dX4_chooses_29 : decode cX4_chooses 29 = .ok (.aload_n 0, 1) := dk_42 (dk_at dksX4_chooses_1 6 rfl rfl)
theorem dX4_chooses_30 : decode cX4_chooses 30 = .ok (.ldc 252, 2) := dk_18 252 (dk_at dksX4_chooses_1 7 rfl rfl)
theorem dX4_chooses_32 : decode cX4_chooses 32 = .ok (.invokevirtual 161, 3) := dk_182 0 161 (dk_at dksX4_chooses_1 9 rfl rfl)
theorem dX4_chooses_35 : decode cX4_chooses 35 = .ok (.ifCond .eq 12, 3) := dk_153 0 12 (dk_at dksX4_chooses_1 12 rfl rfl)
theorem dX4_chooses_38 : decode cX4_chooses 38 = .ok (.aload_n 1, 1) := dk_43 (dk_at dksX4_chooses_1 15 rfl rfl)
theorem dX4_chooses_39 : decode cX4_chooses 39 = .ok (.aload_n 0, 1) := dk_42 (dk_at dksX4_chooses_1 16 rfl rfl)
theorem dX4_chooses_40 : decode cX4_chooses 40 = .ok (.iconst 0, 1) := dk_3 (dk_at dksX4_chooses_1 17 rfl rfl)
theorem dX4_chooses_41 : decode cX4_chooses 41 = .ok (.invokevirtual 244, 3) := dk_182 0 244 (dk_at dksX4_chooses_1 18 rfl rfl)
theorem dX4_chooses_44 : decode cX4_chooses 44 = .ok (.putfield 254, 3) := dk_181 0 254 (dk_at dksX4_chooses_1 21 rfl rfl)
theorem dX4_chooses_47 : decode cX4_chooses 47 = .ok (.aload_n 0, 1) := dk_42 (dk_at dksX4_chooses_2 0 rfl rfl)
theorem dX4_chooses_48 : decode cX4_chooses 48 = .ok (.dup, 1) := dk_89 (dk_at dksX4_chooses_2 1 rfl rfl)
theorem dX4_chooses_49 : decode cX4_chooses 49 = .ok (.getfield 26, 3) := dk_180 0 26 (dk_at dksX4_chooses_2 2 rfl rfl)
theorem dX4_chooses_52 : decode cX4_chooses 52 = .ok (.iconst 1, 1) := dk_4 (dk_at dksX4_chooses_2 5 rfl rfl)
theorem dX4_chooses_53 : decode cX4_chooses 53 = .ok (.isub, 1) := dk_100 (dk_at dksX4_chooses_2 6 rfl rfl)
theorem dX4_chooses_54 : decode cX4_chooses 54 = .ok (.putfield 26, 3) := dk_181 0 26 (dk_at dksX4_chooses_2 7 rfl rfl)
theorem dX4_chooses_57 : decode cX4_chooses 57 = .ok (.aload_n 1, 1) := dk_43 (dk_at dksX4_chooses_2 10 rfl rfl)
theorem dX4_chooses_58 : decode cX4_chooses 58 = .ok (.areturn, 1) := dk_176 (dk_at dksX4_chooses_2 11 rfl rfl)
abbrev cX4_opens : ByteArray := prog_29_method_20_code
def yX4_opens : MethodName := ⟨RX4, "opens", "()V"⟩
def dkwX4_opens_1 : List UInt8 := [180, 0, 26, 4, 96, 181, 0, 26, 42, 182, 0, 29, 177]
abbrev dktX4_opens_1 : List UInt8 := dkwX4_opens_1 ++ []
def dkwX4_opens_0 : List UInt8 := [42, 180, 0, 26, 16, 12, 160, 0, 16, 42, 180, 0, 3, 6, 42, 180, 0, 36, 182, 0, 100, 191, 42, 89]
abbrev dktX4_opens_0 : List UInt8 := dkwX4_opens_0 ++ dktX4_opens_1
theorem dksX4_opens_0 : cX4_opens.data.toList.drop 0 = dktX4_opens_0 := by decide +kernel
theorem dksX4_opens_1 : cX4_opens.data.toList.drop 24 = dktX4_opens_1 := dk_seg dksX4_opens_0 24 rfl rfl
theorem dX4_opens_0 : decode cX4_opens 0 = .ok (.aload_n 0, 1) := dk_42 (dk_at dksX4_opens_0 0 rfl rfl)
theorem dX4_opens_1 : decode cX4_opens 1 = .ok (.getfield 26, 3) := dk_180 0 26 (dk_at dksX4_opens_0 1 rfl rfl)
theorem dX4_opens_4 : decode cX4_opens 4 = .ok (.bipush 12, 2) := dk_16 12 (dk_at dksX4_opens_0 4 rfl rfl)
theorem dX4_opens_6 : decode cX4_opens 6 = .ok (.if_icmp .ne 16, 3) := dk_160 0 16 (dk_at dksX4_opens_0 6 rfl rfl)
theorem dX4_opens_9 : decode cX4_opens 9 = .ok (.aload_n 0, 1) := dk_42 (dk_at dksX4_opens_0 9 rfl rfl)
theorem dX4_opens_10 : decode cX4_opens 10 = .ok (.getfield 3, 3) := dk_180 0 3 (dk_at dksX4_opens_0 10 rfl rfl)
theorem dX4_opens_13 : decode cX4_opens 13 = .ok (.iconst 3, 1) := dk_6 (dk_at dksX4_opens_0 13 rfl rfl)
theorem dX4_opens_14 : decode cX4_opens 14 = .ok (.aload_n 0, 1) := dk_42 (dk_at dksX4_opens_0 14 rfl rfl)
theorem dX4_opens_15 : decode cX4_opens 15 = .ok (.getfield 36, 3) := dk_180 0 36 (dk_at dksX4_opens_0 15 rfl rfl)
theorem dX4_opens_18 : decode cX4_opens 18 = .ok (.invokevirtual 100, 3) := dk_182 0 100 (dk_at dksX4_opens_0 18 rfl rfl)
theorem dX4_opens_21 : decode cX4_opens 21 = .ok (.athrow, 1) := dk_191 (dk_at dksX4_opens_0 21 rfl rfl)
theorem dX4_opens_22 : decode cX4_opens 22 = .ok (.aload_n 0, 1) := dk_42 (dk_at dksX4_opens_0 22 rfl rfl)
theorem dX4_opens_23 : decode cX4_opens 23 = .ok (.dup, 1) := dk_89 (dk_at dksX4_opens_0 23 rfl rfl)
theorem dX4_opens_24 : decode cX4_opens 24 = .ok (.getfield 26, 3) := dk_180 0 26 (dk_at dksX4_opens_1 0 rfl rfl)
theorem dX4_opens_27 : decode cX4_opens 27 = .ok (.iconst 1, 1) := dk_4 (dk_at dksX4_opens_1 3 rfl rfl)
theorem dX4_opens_28 : decode cX4_opens 28 = .ok (.iadd, 1) := dk_96 (dk_at dksX4_opens_1 4 rfl rfl)
theorem dX4_opens_29 : decode cX4_opens 29 = .ok (.putfield 26, 3) := dk_181 0 26 (dk_at dksX4_opens_1 5 rfl rfl)
theorem dX4_opens_32 : decode cX4_opens 32 = .ok (.aload_n 0, 1) := dk_42 (dk_at dksX4_opens_1 8 rfl rfl)
theorem dX4_opens_33 : decode cX4_opens 33 = .ok (.invokevirtual 29, 3) := dk_182 0 29 (dk_at dksX4_opens_1 9 rfl rfl)
theorem dX4_opens_36 : decode cX4_opens 36 = .ok (.return_, 1) := dk_177 (dk_at dksX4_opens_1 12 rfl rfl)
abbrev cX4_worth : ByteArray := prog_29_method_21_code
def yX4_worth : MethodName := ⟨RX4, "worth", "()LPondHouse$Worth;"⟩
def dkwX4_worth_3 : List UInt8 := [44, 176]
abbrev dktX4_worth_3 : List UInt8 := dkwX4_worth_3 ++ []
def dkwX4_worth_2 : List UInt8 := [160, 0, 8, 16, 61, 167, 0, 5, 16, 60, 62, 42, 182, 0, 29, 44, 29, 42, 182, 0, 129, 182, 0, 138]
abbrev dktX4_worth_2 : List UInt8 := dkwX4_worth_2 ++ dktX4_worth_3
def dkwX4_worth_1 : List UInt8 := [43, 176, 187, 0, 133, 89, 42, 180, 0, 3, 43, 183, 0, 135, 77, 42, 180, 0, 87, 17, 1, 0]
abbrev dktX4_worth_1 : List UInt8 := dkwX4_worth_1 ++ dktX4_worth_2
def dkwX4_worth_0 : List UInt8 := [42, 182, 0, 129, 76, 42, 16, 60, 182, 0, 108, 154, 0, 15, 42, 17, 1, 0, 182, 0, 108, 154, 0, 5]
abbrev dktX4_worth_0 : List UInt8 := dkwX4_worth_0 ++ dktX4_worth_1
theorem dksX4_worth_0 : cX4_worth.data.toList.drop 0 = dktX4_worth_0 := by decide +kernel
theorem dksX4_worth_1 : cX4_worth.data.toList.drop 24 = dktX4_worth_1 := dk_seg dksX4_worth_0 24 rfl rfl
theorem dksX4_worth_2 : cX4_worth.data.toList.drop 46 = dktX4_worth_2 := dk_seg dksX4_worth_1 22 rfl rfl
theorem dksX4_worth_3 : cX4_worth.data.toList.drop 70 = dktX4_worth_3 := dk_seg dksX4_worth_2 24 rfl rfl
theorem dX4_worth_0 : decode cX4_worth 0 = .ok (.aload_n 0, 1) := dk_42 (dk_at dksX4_worth_0 0 rfl rfl)
theorem dX4_worth_1 : decode cX4_worth 1 = .ok (.invokevirtual 129, 3) := dk_182 0 129 (dk_at dksX4_worth_0 1 rfl rfl)
theorem dX4_worth_4 : decode cX4_worth 4 = .ok (.astore_n 1, 1) := dk_76 (dk_at dksX4_worth_0 4 rfl rfl)
theorem dX4_worth_5 : decode cX4_worth 5 = .ok (.aload_n 0, 1) := dk_42 (dk_at dksX4_worth_0 5 rfl rfl)
theorem dX4_worth_6 : decode cX4_worth 6 = .ok (.bipush 60, 2) := dk_16 60 (dk_at dksX4_worth_0 6 rfl rfl)
theorem dX4_worth_8 : decode cX4_worth 8 = .ok (.invokevirtual 108, 3) := dk_182 0 108 (dk_at dksX4_worth_0 8 rfl rfl)
theorem dX4_worth_11 : decode cX4_worth 11 = .ok (.ifCond .ne 15, 3) := dk_154 0 15 (dk_at dksX4_worth_0 11 rfl rfl)
theorem dX4_worth_14 : decode cX4_worth 14 = .ok (.aload_n 0, 1) := dk_42 (dk_at dksX4_worth_0 14 rfl rfl)
theorem dX4_worth_15 : decode cX4_worth 15 = .ok (.sipush 256, 3) := dk_17 1 0 (dk_at dksX4_worth_0 15 rfl rfl)
theorem dX4_worth_18 : decode cX4_worth 18 = .ok (.invokevirtual 108, 3) := dk_182 0 108 (dk_at dksX4_worth_0 18 rfl rfl)
theorem dX4_worth_21 : decode cX4_worth 21 = .ok (.ifCond .ne 5, 3) := dk_154 0 5 (dk_at dksX4_worth_0 21 rfl rfl)
theorem dX4_worth_24 : decode cX4_worth 24 = .ok (.aload_n 1, 1) := dk_43 (dk_at dksX4_worth_1 0 rfl rfl)
theorem dX4_worth_25 : decode cX4_worth 25 = .ok (.areturn, 1) := dk_176 (dk_at dksX4_worth_1 1 rfl rfl)
theorem dX4_worth_26 : decode cX4_worth 26 = .ok (.new 133, 3) := dk_187 0 133 (dk_at dksX4_worth_1 2 rfl rfl)
theorem dX4_worth_29 : decode cX4_worth 29 = .ok (.dup, 1) := dk_89 (dk_at dksX4_worth_1 5 rfl rfl)
theorem dX4_worth_30 : decode cX4_worth 30 = .ok (.aload_n 0, 1) := dk_42 (dk_at dksX4_worth_1 6 rfl rfl)
theorem dX4_worth_31 : decode cX4_worth 31 = .ok (.getfield 3, 3) := dk_180 0 3 (dk_at dksX4_worth_1 7 rfl rfl)
theorem dX4_worth_34 : decode cX4_worth 34 = .ok (.aload_n 1, 1) := dk_43 (dk_at dksX4_worth_1 10 rfl rfl)
theorem dX4_worth_35 : decode cX4_worth 35 = .ok (.invokespecial 135, 3) := dk_183 0 135 (dk_at dksX4_worth_1 11 rfl rfl)
theorem dX4_worth_38 : decode cX4_worth 38 = .ok (.astore_n 2, 1) := dk_77 (dk_at dksX4_worth_1 14 rfl rfl)
theorem dX4_worth_39 : decode cX4_worth 39 = .ok (.aload_n 0, 1) := dk_42 (dk_at dksX4_worth_1 15 rfl rfl)
theorem dX4_worth_40 : decode cX4_worth 40 = .ok (.getfield 87, 3) := dk_180 0 87 (dk_at dksX4_worth_1 16 rfl rfl)
theorem dX4_worth_43 : decode cX4_worth 43 = .ok (.sipush 256, 3) := dk_17 1 0 (dk_at dksX4_worth_1 19 rfl rfl)
theorem dX4_worth_46 : decode cX4_worth 46 = .ok (.if_icmp .ne 8, 3) := dk_160 0 8 (dk_at dksX4_worth_2 0 rfl rfl)
theorem dX4_worth_49 : decode cX4_worth 49 = .ok (.bipush 61, 2) := dk_16 61 (dk_at dksX4_worth_2 3 rfl rfl)
theorem dX4_worth_51 : decode cX4_worth 51 = .ok (.goto 5, 3) := dk_167 0 5 (dk_at dksX4_worth_2 5 rfl rfl)
theorem dX4_worth_54 : decode cX4_worth 54 = .ok (.bipush 60, 2) := dk_16 60 (dk_at dksX4_worth_2 8 rfl rfl)
theorem dX4_worth_56 : decode cX4_worth 56 = .ok (.istore_n 3, 1) := dk_62 (dk_at dksX4_worth_2 10 rfl rfl)
theorem dX4_worth_57 : decode cX4_worth 57 = .ok (.aload_n 0, 1) := dk_42 (dk_at dksX4_worth_2 11 rfl rfl)
theorem dX4_worth_58 : decode cX4_worth 58 = .ok (.invokevirtual 29, 3) := dk_182 0 29 (dk_at dksX4_worth_2 12 rfl rfl)
theorem dX4_worth_61 : decode cX4_worth 61 = .ok (.aload_n 2, 1) := dk_44 (dk_at dksX4_worth_2 15 rfl rfl)
theorem dX4_worth_62 : decode cX4_worth 62 = .ok (.iload_n 3, 1) := dk_29 (dk_at dksX4_worth_2 16 rfl rfl)
theorem dX4_worth_63 : decode cX4_worth 63 = .ok (.aload_n 0, 1) := dk_42 (dk_at dksX4_worth_2 17 rfl rfl)
theorem dX4_worth_64 : decode cX4_worth 64 = .ok (.invokevirtual 129, 3) := dk_182 0 129 (dk_at dksX4_worth_2 18 rfl rfl)
theorem dX4_worth_67 : decode cX4_worth 67 = .ok (.invokevirtual 138, 3) := dk_182 0 138 (dk_at dksX4_worth_2 21 rfl rfl)
theorem dX4_worth_70 : decode cX4_worth 70 = .ok (.aload_n 2, 1) := dk_44 (dk_at dksX4_worth_3 0 rfl rfl)
theorem dX4_worth_71 : decode cX4_worth 71 = .ok (.areturn, 1) := dk_176 (dk_at dksX4_worth_3 1 rfl rfl)
abbrev cX4_sum : ByteArray := prog_29_method_22_code
def yX4_sum : MethodName := ⟨RX4, "sum", "()LPondHouse$Worth;"⟩
def dkwX4_sum_3 : List UInt8 := [167, 0, 4, 44, 176]
abbrev dktX4_sum_3 : List UInt8 := dkwX4_sum_3 ++ []
def dkwX4_sum_2 : List UInt8 := [146, 62, 42, 182, 0, 29, 44, 29, 42, 182, 0, 142, 182, 0, 138, 167, 255, 202, 44, 199, 0, 7, 43]
abbrev dktX4_sum_2 : List UInt8 := dkwX4_sum_2 ++ dktX4_sum_3
def dkwX4_sum_1 : List UInt8 := [153, 0, 42, 44, 199, 0, 16, 187, 0, 133, 89, 42, 180, 0, 3, 43, 183, 0, 135, 77, 42, 180, 0, 87]
abbrev dktX4_sum_1 : List UInt8 := dkwX4_sum_1 ++ dktX4_sum_2
def dkwX4_sum_0 : List UInt8 := [42, 182, 0, 142, 76, 1, 77, 42, 16, 43, 182, 0, 108, 154, 0, 12, 42, 16, 45, 182, 0, 108]
abbrev dktX4_sum_0 : List UInt8 := dkwX4_sum_0 ++ dktX4_sum_1
theorem dksX4_sum_0 : cX4_sum.data.toList.drop 0 = dktX4_sum_0 := by decide +kernel
theorem dksX4_sum_1 : cX4_sum.data.toList.drop 22 = dktX4_sum_1 := dk_seg dksX4_sum_0 22 rfl rfl
theorem dksX4_sum_2 : cX4_sum.data.toList.drop 46 = dktX4_sum_2 := dk_seg dksX4_sum_1 24 rfl rfl
theorem dksX4_sum_3 : cX4_sum.data.toList.drop 69 = dktX4_sum_3 := dk_seg dksX4_sum_2 23 rfl rfl
theorem dX4_sum_0 : decode cX4_sum 0 = .ok (.aload_n 0, 1) := dk_42 (dk_at dksX4_sum_0 0 rfl rfl)
theorem dX4_sum_1 : decode cX4_sum 1 = .ok (.invokevirtual 142, 3) := dk_182 0 142 (dk_at dksX4_sum_0 1 rfl rfl)
theorem dX4_sum_4 : decode cX4_sum 4 = .ok (.astore_n 1, 1) := dk_76 (dk_at dksX4_sum_0 4 rfl rfl)
theorem dX4_sum_5 : decode cX4_sum 5 = .ok (.aconst_null, 1) := dk_1 (dk_at dksX4_sum_0 5 rfl rfl)
theorem dX4_sum_6 : decode cX4_sum 6 = .ok (.astore_n 2, 1) := dk_77 (dk_at dksX4_sum_0 6 rfl rfl)
theorem dX4_sum_7 : decode cX4_sum 7 = .ok (.aload_n 0, 1) := dk_42 (dk_at dksX4_sum_0 7 rfl rfl)
theorem dX4_sum_8 : decode cX4_sum 8 = .ok (.bipush 43, 2) := dk_16 43 (dk_at dksX4_sum_0 8 rfl rfl)
theorem dX4_sum_10 : decode cX4_sum 10 = .ok (.invokevirtual 108, 3) := dk_182 0 108 (dk_at dksX4_sum_0 10 rfl rfl)
theorem dX4_sum_13 : decode cX4_sum 13 = .ok (.ifCond .ne 12, 3) := dk_154 0 12 (dk_at dksX4_sum_0 13 rfl rfl)
theorem dX4_sum_16 : decode cX4_sum 16 = .ok (.aload_n 0, 1) := dk_42 (dk_at dksX4_sum_0 16 rfl rfl)
theorem dX4_sum_17 : decode cX4_sum 17 = .ok (.bipush 45, 2) := dk_16 45 (dk_at dksX4_sum_0 17 rfl rfl)
theorem dX4_sum_19 : decode cX4_sum 19 = .ok (.invokevirtual 108, 3) := dk_182 0 108 (dk_at dksX4_sum_0 19 rfl rfl)
theorem dX4_sum_22 : decode cX4_sum 22 = .ok (.ifCond .eq 42, 3) := dk_153 0 42 (dk_at dksX4_sum_1 0 rfl rfl)
theorem dX4_sum_25 : decode cX4_sum 25 = .ok (.aload_n 2, 1) := dk_44 (dk_at dksX4_sum_1 3 rfl rfl)
theorem dX4_sum_26 : decode cX4_sum 26 = .ok (.ifnonnull 16, 3) := dk_199 0 16 (dk_at dksX4_sum_1 4 rfl rfl)
theorem dX4_sum_29 : decode cX4_sum 29 = .ok (.new 133, 3) := dk_187 0 133 (dk_at dksX4_sum_1 7 rfl rfl)
theorem dX4_sum_32 : decode cX4_sum 32 = .ok (.dup, 1) := dk_89 (dk_at dksX4_sum_1 10 rfl rfl)
theorem dX4_sum_33 : decode cX4_sum 33 = .ok (.aload_n 0, 1) := dk_42 (dk_at dksX4_sum_1 11 rfl rfl)
theorem dX4_sum_34 : decode cX4_sum 34 = .ok (.getfield 3, 3) := dk_180 0 3 (dk_at dksX4_sum_1 12 rfl rfl)
theorem dX4_sum_37 : decode cX4_sum 37 = .ok (.aload_n 1, 1) := dk_43 (dk_at dksX4_sum_1 15 rfl rfl)
theorem dX4_sum_38 : decode cX4_sum 38 = .ok (.invokespecial 135, 3) := dk_183 0 135 (dk_at dksX4_sum_1 16 rfl rfl)
theorem dX4_sum_41 : decode cX4_sum 41 = .ok (.astore_n 2, 1) := dk_77 (dk_at dksX4_sum_1 19 rfl rfl)
theorem dX4_sum_42 : decode cX4_sum 42 = .ok (.aload_n 0, 1) := dk_42 (dk_at dksX4_sum_1 20 rfl rfl)
theorem dX4_sum_43 : decode cX4_sum 43 = .ok (.getfield 87, 3) := dk_180 0 87 (dk_at dksX4_sum_1 21 rfl rfl)
theorem dX4_sum_46 : decode cX4_sum 46 = .ok (.i2c, 1) := dk_146 (dk_at dksX4_sum_2 0 rfl rfl)
theorem dX4_sum_47 : decode cX4_sum 47 = .ok (.istore_n 3, 1) := dk_62 (dk_at dksX4_sum_2 1 rfl rfl)
theorem dX4_sum_48 : decode cX4_sum 48 = .ok (.aload_n 0, 1) := dk_42 (dk_at dksX4_sum_2 2 rfl rfl)
theorem dX4_sum_49 : decode cX4_sum 49 = .ok (.invokevirtual 29, 3) := dk_182 0 29 (dk_at dksX4_sum_2 3 rfl rfl)
theorem dX4_sum_52 : decode cX4_sum 52 = .ok (.aload_n 2, 1) := dk_44 (dk_at dksX4_sum_2 6 rfl rfl)
theorem dX4_sum_53 : decode cX4_sum 53 = .ok (.iload_n 3, 1) := dk_29 (dk_at dksX4_sum_2 7 rfl rfl)
theorem dX4_sum_54 : decode cX4_sum 54 = .ok (.aload_n 0, 1) := dk_42 (dk_at dksX4_sum_2 8 rfl rfl)
theorem dX4_sum_55 : decode cX4_sum 55 = .ok (.invokevirtual 142, 3) := dk_182 0 142 (dk_at dksX4_sum_2 9 rfl rfl)
theorem dX4_sum_58 : decode cX4_sum 58 = .ok (.invokevirtual 138, 3) := dk_182 0 138 (dk_at dksX4_sum_2 12 rfl rfl)
theorem dX4_sum_61 : decode cX4_sum 61 = .ok (.goto (-54), 3) := dk_167 255 202 (dk_at dksX4_sum_2 15 rfl rfl)
theorem dX4_sum_64 : decode cX4_sum 64 = .ok (.aload_n 2, 1) := dk_44 (dk_at dksX4_sum_2 18 rfl rfl)
theorem dX4_sum_65 : decode cX4_sum 65 = .ok (.ifnonnull 7, 3) := dk_199 0 7 (dk_at dksX4_sum_2 19 rfl rfl)
theorem dX4_sum_68 : decode cX4_sum 68 = .ok (.aload_n 1, 1) := dk_43 (dk_at dksX4_sum_2 22 rfl rfl)
theorem dX4_sum_69 : decode cX4_sum 69 = .ok (.goto 4, 3) := dk_167 0 4 (dk_at dksX4_sum_3 0 rfl rfl)
theorem dX4_sum_72 : decode cX4_sum 72 = .ok (.aload_n 2, 1) := dk_44 (dk_at dksX4_sum_3 3 rfl rfl)
theorem dX4_sum_73 : decode cX4_sum 73 = .ok (.areturn, 1) := dk_176 (dk_at dksX4_sum_3 4 rfl rfl)
abbrev cX4_product : ByteArray := prog_29_method_23_code
def yX4_product : MethodName := ⟨RX4, "product", "()LPondHouse$Worth;"⟩
def dkwX4_product_3 : List UInt8 := [167, 0, 4, 44, 176]
abbrev dktX4_product_3 : List UInt8 := dkwX4_product_3 ++ []
def dkwX4_product_2 : List UInt8 := [146, 62, 42, 182, 0, 29, 44, 29, 42, 182, 0, 145, 182, 0, 138, 167, 255, 202, 44, 199, 0, 7, 43]
abbrev dktX4_product_2 : List UInt8 := dkwX4_product_2 ++ dktX4_product_3
def dkwX4_product_1 : List UInt8 := [153, 0, 42, 44, 199, 0, 16, 187, 0, 133, 89, 42, 180, 0, 3, 43, 183, 0, 135, 77, 42, 180, 0, 87]
abbrev dktX4_product_1 : List UInt8 := dkwX4_product_1 ++ dktX4_product_2
def dkwX4_product_0 : List UInt8 := [42, 182, 0, 145, 76, 1, 77, 42, 16, 42, 182, 0, 108, 154, 0, 12, 42, 16, 47, 182, 0, 108]
abbrev dktX4_product_0 : List UInt8 := dkwX4_product_0 ++ dktX4_product_1
theorem dksX4_product_0 : cX4_product.data.toList.drop 0 = dktX4_product_0 := by decide +kernel
theorem dksX4_product_1 : cX4_product.data.toList.drop 22 = dktX4_product_1 := dk_seg dksX4_product_0 22 rfl rfl
theorem dksX4_product_2 : cX4_product.data.toList.drop 46 = dktX4_product_2 := dk_seg dksX4_product_1 24 rfl rfl
theorem dksX4_product_3 : cX4_product.data.toList.drop 69 = dktX4_product_3 := dk_seg dksX4_product_2 23 rfl rfl
theorem dX4_product_0 : decode cX4_product 0 = .ok (.aload_n 0, 1) := dk_42 (dk_at dksX4_product_0 0 rfl rfl)
theorem dX4_product_1 : decode cX4_product 1 = .ok (.invokevirtual 145, 3) := dk_182 0 145 (dk_at dksX4_product_0 1 rfl rfl)
theorem dX4_product_4 : decode cX4_product 4 = .ok (.astore_n 1, 1) := dk_76 (dk_at dksX4_product_0 4 rfl rfl)
theorem dX4_product_5 : decode cX4_product 5 = .ok (.aconst_null, 1) := dk_1 (dk_at dksX4_product_0 5 rfl rfl)
theorem dX4_product_6 : decode cX4_product 6 = .ok (.astore_n 2, 1) := dk_77 (dk_at dksX4_product_0 6 rfl rfl)
theorem dX4_product_7 : decode cX4_product 7 = .ok (.aload_n 0, 1) := dk_42 (dk_at dksX4_product_0 7 rfl rfl)
theorem dX4_product_8 : decode cX4_product 8 = .ok (.bipush 42, 2) := dk_16 42 (dk_at dksX4_product_0 8 rfl rfl)
theorem dX4_product_10 : decode cX4_product 10 = .ok (.invokevirtual 108, 3) := dk_182 0 108 (dk_at dksX4_product_0 10 rfl rfl)
theorem dX4_product_13 : decode cX4_product 13 = .ok (.ifCond .ne 12, 3) := dk_154 0 12 (dk_at dksX4_product_0 13 rfl rfl)
theorem dX4_product_16 : decode cX4_product 16 = .ok (.aload_n 0, 1) := dk_42 (dk_at dksX4_product_0 16 rfl rfl)
theorem dX4_product_17 : decode cX4_product 17 = .ok (.bipush 47, 2) := dk_16 47 (dk_at dksX4_product_0 17 rfl rfl)
theorem dX4_product_19 : decode cX4_product 19 = .ok (.invokevirtual 108, 3) := dk_182 0 108 (dk_at dksX4_product_0 19 rfl rfl)
theorem dX4_product_22 : decode cX4_product 22 = .ok (.ifCond .eq 42, 3) := dk_153 0 42 (dk_at dksX4_product_1 0 rfl rfl)
theorem dX4_product_25 : decode cX4_product 25 = .ok (.aload_n 2, 1) := dk_44 (dk_at dksX4_product_1 3 rfl rfl)
theorem dX4_product_26 : decode cX4_product 26 = .ok (.ifnonnull 16, 3) := dk_199 0 16 (dk_at dksX4_product_1 4 rfl rfl)
theorem dX4_product_29 : decode cX4_product 29 = .ok (.new 133, 3) := dk_187 0 133 (dk_at dksX4_product_1 7 rfl rfl)
theorem dX4_product_32 : decode cX4_product 32 = .ok (.dup, 1) := dk_89 (dk_at dksX4_product_1 10 rfl rfl)
theorem dX4_product_33 : decode cX4_product 33 = .ok (.aload_n 0, 1) := dk_42 (dk_at dksX4_product_1 11 rfl rfl)
theorem dX4_product_34 : decode cX4_product 34 = .ok (.getfield 3, 3) := dk_180 0 3 (dk_at dksX4_product_1 12 rfl rfl)
theorem dX4_product_37 : decode cX4_product 37 = .ok (.aload_n 1, 1) := dk_43 (dk_at dksX4_product_1 15 rfl rfl)
theorem dX4_product_38 : decode cX4_product 38 = .ok (.invokespecial 135, 3) := dk_183 0 135 (dk_at dksX4_product_1 16 rfl rfl)
theorem dX4_product_41 : decode cX4_product 41 = .ok (.astore_n 2, 1) := dk_77 (dk_at dksX4_product_1 19 rfl rfl)
theorem dX4_product_42 : decode cX4_product 42 = .ok (.aload_n 0, 1) := dk_42 (dk_at dksX4_product_1 20 rfl rfl)
theorem dX4_product_43 : decode cX4_product 43 = .ok (.getfield 87, 3) := dk_180 0 87 (dk_at dksX4_product_1 21 rfl rfl)
theorem dX4_product_46 : decode cX4_product 46 = .ok (.i2c, 1) := dk_146 (dk_at dksX4_product_2 0 rfl rfl)
theorem dX4_product_47 : decode cX4_product 47 = .ok (.istore_n 3, 1) := dk_62 (dk_at dksX4_product_2 1 rfl rfl)
theorem dX4_product_48 : decode cX4_product 48 = .ok (.aload_n 0, 1) := dk_42 (dk_at dksX4_product_2 2 rfl rfl)
theorem dX4_product_49 : decode cX4_product 49 = .ok (.invokevirtual 29, 3) := dk_182 0 29 (dk_at dksX4_product_2 3 rfl rfl)
theorem dX4_product_52 : decode cX4_product 52 = .ok (.aload_n 2, 1) := dk_44 (dk_at dksX4_product_2 6 rfl rfl)
theorem dX4_product_53 : decode cX4_product 53 = .ok (.iload_n 3, 1) := dk_29 (dk_at dksX4_product_2 7 rfl rfl)
theorem dX4_product_54 : decode cX4_product 54 = .ok (.aload_n 0, 1) := dk_42 (dk_at dksX4_product_2 8 rfl rfl)
theorem dX4_product_55 : decode cX4_product 55 = .ok (.invokevirtual 145, 3) := dk_182 0 145 (dk_at dksX4_product_2 9 rfl rfl)
theorem dX4_product_58 : decode cX4_product 58 = .ok (.invokevirtual 138, 3) := dk_182 0 138 (dk_at dksX4_product_2 12 rfl rfl)
theorem dX4_product_61 : decode cX4_product 61 = .ok (.goto (-54), 3) := dk_167 255 202 (dk_at dksX4_product_2 15 rfl rfl)
theorem dX4_product_64 : decode cX4_product 64 = .ok (.aload_n 2, 1) := dk_44 (dk_at dksX4_product_2 18 rfl rfl)
theorem dX4_product_65 : decode cX4_product 65 = .ok (.ifnonnull 7, 3) := dk_199 0 7 (dk_at dksX4_product_2 19 rfl rfl)
theorem dX4_product_68 : decode cX4_product 68 = .ok (.aload_n 1, 1) := dk_43 (dk_at dksX4_product_2 22 rfl rfl)
theorem dX4_product_69 : decode cX4_product 69 = .ok (.goto 4, 3) := dk_167 0 4 (dk_at dksX4_product_3 0 rfl rfl)
theorem dX4_product_72 : decode cX4_product 72 = .ok (.aload_n 2, 1) := dk_44 (dk_at dksX4_product_3 3 rfl rfl)
theorem dX4_product_73 : decode cX4_product 73 = .ok (.areturn, 1) := dk_176 (dk_at dksX4_product_3 4 rfl rfl)
abbrev cX4_unit : ByteArray := prog_29_method_24_code
def yX4_unit : MethodName := ⟨RX4, "unit", "()LPondHouse$Worth;"⟩
def dkwX4_unit_8 : List UInt8 := [176]
abbrev dktX4_unit_8 : List UInt8 := dkwX4_unit_8 ++ []
def dkwX4_unit_7 : List UInt8 := [100, 181, 0, 26, 27, 153, 0, 18, 187, 0, 180, 89, 42, 180, 0, 3, 44, 183, 0, 182, 167, 0, 4, 44]
abbrev dktX4_unit_7 : List UInt8 := dkwX4_unit_7 ++ dktX4_unit_8
def dkwX4_unit_6 : List UInt8 := [167, 0, 7, 42, 182, 0, 174, 77, 27, 154, 0, 9, 42, 16, 41, 182, 0, 177, 42, 89, 180, 0, 26, 4]
abbrev dktX4_unit_6 : List UInt8 := dkwX4_unit_6 ++ dktX4_unit_7
def dkwX4_unit_5 : List UInt8 := [182, 0, 108, 154, 0, 8, 42, 182, 0, 114, 191, 42, 182, 0, 171, 27, 153, 0, 10, 42, 182, 0, 145]
abbrev dktX4_unit_5 : List UInt8 := dkwX4_unit_5 ++ dktX4_unit_6
def dkwX4_unit_4 : List UInt8 := [180, 0, 3, 4, 183, 0, 166, 176, 42, 16, 45, 182, 0, 108, 60, 27, 154, 0, 17, 42, 16, 40]
abbrev dktX4_unit_4 : List UInt8 := dkwX4_unit_4 ++ dktX4_unit_5
def dkwX4_unit_3 : List UInt8 := [180, 0, 3, 3, 183, 0, 166, 176, 42, 18, 169, 182, 0, 161, 153, 0, 16, 187, 0, 164, 89, 42]
abbrev dktX4_unit_3 : List UInt8 := dkwX4_unit_3 ++ dktX4_unit_4
def dkwX4_unit_2 : List UInt8 := [42, 182, 0, 155, 183, 0, 158, 176, 42, 18, 159, 182, 0, 161, 153, 0, 16, 187, 0, 164, 89, 42]
abbrev dktX4_unit_2 : List UInt8 := dkwX4_unit_2 ++ dktX4_unit_3
def dkwX4_unit_1 : List UInt8 := [180, 0, 3, 27, 183, 0, 150, 176, 42, 180, 0, 39, 5, 160, 0, 19, 187, 0, 153, 89, 42, 180, 0, 3]
abbrev dktX4_unit_1 : List UInt8 := dkwX4_unit_1 ++ dktX4_unit_2
def dkwX4_unit_0 : List UInt8 := [42, 180, 0, 39, 7, 160, 0, 25, 42, 180, 0, 87, 60, 42, 182, 0, 29, 187, 0, 148, 89, 42]
abbrev dktX4_unit_0 : List UInt8 := dkwX4_unit_0 ++ dktX4_unit_1
theorem dksX4_unit_0 : cX4_unit.data.toList.drop 0 = dktX4_unit_0 := by decide +kernel
theorem dksX4_unit_1 : cX4_unit.data.toList.drop 22 = dktX4_unit_1 := dk_seg dksX4_unit_0 22 rfl rfl
theorem dksX4_unit_2 : cX4_unit.data.toList.drop 46 = dktX4_unit_2 := dk_seg dksX4_unit_1 24 rfl rfl
theorem dksX4_unit_3 : cX4_unit.data.toList.drop 68 = dktX4_unit_3 := dk_seg dksX4_unit_2 22 rfl rfl
theorem dksX4_unit_4 : cX4_unit.data.toList.drop 90 = dktX4_unit_4 := dk_seg dksX4_unit_3 22 rfl rfl
theorem dksX4_unit_5 : cX4_unit.data.toList.drop 112 = dktX4_unit_5 := dk_seg dksX4_unit_4 22 rfl rfl
theorem dksX4_unit_6 : cX4_unit.data.toList.drop 135 = dktX4_unit_6 := dk_seg dksX4_unit_5 23 rfl rfl
theorem dksX4_unit_7 : cX4_unit.data.toList.drop 159 = dktX4_unit_7 := dk_seg dksX4_unit_6 24 rfl rfl
theorem dksX4_unit_8 : cX4_unit.data.toList.drop 183 = dktX4_unit_8 := dk_seg dksX4_unit_7 24 rfl rfl
theorem dX4_unit_0 : decode cX4_unit 0 = .ok (.aload_n 0, 1) := dk_42 (dk_at dksX4_unit_0 0 rfl rfl)
theorem dX4_unit_1 : decode cX4_unit 1 = .ok (.getfield 39, 3) := dk_180 0 39 (dk_at dksX4_unit_0 1 rfl rfl)
theorem dX4_unit_4 : decode cX4_unit 4 = .ok (.iconst 4, 1) := dk_7 (dk_at dksX4_unit_0 4 rfl rfl)
theorem dX4_unit_5 : decode cX4_unit 5 = .ok (.if_icmp .ne 25, 3) := dk_160 0 25 (dk_at dksX4_unit_0 5 rfl rfl)
theorem dX4_unit_8 : decode cX4_unit 8 = .ok (.aload_n 0, 1) := dk_42 (dk_at dksX4_unit_0 8 rfl rfl)
theorem dX4_unit_9 : decode cX4_unit 9 = .ok (.getfield 87, 3) := dk_180 0 87 (dk_at dksX4_unit_0 9 rfl rfl)
theorem dX4_unit_12 : decode cX4_unit 12 = .ok (.istore_n 1, 1) := dk_60 (dk_at dksX4_unit_0 12 rfl rfl)
theorem dX4_unit_13 : decode cX4_unit 13 = .ok (.aload_n 0, 1) := dk_42 (dk_at dksX4_unit_0 13 rfl rfl)
theorem dX4_unit_14 : decode cX4_unit 14 = .ok (.invokevirtual 29, 3) := dk_182 0 29 (dk_at dksX4_unit_0 14 rfl rfl)
theorem dX4_unit_17 : decode cX4_unit 17 = .ok (.new 148, 3) := dk_187 0 148 (dk_at dksX4_unit_0 17 rfl rfl)
theorem dX4_unit_20 : decode cX4_unit 20 = .ok (.dup, 1) := dk_89 (dk_at dksX4_unit_0 20 rfl rfl)
theorem dX4_unit_21 : decode cX4_unit 21 = .ok (.aload_n 0, 1) := dk_42 (dk_at dksX4_unit_0 21 rfl rfl)
theorem dX4_unit_22 : decode cX4_unit 22 = .ok (.getfield 3, 3) := dk_180 0 3 (dk_at dksX4_unit_1 0 rfl rfl)
theorem dX4_unit_25 : decode cX4_unit 25 = .ok (.iload_n 1, 1) := dk_27 (dk_at dksX4_unit_1 3 rfl rfl)
theorem dX4_unit_26 : decode cX4_unit 26 = .ok (.invokespecial 150, 3) := dk_183 0 150 (dk_at dksX4_unit_1 4 rfl rfl)
theorem dX4_unit_29 : decode cX4_unit 29 = .ok (.areturn, 1) := dk_176 (dk_at dksX4_unit_1 7 rfl rfl)
theorem dX4_unit_30 : decode cX4_unit 30 = .ok (.aload_n 0, 1) := dk_42 (dk_at dksX4_unit_1 8 rfl rfl)
theorem dX4_unit_31 : decode cX4_unit 31 = .ok (.getfield 39, 3) := dk_180 0 39 (dk_at dksX4_unit_1 9 rfl rfl)
theorem dX4_unit_34 : decode cX4_unit 34 = .ok (.iconst 2, 1) := dk_5 (dk_at dksX4_unit_1 12 rfl rfl)
theorem dX4_unit_35 : decode cX4_unit 35 = .ok (.if_icmp .ne 19, 3) := dk_160 0 19 (dk_at dksX4_unit_1 13 rfl rfl)
theorem dX4_unit_38 : decode cX4_unit 38 = .ok (.new 153, 3) := dk_187 0 153 (dk_at dksX4_unit_1 16 rfl rfl)
theorem dX4_unit_41 : decode cX4_unit 41 = .ok (.dup, 1) := dk_89 (dk_at dksX4_unit_1 19 rfl rfl)
theorem dX4_unit_42 : decode cX4_unit 42 = .ok (.aload_n 0, 1) := dk_42 (dk_at dksX4_unit_1 20 rfl rfl)
theorem dX4_unit_43 : decode cX4_unit 43 = .ok (.getfield 3, 3) := dk_180 0 3 (dk_at dksX4_unit_1 21 rfl rfl)
theorem dX4_unit_46 : decode cX4_unit 46 = .ok (.aload_n 0, 1) := dk_42 (dk_at dksX4_unit_2 0 rfl rfl)
theorem dX4_unit_47 : decode cX4_unit 47 = .ok (.invokevirtual 155, 3) := dk_182 0 155 (dk_at dksX4_unit_2 1 rfl rfl)
theorem dX4_unit_50 : decode cX4_unit 50 = .ok (.invokespecial 158, 3) := dk_183 0 158 (dk_at dksX4_unit_2 4 rfl rfl)
theorem dX4_unit_53 : decode cX4_unit 53 = .ok (.areturn, 1) := dk_176 (dk_at dksX4_unit_2 7 rfl rfl)
theorem dX4_unit_54 : decode cX4_unit 54 = .ok (.aload_n 0, 1) := dk_42 (dk_at dksX4_unit_2 8 rfl rfl)
theorem dX4_unit_55 : decode cX4_unit 55 = .ok (.ldc 159, 2) := dk_18 159 (dk_at dksX4_unit_2 9 rfl rfl)
theorem dX4_unit_57 : decode cX4_unit 57 = .ok (.invokevirtual 161, 3) := dk_182 0 161 (dk_at dksX4_unit_2 11 rfl rfl)
theorem dX4_unit_60 : decode cX4_unit 60 = .ok (.ifCond .eq 16, 3) := dk_153 0 16 (dk_at dksX4_unit_2 14 rfl rfl)
theorem dX4_unit_63 : decode cX4_unit 63 = .ok (.new 164, 3) := dk_187 0 164 (dk_at dksX4_unit_2 17 rfl rfl)
theorem dX4_unit_66 : decode cX4_unit 66 = .ok (.dup, 1) := dk_89 (dk_at dksX4_unit_2 20 rfl rfl)
theorem dX4_unit_67 : decode cX4_unit 67 = .ok (.aload_n 0, 1) := dk_42 (dk_at dksX4_unit_2 21 rfl rfl)
theorem dX4_unit_68 : decode cX4_unit 68 = .ok (.getfield 3, 3) := dk_180 0 3 (dk_at dksX4_unit_3 0 rfl rfl)
theorem dX4_unit_71 : decode cX4_unit 71 = .ok (.iconst 0, 1) := dk_3 (dk_at dksX4_unit_3 3 rfl rfl)
theorem dX4_unit_72 : decode cX4_unit 72 = .ok (.invokespecial 166, 3) := dk_183 0 166 (dk_at dksX4_unit_3 4 rfl rfl)
theorem dX4_unit_75 : decode cX4_unit 75 = .ok (.areturn, 1) := dk_176 (dk_at dksX4_unit_3 7 rfl rfl)
theorem dX4_unit_76 : decode cX4_unit 76 = .ok (.aload_n 0, 1) := dk_42 (dk_at dksX4_unit_3 8 rfl rfl)
theorem dX4_unit_77 : decode cX4_unit 77 = .ok (.ldc 169, 2) := dk_18 169 (dk_at dksX4_unit_3 9 rfl rfl)
theorem dX4_unit_79 : decode cX4_unit 79 = .ok (.invokevirtual 161, 3) := dk_182 0 161 (dk_at dksX4_unit_3 11 rfl rfl)
theorem dX4_unit_82 : decode cX4_unit 82 = .ok (.ifCond .eq 16, 3) := dk_153 0 16 (dk_at dksX4_unit_3 14 rfl rfl)
theorem dX4_unit_85 : decode cX4_unit 85 = .ok (.new 164, 3) := dk_187 0 164 (dk_at dksX4_unit_3 17 rfl rfl)
theorem dX4_unit_88 : decode cX4_unit 88 = .ok (.dup, 1) := dk_89 (dk_at dksX4_unit_3 20 rfl rfl)
theorem dX4_unit_89 : decode cX4_unit 89 = .ok (.aload_n 0, 1) := dk_42 (dk_at dksX4_unit_3 21 rfl rfl)
theorem dX4_unit_90 : decode cX4_unit 90 = .ok (.getfield 3, 3) := dk_180 0 3 (dk_at dksX4_unit_4 0 rfl rfl)
theorem dX4_unit_93 : decode cX4_unit 93 = .ok (.iconst 1, 1) := dk_4 (dk_at dksX4_unit_4 3 rfl rfl)
theorem dX4_unit_94 : decode cX4_unit 94 = .ok (.invokespecial 166, 3) := dk_183 0 166 (dk_at dksX4_unit_4 4 rfl rfl)
theorem dX4_unit_97 : decode cX4_unit 97 = .ok (.areturn, 1) := dk_176 (dk_at dksX4_unit_4 7 rfl rfl)
theorem dX4_unit_98 : decode cX4_unit 98 = .ok (.aload_n 0, 1) := dk_42 (dk_at dksX4_unit_4 8 rfl rfl)
theorem dX4_unit_99 : decode cX4_unit 99 = .ok (.bipush 45, 2) := dk_16 45 (dk_at dksX4_unit_4 9 rfl rfl)
theorem dX4_unit_101 : decode cX4_unit 101 = .ok (.invokevirtual 108, 3) := dk_182 0 108 (dk_at dksX4_unit_4 11 rfl rfl)
theorem dX4_unit_104 : decode cX4_unit 104 = .ok (.istore_n 1, 1) := dk_60 (dk_at dksX4_unit_4 14 rfl rfl)
theorem dX4_unit_105 : decode cX4_unit 105 = .ok (.iload_n 1, 1) := dk_27 (dk_at dksX4_unit_4 15 rfl rfl)
theorem dX4_unit_106 : decode cX4_unit 106 = .ok (.ifCond .ne 17, 3) := dk_154 0 17 (dk_at dksX4_unit_4 16 rfl rfl)
theorem dX4_unit_109 : decode cX4_unit 109 = .ok (.aload_n 0, 1) := dk_42 (dk_at dksX4_unit_4 19 rfl rfl)
theorem dX4_unit_110 : decode cX4_unit 110 = .ok (.bipush 40, 2) := dk_16 40 (dk_at dksX4_unit_4 20 rfl rfl)
theorem dX4_unit_112 : decode cX4_unit 112 = .ok (.invokevirtual 108, 3) := dk_182 0 108 (dk_at dksX4_unit_5 0 rfl rfl)
theorem dX4_unit_115 : decode cX4_unit 115 = .ok (.ifCond .ne 8, 3) := dk_154 0 8 (dk_at dksX4_unit_5 3 rfl rfl)
theorem dX4_unit_118 : decode cX4_unit 118 = .ok (.aload_n 0, 1) := dk_42 (dk_at dksX4_unit_5 6 rfl rfl)
theorem dX4_unit_119 : decode cX4_unit 119 = .ok (.invokevirtual 114, 3) := dk_182 0 114 (dk_at dksX4_unit_5 7 rfl rfl)
theorem dX4_unit_122 : decode cX4_unit 122 = .ok (.athrow, 1) := dk_191 (dk_at dksX4_unit_5 10 rfl rfl)
theorem dX4_unit_123 : decode cX4_unit 123 = .ok (.aload_n 0, 1) := dk_42 (dk_at dksX4_unit_5 11 rfl rfl)
theorem dX4_unit_124 : decode cX4_unit 124 = .ok (.invokevirtual 171, 3) := dk_182 0 171 (dk_at dksX4_unit_5 12 rfl rfl)
theorem dX4_unit_127 : decode cX4_unit 127 = .ok (.iload_n 1, 1) := dk_27 (dk_at dksX4_unit_5 15 rfl rfl)
theorem dX4_unit_128 : decode cX4_unit 128 = .ok (.ifCond .eq 10, 3) := dk_153 0 10 (dk_at dksX4_unit_5 16 rfl rfl)
theorem dX4_unit_131 : decode cX4_unit 131 = .ok (.aload_n 0, 1) := dk_42 (dk_at dksX4_unit_5 19 rfl rfl)
theorem dX4_unit_132 : decode cX4_unit 132 = .ok (.invokevirtual 145, 3) := dk_182 0 145 (dk_at dksX4_unit_5 20 rfl rfl)
theorem dX4_unit_135 : decode cX4_unit 135 = .ok (.goto 7, 3) := dk_167 0 7 (dk_at dksX4_unit_6 0 rfl rfl)
theorem dX4_unit_138 : decode cX4_unit 138 = .ok (.aload_n 0, 1) := dk_42 (dk_at dksX4_unit_6 3 rfl rfl)
theorem dX4_unit_139 : decode cX4_unit 139 = .ok (.invokevirtual 174, 3) := dk_182 0 174 (dk_at dksX4_unit_6 4 rfl rfl)
theorem dX4_unit_142 : decode cX4_unit 142 = .ok (.astore_n 2, 1) := dk_77 (dk_at dksX4_unit_6 7 rfl rfl)
theorem dX4_unit_143 : decode cX4_unit 143 = .ok (.iload_n 1, 1) := dk_27 (dk_at dksX4_unit_6 8 rfl rfl)
theorem dX4_unit_144 : decode cX4_unit 144 = .ok (.ifCond .ne 9, 3) := dk_154 0 9 (dk_at dksX4_unit_6 9 rfl rfl)
theorem dX4_unit_147 : decode cX4_unit 147 = .ok (.aload_n 0, 1) := dk_42 (dk_at dksX4_unit_6 12 rfl rfl)
theorem dX4_unit_148 : decode cX4_unit 148 = .ok (.bipush 41, 2) := dk_16 41 (dk_at dksX4_unit_6 13 rfl rfl)
theorem dX4_unit_150 : decode cX4_unit 150 = .ok (.invokevirtual 177, 3) := dk_182 0 177 (dk_at dksX4_unit_6 15 rfl rfl)
theorem dX4_unit_153 : decode cX4_unit 153 = .ok (.aload_n 0, 1) := dk_42 (dk_at dksX4_unit_6 18 rfl rfl)
theorem dX4_unit_154 : decode cX4_unit 154 = .ok (.dup, 1) := dk_89 (dk_at dksX4_unit_6 19 rfl rfl)
theorem dX4_unit_155 : decode cX4_unit 155 = .ok (.getfield 26, 3) := dk_180 0 26 (dk_at dksX4_unit_6 20 rfl rfl)
theorem dX4_unit_158 : decode cX4_unit 158 = .ok (.iconst 1, 1) := dk_4 (dk_at dksX4_unit_6 23 rfl rfl)
theorem dX4_unit_159 : decode cX4_unit 159 = .ok (.isub, 1) := dk_100 (dk_at dksX4_unit_7 0 rfl rfl)
theorem dX4_unit_160 : decode cX4_unit 160 = .ok (.putfield 26, 3) := dk_181 0 26 (dk_at dksX4_unit_7 1 rfl rfl)
theorem dX4_unit_163 : decode cX4_unit 163 = .ok (.iload_n 1, 1) := dk_27 (dk_at dksX4_unit_7 4 rfl rfl)
theorem dX4_unit_164 : decode cX4_unit 164 = .ok (.ifCond .eq 18, 3) := dk_153 0 18 (dk_at dksX4_unit_7 5 rfl rfl)
theorem dX4_unit_167 : decode cX4_unit 167 = .ok (.new 180, 3) := dk_187 0 180 (dk_at dksX4_unit_7 8 rfl rfl)
theorem dX4_unit_170 : decode cX4_unit 170 = .ok (.dup, 1) := dk_89 (dk_at dksX4_unit_7 11 rfl rfl)
theorem dX4_unit_171 : decode cX4_unit 171 = .ok (.aload_n 0, 1) := dk_42 (dk_at dksX4_unit_7 12 rfl rfl)
theorem dX4_unit_172 : decode cX4_unit 172 = .ok (.getfield 3, 3) := dk_180 0 3 (dk_at dksX4_unit_7 13 rfl rfl)
theorem dX4_unit_175 : decode cX4_unit 175 = .ok (.aload_n 2, 1) := dk_44 (dk_at dksX4_unit_7 16 rfl rfl)
theorem dX4_unit_176 : decode cX4_unit 176 = .ok (.invokespecial 182, 3) := dk_183 0 182 (dk_at dksX4_unit_7 17 rfl rfl)
theorem dX4_unit_179 : decode cX4_unit 179 = .ok (.goto 4, 3) := dk_167 0 4 (dk_at dksX4_unit_7 20 rfl rfl)
theorem dX4_unit_182 : decode cX4_unit 182 = .ok (.aload_n 2, 1) := dk_44 (dk_at dksX4_unit_7 23 rfl rfl)
theorem dX4_unit_183 : decode cX4_unit 183 = .ok (.areturn, 1) := dk_176 (dk_at dksX4_unit_8 0 rfl rfl)
abbrev cX4_plain : ByteArray := prog_29_method_28_code
def yX4_plain : MethodName := ⟨RX4, "plain", "()LPondHouse$Statement;"⟩
def dkwX4_plain_7 : List UInt8 := [182, 0, 155, 60, 187, 0, 233, 89, 42, 180, 0, 3, 27, 42, 182, 0, 155, 183, 0, 235, 176]
abbrev dktX4_plain_7 : List UInt8 := dkwX4_plain_7 ++ []
def dkwX4_plain_6 : List UInt8 := [187, 0, 233, 89, 42, 180, 0, 3, 2, 42, 182, 0, 155, 183, 0, 235, 176, 42, 182, 0, 29, 42]
abbrev dktX4_plain_6 : List UInt8 := dkwX4_plain_6 ++ dktX4_plain_7
def dkwX4_plain_5 : List UInt8 := [153, 0, 15, 187, 0, 238, 89, 42, 180, 0, 3, 183, 0, 240, 176, 42, 18, 201, 182, 0, 161, 153, 0, 20]
abbrev dktX4_plain_5 : List UInt8 := dkwX4_plain_5 ++ dktX4_plain_6
def dkwX4_plain_4 : List UInt8 := [153, 0, 17, 187, 0, 233, 89, 42, 180, 0, 3, 2, 2, 183, 0, 235, 176, 42, 18, 205, 182, 0, 161]
abbrev dktX4_plain_4 : List UInt8 := dkwX4_plain_4 ++ dktX4_plain_5
def dkwX4_plain_3 : List UInt8 := [187, 0, 228, 89, 42, 180, 0, 3, 42, 182, 0, 174, 4, 183, 0, 230, 176, 42, 18, 199, 182, 0, 161]
abbrev dktX4_plain_3 : List UInt8 := dkwX4_plain_3 ++ dktX4_plain_4
def dkwX4_plain_2 : List UInt8 := [89, 42, 180, 0, 3, 42, 182, 0, 174, 3, 183, 0, 230, 176, 42, 18, 197, 182, 0, 161, 153, 0, 20]
abbrev dktX4_plain_2 : List UInt8 := dkwX4_plain_2 ++ dktX4_plain_3
def dkwX4_plain_1 : List UInt8 := [180, 0, 3, 27, 42, 182, 0, 174, 183, 0, 225, 176, 42, 18, 195, 182, 0, 161, 153, 0, 20, 187, 0, 228]
abbrev dktX4_plain_1 : List UInt8 := dkwX4_plain_1 ++ dktX4_plain_2
def dkwX4_plain_0 : List UInt8 := [42, 180, 0, 39, 5, 160, 0, 31, 42, 182, 0, 155, 60, 42, 16, 61, 182, 0, 177, 187, 0, 223, 89, 42]
abbrev dktX4_plain_0 : List UInt8 := dkwX4_plain_0 ++ dktX4_plain_1
theorem dksX4_plain_0 : cX4_plain.data.toList.drop 0 = dktX4_plain_0 := by decide +kernel
theorem dksX4_plain_1 : cX4_plain.data.toList.drop 24 = dktX4_plain_1 := dk_seg dksX4_plain_0 24 rfl rfl
theorem dksX4_plain_2 : cX4_plain.data.toList.drop 48 = dktX4_plain_2 := dk_seg dksX4_plain_1 24 rfl rfl
theorem dksX4_plain_3 : cX4_plain.data.toList.drop 71 = dktX4_plain_3 := dk_seg dksX4_plain_2 23 rfl rfl
theorem dksX4_plain_4 : cX4_plain.data.toList.drop 94 = dktX4_plain_4 := dk_seg dksX4_plain_3 23 rfl rfl
theorem dksX4_plain_5 : cX4_plain.data.toList.drop 117 = dktX4_plain_5 := dk_seg dksX4_plain_4 23 rfl rfl
theorem dksX4_plain_6 : cX4_plain.data.toList.drop 141 = dktX4_plain_6 := dk_seg dksX4_plain_5 24 rfl rfl
theorem dksX4_plain_7 : cX4_plain.data.toList.drop 163 = dktX4_plain_7 := dk_seg dksX4_plain_6 22 rfl rfl
theorem dX4_plain_0 : decode cX4_plain 0 = .ok (.aload_n 0, 1) := dk_42 (dk_at dksX4_plain_0 0 rfl rfl)
theorem dX4_plain_1 : decode cX4_plain 1 = .ok (.getfield 39, 3) := dk_180 0 39 (dk_at dksX4_plain_0 1 rfl rfl)
theorem dX4_plain_4 : decode cX4_plain 4 = .ok (.iconst 2, 1) := dk_5 (dk_at dksX4_plain_0 4 rfl rfl)
theorem dX4_plain_5 : decode cX4_plain 5 = .ok (.if_icmp .ne 31, 3) := dk_160 0 31 (dk_at dksX4_plain_0 5 rfl rfl)
theorem dX4_plain_8 : decode cX4_plain 8 = .ok (.aload_n 0, 1) := dk_42 (dk_at dksX4_plain_0 8 rfl rfl)
theorem dX4_plain_9 : decode cX4_plain 9 = .ok (.invokevirtual 155, 3) := dk_182 0 155 (dk_at dksX4_plain_0 9 rfl rfl)
theorem dX4_plain_12 : decode cX4_plain 12 = .ok (.istore_n 1, 1) := dk_60 (dk_at dksX4_plain_0 12 rfl rfl)
theorem dX4_plain_13 : decode cX4_plain 13 = .ok (.aload_n 0, 1) := dk_42 (dk_at dksX4_plain_0 13 rfl rfl)
theorem dX4_plain_14 : decode cX4_plain 14 = .ok (.bipush 61, 2) := dk_16 61 (dk_at dksX4_plain_0 14 rfl rfl)
theorem dX4_plain_16 : decode cX4_plain 16 = .ok (.invokevirtual 177, 3) := dk_182 0 177 (dk_at dksX4_plain_0 16 rfl rfl)
theorem dX4_plain_19 : decode cX4_plain 19 = .ok (.new 223, 3) := dk_187 0 223 (dk_at dksX4_plain_0 19 rfl rfl)
theorem dX4_plain_22 : decode cX4_plain 22 = .ok (.dup, 1) := dk_89 (dk_at dksX4_plain_0 22 rfl rfl)
theorem dX4_plain_23 : decode cX4_plain 23 = .ok (.aload_n 0, 1) := dk_42 (dk_at dksX4_plain_0 23 rfl rfl)
theorem dX4_plain_24 : decode cX4_plain 24 = .ok (.getfield 3, 3) := dk_180 0 3 (dk_at dksX4_plain_1 0 rfl rfl)
theorem dX4_plain_27 : decode cX4_plain 27 = .ok (.iload_n 1, 1) := dk_27 (dk_at dksX4_plain_1 3 rfl rfl)
theorem dX4_plain_28 : decode cX4_plain 28 = .ok (.aload_n 0, 1) := dk_42 (dk_at dksX4_plain_1 4 rfl rfl)
theorem dX4_plain_29 : decode cX4_plain 29 = .ok (.invokevirtual 174, 3) := dk_182 0 174 (dk_at dksX4_plain_1 5 rfl rfl)
theorem dX4_plain_32 : decode cX4_plain 32 = .ok (.invokespecial 225, 3) := dk_183 0 225 (dk_at dksX4_plain_1 8 rfl rfl)
theorem dX4_plain_35 : decode cX4_plain 35 = .ok (.areturn, 1) := dk_176 (dk_at dksX4_plain_1 11 rfl rfl)
theorem dX4_plain_36 : decode cX4_plain 36 = .ok (.aload_n 0, 1) := dk_42 (dk_at dksX4_plain_1 12 rfl rfl)
theorem dX4_plain_37 : decode cX4_plain 37 = .ok (.ldc 195, 2) := dk_18 195 (dk_at dksX4_plain_1 13 rfl rfl)
theorem dX4_plain_39 : decode cX4_plain 39 = .ok (.invokevirtual 161, 3) := dk_182 0 161 (dk_at dksX4_plain_1 15 rfl rfl)
theorem dX4_plain_42 : decode cX4_plain 42 = .ok (.ifCond .eq 20, 3) := dk_153 0 20 (dk_at dksX4_plain_1 18 rfl rfl)
theorem dX4_plain_45 : decode cX4_plain 45 = .ok (.new 228, 3) := dk_187 0 228 (dk_at dksX4_plain_1 21 rfl rfl)
theorem dX4_plain_48 : decode cX4_plain 48 = .ok (.dup, 1) := dk_89 (dk_at dksX4_plain_2 0 rfl rfl)
theorem dX4_plain_49 : decode cX4_plain 49 = .ok (.aload_n 0, 1) := dk_42 (dk_at dksX4_plain_2 1 rfl rfl)
theorem dX4_plain_50 : decode cX4_plain 50 = .ok (.getfield 3, 3) := dk_180 0 3 (dk_at dksX4_plain_2 2 rfl rfl)
theorem dX4_plain_53 : decode cX4_plain 53 = .ok (.aload_n 0, 1) := dk_42 (dk_at dksX4_plain_2 5 rfl rfl)
theorem dX4_plain_54 : decode cX4_plain 54 = .ok (.invokevirtual 174, 3) := dk_182 0 174 (dk_at dksX4_plain_2 6 rfl rfl)
theorem dX4_plain_57 : decode cX4_plain 57 = .ok (.iconst 0, 1) := dk_3 (dk_at dksX4_plain_2 9 rfl rfl)
theorem dX4_plain_58 : decode cX4_plain 58 = .ok (.invokespecial 230, 3) := dk_183 0 230 (dk_at dksX4_plain_2 10 rfl rfl)
theorem dX4_plain_61 : decode cX4_plain 61 = .ok (.areturn, 1) := dk_176 (dk_at dksX4_plain_2 13 rfl rfl)
theorem dX4_plain_62 : decode cX4_plain 62 = .ok (.aload_n 0, 1) := dk_42 (dk_at dksX4_plain_2 14 rfl rfl)
theorem dX4_plain_63 : decode cX4_plain 63 = .ok (.ldc 197, 2) := dk_18 197 (dk_at dksX4_plain_2 15 rfl rfl)
theorem dX4_plain_65 : decode cX4_plain 65 = .ok (.invokevirtual 161, 3) := dk_182 0 161 (dk_at dksX4_plain_2 17 rfl rfl)
theorem dX4_plain_68 : decode cX4_plain 68 = .ok (.ifCond .eq 20, 3) := dk_153 0 20 (dk_at dksX4_plain_2 20 rfl rfl)
theorem dX4_plain_71 : decode cX4_plain 71 = .ok (.new 228, 3) := dk_187 0 228 (dk_at dksX4_plain_3 0 rfl rfl)
theorem dX4_plain_74 : decode cX4_plain 74 = .ok (.dup, 1) := dk_89 (dk_at dksX4_plain_3 3 rfl rfl)
theorem dX4_plain_75 : decode cX4_plain 75 = .ok (.aload_n 0, 1) := dk_42 (dk_at dksX4_plain_3 4 rfl rfl)
theorem dX4_plain_76 : decode cX4_plain 76 = .ok (.getfield 3, 3) := dk_180 0 3 (dk_at dksX4_plain_3 5 rfl rfl)
theorem dX4_plain_79 : decode cX4_plain 79 = .ok (.aload_n 0, 1) := dk_42 (dk_at dksX4_plain_3 8 rfl rfl)
theorem dX4_plain_80 : decode cX4_plain 80 = .ok (.invokevirtual 174, 3) := dk_182 0 174 (dk_at dksX4_plain_3 9 rfl rfl)
theorem dX4_plain_83 : decode cX4_plain 83 = .ok (.iconst 1, 1) := dk_4 (dk_at dksX4_plain_3 12 rfl rfl)
theorem dX4_plain_84 : decode cX4_plain 84 = .ok (.invokespecial 230, 3) := dk_183 0 230 (dk_at dksX4_plain_3 13 rfl rfl)
theorem dX4_plain_87 : decode cX4_plain 87 = .ok (.areturn, 1) := dk_176 (dk_at dksX4_plain_3 16 rfl rfl)
theorem dX4_plain_88 : decode cX4_plain 88 = .ok (.aload_n 0, 1) := dk_42 (dk_at dksX4_plain_3 17 rfl rfl)
theorem dX4_plain_89 : decode cX4_plain 89 = .ok (.ldc 199, 2) := dk_18 199 (dk_at dksX4_plain_3 18 rfl rfl)
theorem dX4_plain_91 : decode cX4_plain 91 = .ok (.invokevirtual 161, 3) := dk_182 0 161 (dk_at dksX4_plain_3 20 rfl rfl)
theorem dX4_plain_94 : decode cX4_plain 94 = .ok (.ifCond .eq 17, 3) := dk_153 0 17 (dk_at dksX4_plain_4 0 rfl rfl)
theorem dX4_plain_97 : decode cX4_plain 97 = .ok (.new 233, 3) := dk_187 0 233 (dk_at dksX4_plain_4 3 rfl rfl)
theorem dX4_plain_100 : decode cX4_plain 100 = .ok (.dup, 1) := dk_89 (dk_at dksX4_plain_4 6 rfl rfl)
theorem dX4_plain_101 : decode cX4_plain 101 = .ok (.aload_n 0, 1) := dk_42 (dk_at dksX4_plain_4 7 rfl rfl)
theorem dX4_plain_102 : decode cX4_plain 102 = .ok (.getfield 3, 3) := dk_180 0 3 (dk_at dksX4_plain_4 8 rfl rfl)
theorem dX4_plain_105 : decode cX4_plain 105 = .ok (.iconst (-1), 1) := dk_2 (dk_at dksX4_plain_4 11 rfl rfl)
theorem dX4_plain_106 : decode cX4_plain 106 = .ok (.iconst (-1), 1) := dk_2 (dk_at dksX4_plain_4 12 rfl rfl)
theorem dX4_plain_107 : decode cX4_plain 107 = .ok (.invokespecial 235, 3) := dk_183 0 235 (dk_at dksX4_plain_4 13 rfl rfl)
theorem dX4_plain_110 : decode cX4_plain 110 = .ok (.areturn, 1) := dk_176 (dk_at dksX4_plain_4 16 rfl rfl)
theorem dX4_plain_111 : decode cX4_plain 111 = .ok (.aload_n 0, 1) := dk_42 (dk_at dksX4_plain_4 17 rfl rfl)
theorem dX4_plain_112 : decode cX4_plain 112 = .ok (.ldc 205, 2) := dk_18 205 (dk_at dksX4_plain_4 18 rfl rfl)
theorem dX4_plain_114 : decode cX4_plain 114 = .ok (.invokevirtual 161, 3) := dk_182 0 161 (dk_at dksX4_plain_4 20 rfl rfl)
theorem dX4_plain_117 : decode cX4_plain 117 = .ok (.ifCond .eq 15, 3) := dk_153 0 15 (dk_at dksX4_plain_5 0 rfl rfl)
theorem dX4_plain_120 : decode cX4_plain 120 = .ok (.new 238, 3) := dk_187 0 238 (dk_at dksX4_plain_5 3 rfl rfl)
theorem dX4_plain_123 : decode cX4_plain 123 = .ok (.dup, 1) := dk_89 (dk_at dksX4_plain_5 6 rfl rfl)
theorem dX4_plain_124 : decode cX4_plain 124 = .ok (.aload_n 0, 1) := dk_42 (dk_at dksX4_plain_5 7 rfl rfl)
theorem dX4_plain_125 : decode cX4_plain 125 = .ok (.getfield 3, 3) := dk_180 0 3 (dk_at dksX4_plain_5 8 rfl rfl)
theorem dX4_plain_128 : decode cX4_plain 128 = .ok (.invokespecial 240, 3) := dk_183 0 240 (dk_at dksX4_plain_5 11 rfl rfl)
theorem dX4_plain_131 : decode cX4_plain 131 = .ok (.areturn, 1) := dk_176 (dk_at dksX4_plain_5 14 rfl rfl)
theorem dX4_plain_132 : decode cX4_plain 132 = .ok (.aload_n 0, 1) := dk_42 (dk_at dksX4_plain_5 15 rfl rfl)
theorem dX4_plain_133 : decode cX4_plain 133 = .ok (.ldc 201, 2) := dk_18 201 (dk_at dksX4_plain_5 16 rfl rfl)
theorem dX4_plain_135 : decode cX4_plain 135 = .ok (.invokevirtual 161, 3) := dk_182 0 161 (dk_at dksX4_plain_5 18 rfl rfl)
theorem dX4_plain_138 : decode cX4_plain 138 = .ok (.ifCond .eq 20, 3) := dk_153 0 20 (dk_at dksX4_plain_5 21 rfl rfl)
theorem dX4_plain_141 : decode cX4_plain 141 = .ok (.new 233, 3) := dk_187 0 233 (dk_at dksX4_plain_6 0 rfl rfl)
theorem dX4_plain_144 : decode cX4_plain 144 = .ok (.dup, 1) := dk_89 (dk_at dksX4_plain_6 3 rfl rfl)
theorem dX4_plain_145 : decode cX4_plain 145 = .ok (.aload_n 0, 1) := dk_42 (dk_at dksX4_plain_6 4 rfl rfl)
theorem dX4_plain_146 : decode cX4_plain 146 = .ok (.getfield 3, 3) := dk_180 0 3 (dk_at dksX4_plain_6 5 rfl rfl)
theorem dX4_plain_149 : decode cX4_plain 149 = .ok (.iconst (-1), 1) := dk_2 (dk_at dksX4_plain_6 8 rfl rfl)
theorem dX4_plain_150 : decode cX4_plain 150 = .ok (.aload_n 0, 1) := dk_42 (dk_at dksX4_plain_6 9 rfl rfl)
theorem dX4_plain_151 : decode cX4_plain 151 = .ok (.invokevirtual 155, 3) := dk_182 0 155 (dk_at dksX4_plain_6 10 rfl rfl)
theorem dX4_plain_154 : decode cX4_plain 154 = .ok (.invokespecial 235, 3) := dk_183 0 235 (dk_at dksX4_plain_6 13 rfl rfl)
theorem dX4_plain_157 : decode cX4_plain 157 = .ok (.areturn, 1) := dk_176 (dk_at dksX4_plain_6 16 rfl rfl)
theorem dX4_plain_158 : decode cX4_plain 158 = .ok (.aload_n 0, 1) := dk_42 (dk_at dksX4_plain_6 17 rfl rfl)
theorem dX4_plain_159 : decode cX4_plain 159 = .ok (.invokevirtual 29, 3) := dk_182 0 29 (dk_at dksX4_plain_6 18 rfl rfl)
theorem dX4_plain_162 : decode cX4_plain 162 = .ok (.aload_n 0, 1) := dk_42 (dk_at dksX4_plain_6 21 rfl rfl)
theorem dX4_plain_163 : decode cX4_plain 163 = .ok (.invokevirtual 155, 3) := dk_182 0 155 (dk_at dksX4_plain_7 0 rfl rfl)
theorem dX4_plain_166 : decode cX4_plain 166 = .ok (.istore_n 1, 1) := dk_60 (dk_at dksX4_plain_7 3 rfl rfl)
theorem dX4_plain_167 : decode cX4_plain 167 = .ok (.new 233, 3) := dk_187 0 233 (dk_at dksX4_plain_7 4 rfl rfl)
theorem dX4_plain_170 : decode cX4_plain 170 = .ok (.dup, 1) := dk_89 (dk_at dksX4_plain_7 7 rfl rfl)
theorem dX4_plain_171 : decode cX4_plain 171 = .ok (.aload_n 0, 1) := dk_42 (dk_at dksX4_plain_7 8 rfl rfl)
theorem dX4_plain_172 : decode cX4_plain 172 = .ok (.getfield 3, 3) := dk_180 0 3 (dk_at dksX4_plain_7 9 rfl rfl)
theorem dX4_plain_175 : decode cX4_plain 175 = .ok (.iload_n 1, 1) := dk_27 (dk_at dksX4_plain_7 12 rfl rfl)
theorem dX4_plain_176 : decode cX4_plain 176 = .ok (.aload_n 0, 1) := dk_42 (dk_at dksX4_plain_7 13 rfl rfl)
theorem dX4_plain_177 : decode cX4_plain 177 = .ok (.invokevirtual 155, 3) := dk_182 0 155 (dk_at dksX4_plain_7 14 rfl rfl)
theorem dX4_plain_180 : decode cX4_plain 180 = .ok (.invokespecial 235, 3) := dk_183 0 235 (dk_at dksX4_plain_7 17 rfl rfl)
theorem dX4_plain_183 : decode cX4_plain 183 = .ok (.areturn, 1) := dk_176 (dk_at dksX4_plain_7 20 rfl rfl)
abbrev cX4_signed : ByteArray := prog_29_method_19_code
def yX4_signed : MethodName := ⟨RX4, "signed", "()I"⟩
def dkwX4_signed_1 : List UInt8 := [61, 42, 182, 0, 29, 27, 153, 0, 8, 28, 116, 167, 0, 4, 28, 172]
abbrev dktX4_signed_1 : List UInt8 := dkwX4_signed_1 ++ []
def dkwX4_signed_0 : List UInt8 := [42, 16, 45, 182, 0, 111, 60, 42, 180, 0, 39, 7, 159, 0, 8, 42, 182, 0, 114, 191, 42, 180, 0, 87]
abbrev dktX4_signed_0 : List UInt8 := dkwX4_signed_0 ++ dktX4_signed_1
theorem dksX4_signed_0 : cX4_signed.data.toList.drop 0 = dktX4_signed_0 := by decide +kernel
theorem dksX4_signed_1 : cX4_signed.data.toList.drop 24 = dktX4_signed_1 := dk_seg dksX4_signed_0 24 rfl rfl
theorem dX4_signed_0 : decode cX4_signed 0 = .ok (.aload_n 0, 1) := dk_42 (dk_at dksX4_signed_0 0 rfl rfl)
theorem dX4_signed_1 : decode cX4_signed 1 = .ok (.bipush 45, 2) := dk_16 45 (dk_at dksX4_signed_0 1 rfl rfl)
theorem dX4_signed_3 : decode cX4_signed 3 = .ok (.invokevirtual 111, 3) := dk_182 0 111 (dk_at dksX4_signed_0 3 rfl rfl)
theorem dX4_signed_6 : decode cX4_signed 6 = .ok (.istore_n 1, 1) := dk_60 (dk_at dksX4_signed_0 6 rfl rfl)
theorem dX4_signed_7 : decode cX4_signed 7 = .ok (.aload_n 0, 1) := dk_42 (dk_at dksX4_signed_0 7 rfl rfl)
theorem dX4_signed_8 : decode cX4_signed 8 = .ok (.getfield 39, 3) := dk_180 0 39 (dk_at dksX4_signed_0 8 rfl rfl)
theorem dX4_signed_11 : decode cX4_signed 11 = .ok (.iconst 4, 1) := dk_7 (dk_at dksX4_signed_0 11 rfl rfl)
theorem dX4_signed_12 : decode cX4_signed 12 = .ok (.if_icmp .eq 8, 3) := dk_159 0 8 (dk_at dksX4_signed_0 12 rfl rfl)
theorem dX4_signed_15 : decode cX4_signed 15 = .ok (.aload_n 0, 1) := dk_42 (dk_at dksX4_signed_0 15 rfl rfl)
theorem dX4_signed_16 : decode cX4_signed 16 = .ok (.invokevirtual 114, 3) := dk_182 0 114 (dk_at dksX4_signed_0 16 rfl rfl)
theorem dX4_signed_19 : decode cX4_signed 19 = .ok (.athrow, 1) := dk_191 (dk_at dksX4_signed_0 19 rfl rfl)
theorem dX4_signed_20 : decode cX4_signed 20 = .ok (.aload_n 0, 1) := dk_42 (dk_at dksX4_signed_0 20 rfl rfl)
theorem dX4_signed_21 : decode cX4_signed 21 = .ok (.getfield 87, 3) := dk_180 0 87 (dk_at dksX4_signed_0 21 rfl rfl)
theorem dX4_signed_24 : decode cX4_signed 24 = .ok (.istore_n 2, 1) := dk_61 (dk_at dksX4_signed_1 0 rfl rfl)
theorem dX4_signed_25 : decode cX4_signed 25 = .ok (.aload_n 0, 1) := dk_42 (dk_at dksX4_signed_1 1 rfl rfl)
theorem dX4_signed_26 : decode cX4_signed 26 = .ok (.invokevirtual 29, 3) := dk_182 0 29 (dk_at dksX4_signed_1 2 rfl rfl)
theorem dX4_signed_29 : decode cX4_signed 29 = .ok (.iload_n 1, 1) := dk_27 (dk_at dksX4_signed_1 5 rfl rfl)
theorem dX4_signed_30 : decode cX4_signed 30 = .ok (.ifCond .eq 8, 3) := dk_153 0 8 (dk_at dksX4_signed_1 6 rfl rfl)
theorem dX4_signed_33 : decode cX4_signed 33 = .ok (.iload_n 2, 1) := dk_28 (dk_at dksX4_signed_1 9 rfl rfl)
theorem dX4_signed_34 : decode cX4_signed 34 = .ok (.ineg, 1) := dk_116 (dk_at dksX4_signed_1 10 rfl rfl)
theorem dX4_signed_35 : decode cX4_signed 35 = .ok (.goto 4, 3) := dk_167 0 4 (dk_at dksX4_signed_1 11 rfl rfl)
theorem dX4_signed_38 : decode cX4_signed 38 = .ok (.iload_n 2, 1) := dk_28 (dk_at dksX4_signed_1 14 rfl rfl)
theorem dX4_signed_39 : decode cX4_signed 39 = .ok (.ireturn, 1) := dk_172 (dk_at dksX4_signed_1 15 rfl rfl)
abbrev cX4_patch : ByteArray := prog_29_method_35_code
def yX4_patch : MethodName := ⟨RX4, "patch", "()LPondHouse$Row;"⟩
def dkwX4_patch_1 : List UInt8 := [154, 255, 244, 43, 176]
abbrev dktX4_patch_1 : List UInt8 := dkwX4_patch_1 ++ []
def dkwX4_patch_0 : List UInt8 := [42, 182, 1, 37, 187, 1, 40, 89, 183, 1, 42, 76, 43, 42, 182, 1, 69, 182, 1, 55, 42, 180, 0, 39]
abbrev dktX4_patch_0 : List UInt8 := dkwX4_patch_0 ++ dktX4_patch_1
theorem dksX4_patch_0 : cX4_patch.data.toList.drop 0 = dktX4_patch_0 := by decide +kernel
theorem dksX4_patch_1 : cX4_patch.data.toList.drop 24 = dktX4_patch_1 := dk_seg dksX4_patch_0 24 rfl rfl
theorem dX4_patch_0 : decode cX4_patch 0 = .ok (.aload_n 0, 1) := dk_42 (dk_at dksX4_patch_0 0 rfl rfl)
theorem dX4_patch_1 : decode cX4_patch 1 = .ok (.invokevirtual 293, 3) := dk_182 1 37 (dk_at dksX4_patch_0 1 rfl rfl)
theorem dX4_patch_4 : decode cX4_patch 4 = .ok (.new 296, 3) := dk_187 1 40 (dk_at dksX4_patch_0 4 rfl rfl)
theorem dX4_patch_7 : decode cX4_patch 7 = .ok (.dup, 1) := dk_89 (dk_at dksX4_patch_0 7 rfl rfl)
theorem dX4_patch_8 : decode cX4_patch 8 = .ok (.invokespecial 298, 3) := dk_183 1 42 (dk_at dksX4_patch_0 8 rfl rfl)
theorem dX4_patch_11 : decode cX4_patch 11 = .ok (.astore_n 1, 1) := dk_76 (dk_at dksX4_patch_0 11 rfl rfl)
theorem dX4_patch_12 : decode cX4_patch 12 = .ok (.aload_n 1, 1) := dk_43 (dk_at dksX4_patch_0 12 rfl rfl)
theorem dX4_patch_13 : decode cX4_patch 13 = .ok (.aload_n 0, 1) := dk_42 (dk_at dksX4_patch_0 13 rfl rfl)
theorem dX4_patch_14 : decode cX4_patch 14 = .ok (.invokevirtual 325, 3) := dk_182 1 69 (dk_at dksX4_patch_0 14 rfl rfl)
theorem dX4_patch_17 : decode cX4_patch 17 = .ok (.invokevirtual 311, 3) := dk_182 1 55 (dk_at dksX4_patch_0 17 rfl rfl)
theorem dX4_patch_20 : decode cX4_patch 20 = .ok (.aload_n 0, 1) := dk_42 (dk_at dksX4_patch_0 20 rfl rfl)
theorem dX4_patch_21 : decode cX4_patch 21 = .ok (.getfield 39, 3) := dk_180 0 39 (dk_at dksX4_patch_0 21 rfl rfl)
theorem dX4_patch_24 : decode cX4_patch 24 = .ok (.ifCond .ne (-12), 3) := dk_154 255 244 (dk_at dksX4_patch_1 0 rfl rfl)
theorem dX4_patch_27 : decode cX4_patch 27 = .ok (.aload_n 1, 1) := dk_43 (dk_at dksX4_patch_1 3 rfl rfl)
theorem dX4_patch_28 : decode cX4_patch 28 = .ok (.areturn, 1) := dk_176 (dk_at dksX4_patch_1 4 rfl rfl)
abbrev cX4_change : ByteArray := prog_29_method_36_code
def yX4_change : MethodName := ⟨RX4, "change", "()LPondHouse$Change;"⟩
def dkwX4_change_6 : List UInt8 := [182, 0, 177, 25, 4, 176]
abbrev dktX4_change_6 : List UInt8 := dkwX4_change_6 ++ []
def dkwX4_change_5 : List UInt8 := [167, 0, 19, 187, 1, 92, 89, 42, 180, 0, 3, 29, 42, 182, 0, 174, 183, 1, 94, 58, 4, 42, 16, 59]
abbrev dktX4_change_5 : List UInt8 := dkwX4_change_5 ++ dktX4_change_6
def dkwX4_change_4 : List UInt8 := [167, 0, 43, 28, 153, 0, 23, 187, 1, 89, 89, 42, 180, 0, 3, 29, 42, 1, 182, 1, 48, 183, 1, 91]
abbrev dktX4_change_4 : List UInt8 := dkwX4_change_4 ++ dktX4_change_5
def dkwX4_change_3 : List UInt8 := [182, 0, 29, 42, 182, 0, 155, 62, 27, 153, 0, 18, 187, 1, 86, 89, 42, 180, 0, 3, 29, 183, 1, 88]
abbrev dktX4_change_3 : List UInt8 := dkwX4_change_3 ++ dktX4_change_4
def dkwX4_change_2 : List UInt8 := [27, 154, 0, 22, 28, 154, 0, 18, 42, 19, 1, 84, 182, 0, 118, 154, 0, 8, 42, 182, 0, 114, 191, 42]
abbrev dktX4_change_2 : List UInt8 := dkwX4_change_2 ++ dktX4_change_3
def dkwX4_change_1 : List UInt8 := [153, 0, 8, 42, 182, 1, 77, 176, 42, 19, 1, 80, 182, 0, 118, 60, 42, 19, 1, 82, 182, 0, 118, 61]
abbrev dktX4_change_1 : List UInt8 := dkwX4_change_1 ++ dktX4_change_2
def dkwX4_change_0 : List UInt8 := [42, 19, 1, 43, 182, 0, 161, 153, 0, 8, 42, 182, 1, 73, 176, 42, 19, 1, 76, 182, 0, 161]
abbrev dktX4_change_0 : List UInt8 := dkwX4_change_0 ++ dktX4_change_1
theorem dksX4_change_0 : cX4_change.data.toList.drop 0 = dktX4_change_0 := by decide +kernel
theorem dksX4_change_1 : cX4_change.data.toList.drop 22 = dktX4_change_1 := dk_seg dksX4_change_0 22 rfl rfl
theorem dksX4_change_2 : cX4_change.data.toList.drop 46 = dktX4_change_2 := dk_seg dksX4_change_1 24 rfl rfl
theorem dksX4_change_3 : cX4_change.data.toList.drop 70 = dktX4_change_3 := dk_seg dksX4_change_2 24 rfl rfl
theorem dksX4_change_4 : cX4_change.data.toList.drop 94 = dktX4_change_4 := dk_seg dksX4_change_3 24 rfl rfl
theorem dksX4_change_5 : cX4_change.data.toList.drop 118 = dktX4_change_5 := dk_seg dksX4_change_4 24 rfl rfl
theorem dksX4_change_6 : cX4_change.data.toList.drop 142 = dktX4_change_6 := dk_seg dksX4_change_5 24 rfl rfl
theorem dX4_change_0 : decode cX4_change 0 = .ok (.aload_n 0, 1) := dk_42 (dk_at dksX4_change_0 0 rfl rfl)
theorem dX4_change_1 : decode cX4_change 1 = .ok (.ldc_w 299, 3) := dk_19 1 43 (dk_at dksX4_change_0 1 rfl rfl)
theorem dX4_change_4 : decode cX4_change 4 = .ok (.invokevirtual 161, 3) := dk_182 0 161 (dk_at dksX4_change_0 4 rfl rfl)
theorem dX4_change_7 : decode cX4_change 7 = .ok (.ifCond .eq 8, 3) := dk_153 0 8 (dk_at dksX4_change_0 7 rfl rfl)
theorem dX4_change_10 : decode cX4_change 10 = .ok (.aload_n 0, 1) := dk_42 (dk_at dksX4_change_0 10 rfl rfl)
theorem dX4_change_11 : decode cX4_change 11 = .ok (.invokevirtual 329, 3) := dk_182 1 73 (dk_at dksX4_change_0 11 rfl rfl)
theorem dX4_change_14 : decode cX4_change 14 = .ok (.areturn, 1) := dk_176 (dk_at dksX4_change_0 14 rfl rfl)
theorem dX4_change_15 : decode cX4_change 15 = .ok (.aload_n 0, 1) := dk_42 (dk_at dksX4_change_0 15 rfl rfl)
theorem dX4_change_16 : decode cX4_change 16 = .ok (.ldc_w 332, 3) := dk_19 1 76 (dk_at dksX4_change_0 16 rfl rfl)
theorem dX4_change_19 : decode cX4_change 19 = .ok (.invokevirtual 161, 3) := dk_182 0 161 (dk_at dksX4_change_0 19 rfl rfl)
theorem dX4_change_22 : decode cX4_change 22 = .ok (.ifCond .eq 8, 3) := dk_153 0 8 (dk_at dksX4_change_1 0 rfl rfl)
theorem dX4_change_25 : decode cX4_change 25 = .ok (.aload_n 0, 1) := dk_42 (dk_at dksX4_change_1 3 rfl rfl)
theorem dX4_change_26 : decode cX4_change 26 = .ok (.invokevirtual 333, 3) := dk_182 1 77 (dk_at dksX4_change_1 4 rfl rfl)
theorem dX4_change_29 : decode cX4_change 29 = .ok (.areturn, 1) := dk_176 (dk_at dksX4_change_1 7 rfl rfl)
theorem dX4_change_30 : decode cX4_change 30 = .ok (.aload_n 0, 1) := dk_42 (dk_at dksX4_change_1 8 rfl rfl)
theorem dX4_change_31 : decode cX4_change 31 = .ok (.ldc_w 336, 3) := dk_19 1 80 (dk_at dksX4_change_1 9 rfl rfl)
theorem dX4_change_34 : decode cX4_change 34 = .ok (.invokevirtual 118, 3) := dk_182 0 118 (dk_at dksX4_change_1 12 rfl rfl)
theorem dX4_change_37 : decode cX4_change 37 = .ok (.istore_n 1, 1) := dk_60 (dk_at dksX4_change_1 15 rfl rfl)
theorem dX4_change_38 : decode cX4_change 38 = .ok (.aload_n 0, 1) := dk_42 (dk_at dksX4_change_1 16 rfl rfl)
theorem dX4_change_39 : decode cX4_change 39 = .ok (.ldc_w 338, 3) := dk_19 1 82 (dk_at dksX4_change_1 17 rfl rfl)
theorem dX4_change_42 : decode cX4_change 42 = .ok (.invokevirtual 118, 3) := dk_182 0 118 (dk_at dksX4_change_1 20 rfl rfl)
theorem dX4_change_45 : decode cX4_change 45 = .ok (.istore_n 2, 1) := dk_61 (dk_at dksX4_change_1 23 rfl rfl)
theorem dX4_change_46 : decode cX4_change 46 = .ok (.iload_n 1, 1) := dk_27 (dk_at dksX4_change_2 0 rfl rfl)
theorem dX4_change_47 : decode cX4_change 47 = .ok (.ifCond .ne 22, 3) := dk_154 0 22 (dk_at dksX4_change_2 1 rfl rfl)
theorem dX4_change_50 : decode cX4_change 50 = .ok (.iload_n 2, 1) := dk_28 (dk_at dksX4_change_2 4 rfl rfl)
theorem dX4_change_51 : decode cX4_change 51 = .ok (.ifCond .ne 18, 3) := dk_154 0 18 (dk_at dksX4_change_2 5 rfl rfl)
theorem dX4_change_54 : decode cX4_change 54 = .ok (.aload_n 0, 1) := dk_42 (dk_at dksX4_change_2 8 rfl rfl)
theorem dX4_change_55 : decode cX4_change 55 = .ok (.ldc_w 340, 3) := dk_19 1 84 (dk_at dksX4_change_2 9 rfl rfl)
theorem dX4_change_58 : decode cX4_change 58 = .ok (.invokevirtual 118, 3) := dk_182 0 118 (dk_at dksX4_change_2 12 rfl rfl)
theorem dX4_change_61 : decode cX4_change 61 = .ok (.ifCond .ne 8, 3) := dk_154 0 8 (dk_at dksX4_change_2 15 rfl rfl)
theorem dX4_change_64 : decode cX4_change 64 = .ok (.aload_n 0, 1) := dk_42 (dk_at dksX4_change_2 18 rfl rfl)
theorem dX4_change_65 : decode cX4_change 65 = .ok (.invokevirtual 114, 3) := dk_182 0 114 (dk_at dksX4_change_2 19 rfl rfl)
theorem dX4_change_68 : decode cX4_change 68 = .ok (.athrow, 1) := dk_191 (dk_at dksX4_change_2 22 rfl rfl)
theorem dX4_change_69 : decode cX4_change 69 = .ok (.aload_n 0, 1) := dk_42 (dk_at dksX4_change_2 23 rfl rfl)
theorem dX4_change_70 : decode cX4_change 70 = .ok (.invokevirtual 29, 3) := dk_182 0 29 (dk_at dksX4_change_3 0 rfl rfl)
theorem dX4_change_73 : decode cX4_change 73 = .ok (.aload_n 0, 1) := dk_42 (dk_at dksX4_change_3 3 rfl rfl)
theorem dX4_change_74 : decode cX4_change 74 = .ok (.invokevirtual 155, 3) := dk_182 0 155 (dk_at dksX4_change_3 4 rfl rfl)
theorem dX4_change_77 : decode cX4_change 77 = .ok (.istore_n 3, 1) := dk_62 (dk_at dksX4_change_3 7 rfl rfl)
theorem dX4_change_78 : decode cX4_change 78 = .ok (.iload_n 1, 1) := dk_27 (dk_at dksX4_change_3 8 rfl rfl)
theorem dX4_change_79 : decode cX4_change 79 = .ok (.ifCond .eq 18, 3) := dk_153 0 18 (dk_at dksX4_change_3 9 rfl rfl)
theorem dX4_change_82 : decode cX4_change 82 = .ok (.new 342, 3) := dk_187 1 86 (dk_at dksX4_change_3 12 rfl rfl)
theorem dX4_change_85 : decode cX4_change 85 = .ok (.dup, 1) := dk_89 (dk_at dksX4_change_3 15 rfl rfl)
theorem dX4_change_86 : decode cX4_change 86 = .ok (.aload_n 0, 1) := dk_42 (dk_at dksX4_change_3 16 rfl rfl)
theorem dX4_change_87 : decode cX4_change 87 = .ok (.getfield 3, 3) := dk_180 0 3 (dk_at dksX4_change_3 17 rfl rfl)
theorem dX4_change_90 : decode cX4_change 90 = .ok (.iload_n 3, 1) := dk_29 (dk_at dksX4_change_3 20 rfl rfl)
theorem dX4_change_91 : decode cX4_change 91 = .ok (.invokespecial 344, 3) := dk_183 1 88 (dk_at dksX4_change_3 21 rfl rfl)
theorem dX4_change_94 : decode cX4_change 94 = .ok (.goto 43, 3) := dk_167 0 43 (dk_at dksX4_change_4 0 rfl rfl)
theorem dX4_change_97 : decode cX4_change 97 = .ok (.iload_n 2, 1) := dk_28 (dk_at dksX4_change_4 3 rfl rfl)
theorem dX4_change_98 : decode cX4_change 98 = .ok (.ifCond .eq 23, 3) := dk_153 0 23 (dk_at dksX4_change_4 4 rfl rfl)
theorem dX4_change_101 : decode cX4_change 101 = .ok (.new 345, 3) := dk_187 1 89 (dk_at dksX4_change_4 7 rfl rfl)
theorem dX4_change_104 : decode cX4_change 104 = .ok (.dup, 1) := dk_89 (dk_at dksX4_change_4 10 rfl rfl)
theorem dX4_change_105 : decode cX4_change 105 = .ok (.aload_n 0, 1) := dk_42 (dk_at dksX4_change_4 11 rfl rfl)
theorem dX4_change_106 : decode cX4_change 106 = .ok (.getfield 3, 3) := dk_180 0 3 (dk_at dksX4_change_4 12 rfl rfl)
theorem dX4_change_109 : decode cX4_change 109 = .ok (.iload_n 3, 1) := dk_29 (dk_at dksX4_change_4 15 rfl rfl)
theorem dX4_change_110 : decode cX4_change 110 = .ok (.aload_n 0, 1) := dk_42 (dk_at dksX4_change_4 16 rfl rfl)
theorem dX4_change_111 : decode cX4_change 111 = .ok (.aconst_null, 1) := dk_1 (dk_at dksX4_change_4 17 rfl rfl)
theorem dX4_change_112 : decode cX4_change 112 = .ok (.invokevirtual 304, 3) := dk_182 1 48 (dk_at dksX4_change_4 18 rfl rfl)
theorem dX4_change_115 : decode cX4_change 115 = .ok (.invokespecial 347, 3) := dk_183 1 91 (dk_at dksX4_change_4 21 rfl rfl)
theorem dX4_change_118 : decode cX4_change 118 = .ok (.goto 19, 3) := dk_167 0 19 (dk_at dksX4_change_5 0 rfl rfl)
theorem dX4_change_121 : decode cX4_change 121 = .ok (.new 348, 3) := dk_187 1 92 (dk_at dksX4_change_5 3 rfl rfl)
theorem dX4_change_124 : decode cX4_change 124 = .ok (.dup, 1) := dk_89 (dk_at dksX4_change_5 6 rfl rfl)
theorem dX4_change_125 : decode cX4_change 125 = .ok (.aload_n 0, 1) := dk_42 (dk_at dksX4_change_5 7 rfl rfl)
theorem dX4_change_126 : decode cX4_change 126 = .ok (.getfield 3, 3) := dk_180 0 3 (dk_at dksX4_change_5 8 rfl rfl)
theorem dX4_change_129 : decode cX4_change 129 = .ok (.iload_n 3, 1) := dk_29 (dk_at dksX4_change_5 11 rfl rfl)
theorem dX4_change_130 : decode cX4_change 130 = .ok (.aload_n 0, 1) := dk_42 (dk_at dksX4_change_5 12 rfl rfl)
theorem dX4_change_131 : decode cX4_change 131 = .ok (.invokevirtual 174, 3) := dk_182 0 174 (dk_at dksX4_change_5 13 rfl rfl)
theorem dX4_change_134 : decode cX4_change 134 = .ok (.invokespecial 350, 3) := dk_183 1 94 (dk_at dksX4_change_5 16 rfl rfl)
theorem dX4_change_137 : decode cX4_change 137 = .ok (.astore 4, 2) := dk_58 4 (dk_at dksX4_change_5 19 rfl rfl)
theorem dX4_change_139 : decode cX4_change 139 = .ok (.aload_n 0, 1) := dk_42 (dk_at dksX4_change_5 21 rfl rfl)
theorem dX4_change_140 : decode cX4_change 140 = .ok (.bipush 59, 2) := dk_16 59 (dk_at dksX4_change_5 22 rfl rfl)
theorem dX4_change_142 : decode cX4_change 142 = .ok (.invokevirtual 177, 3) := dk_182 0 177 (dk_at dksX4_change_6 0 rfl rfl)
theorem dX4_change_145 : decode cX4_change 145 = .ok (.aload 4, 2) := dk_25 4 (dk_at dksX4_change_6 3 rfl rfl)
theorem dX4_change_147 : decode cX4_change 147 = .ok (.areturn, 1) := dk_176 (dk_at dksX4_change_6 5 rfl rfl)
abbrev cX4_comes : ByteArray := prog_29_method_37_code
def yX4_comes : MethodName := ⟨RX4, "comes", "()LPondHouse$Change;"⟩
def dkwX4_comes_2 : List UInt8 := [182, 1, 55, 167, 255, 236, 42, 16, 125, 182, 0, 177, 44, 176]
abbrev dktX4_comes_2 : List UInt8 := dkwX4_comes_2 ++ []
def dkwX4_comes_1 : List UInt8 := [16, 123, 182, 0, 177, 42, 182, 1, 58, 153, 0, 19, 44, 180, 1, 98, 42, 1, 1, 182, 1, 61]
abbrev dktX4_comes_1 : List UInt8 := dkwX4_comes_1 ++ dktX4_comes_2
def dkwX4_comes_0 : List UInt8 := [42, 182, 0, 155, 60, 187, 1, 95, 89, 42, 180, 0, 3, 27, 42, 1, 182, 1, 48, 183, 1, 97, 77, 42]
abbrev dktX4_comes_0 : List UInt8 := dkwX4_comes_0 ++ dktX4_comes_1
theorem dksX4_comes_0 : cX4_comes.data.toList.drop 0 = dktX4_comes_0 := by decide +kernel
theorem dksX4_comes_1 : cX4_comes.data.toList.drop 24 = dktX4_comes_1 := dk_seg dksX4_comes_0 24 rfl rfl
theorem dksX4_comes_2 : cX4_comes.data.toList.drop 46 = dktX4_comes_2 := dk_seg dksX4_comes_1 22 rfl rfl
theorem dX4_comes_0 : decode cX4_comes 0 = .ok (.aload_n 0, 1) := dk_42 (dk_at dksX4_comes_0 0 rfl rfl)
theorem dX4_comes_1 : decode cX4_comes 1 = .ok (.invokevirtual 155, 3) := dk_182 0 155 (dk_at dksX4_comes_0 1 rfl rfl)
theorem dX4_comes_4 : decode cX4_comes 4 = .ok (.istore_n 1, 1) := dk_60 (dk_at dksX4_comes_0 4 rfl rfl)
theorem dX4_comes_5 : decode cX4_comes 5 = .ok (.new 351, 3) := dk_187 1 95 (dk_at dksX4_comes_0 5 rfl rfl)
theorem dX4_comes_8 : decode cX4_comes 8 = .ok (.dup, 1) := dk_89 (dk_at dksX4_comes_0 8 rfl rfl)
theorem dX4_comes_9 : decode cX4_comes 9 = .ok (.aload_n 0, 1) := dk_42 (dk_at dksX4_comes_0 9 rfl rfl)
theorem dX4_comes_10 : decode cX4_comes 10 = .ok (.getfield 3, 3) := dk_180 0 3 (dk_at dksX4_comes_0 10 rfl rfl)
theorem dX4_comes_13 : decode cX4_comes 13 = .ok (.iload_n 1, 1) := dk_27 (dk_at dksX4_comes_0 13 rfl rfl)
theorem dX4_comes_14 : decode cX4_comes 14 = .ok (.aload_n 0, 1) := dk_42 (dk_at dksX4_comes_0 14 rfl rfl)
theorem dX4_comes_15 : decode cX4_comes 15 = .ok (.aconst_null, 1) := dk_1 (dk_at dksX4_comes_0 15 rfl rfl)
theorem dX4_comes_16 : decode cX4_comes 16 = .ok (.invokevirtual 304, 3) := dk_182 1 48 (dk_at dksX4_comes_0 16 rfl rfl)
theorem dX4_comes_19 : decode cX4_comes 19 = .ok (.invokespecial 353, 3) := dk_183 1 97 (dk_at dksX4_comes_0 19 rfl rfl)
theorem dX4_comes_22 : decode cX4_comes 22 = .ok (.astore_n 2, 1) := dk_77 (dk_at dksX4_comes_0 22 rfl rfl)
theorem dX4_comes_23 : decode cX4_comes 23 = .ok (.aload_n 0, 1) := dk_42 (dk_at dksX4_comes_0 23 rfl rfl)
theorem dX4_comes_24 : decode cX4_comes 24 = .ok (.bipush 123, 2) := dk_16 123 (dk_at dksX4_comes_1 0 rfl rfl)
theorem dX4_comes_26 : decode cX4_comes 26 = .ok (.invokevirtual 177, 3) := dk_182 0 177 (dk_at dksX4_comes_1 2 rfl rfl)
theorem dX4_comes_29 : decode cX4_comes 29 = .ok (.aload_n 0, 1) := dk_42 (dk_at dksX4_comes_1 5 rfl rfl)
theorem dX4_comes_30 : decode cX4_comes 30 = .ok (.invokevirtual 314, 3) := dk_182 1 58 (dk_at dksX4_comes_1 6 rfl rfl)
theorem dX4_comes_33 : decode cX4_comes 33 = .ok (.ifCond .eq 19, 3) := dk_153 0 19 (dk_at dksX4_comes_1 9 rfl rfl)
theorem dX4_comes_36 : decode cX4_comes 36 = .ok (.aload_n 2, 1) := dk_44 (dk_at dksX4_comes_1 12 rfl rfl)
theorem dX4_comes_37 : decode cX4_comes 37 = .ok (.getfield 354, 3) := dk_180 1 98 (dk_at dksX4_comes_1 13 rfl rfl)
theorem dX4_comes_40 : decode cX4_comes 40 = .ok (.aload_n 0, 1) := dk_42 (dk_at dksX4_comes_1 16 rfl rfl)
theorem dX4_comes_41 : decode cX4_comes 41 = .ok (.aconst_null, 1) := dk_1 (dk_at dksX4_comes_1 17 rfl rfl)
theorem dX4_comes_42 : decode cX4_comes 42 = .ok (.aconst_null, 1) := dk_1 (dk_at dksX4_comes_1 18 rfl rfl)
theorem dX4_comes_43 : decode cX4_comes 43 = .ok (.invokevirtual 317, 3) := dk_182 1 61 (dk_at dksX4_comes_1 19 rfl rfl)
theorem dX4_comes_46 : decode cX4_comes 46 = .ok (.invokevirtual 311, 3) := dk_182 1 55 (dk_at dksX4_comes_2 0 rfl rfl)
theorem dX4_comes_49 : decode cX4_comes 49 = .ok (.goto (-20), 3) := dk_167 255 236 (dk_at dksX4_comes_2 3 rfl rfl)
theorem dX4_comes_52 : decode cX4_comes 52 = .ok (.aload_n 0, 1) := dk_42 (dk_at dksX4_comes_2 6 rfl rfl)
theorem dX4_comes_53 : decode cX4_comes 53 = .ok (.bipush 125, 2) := dk_16 125 (dk_at dksX4_comes_2 7 rfl rfl)
theorem dX4_comes_55 : decode cX4_comes 55 = .ok (.invokevirtual 177, 3) := dk_182 0 177 (dk_at dksX4_comes_2 9 rfl rfl)
theorem dX4_comes_58 : decode cX4_comes 58 = .ok (.aload_n 2, 1) := dk_44 (dk_at dksX4_comes_2 12 rfl rfl)
theorem dX4_comes_59 : decode cX4_comes 59 = .ok (.areturn, 1) := dk_176 (dk_at dksX4_comes_2 13 rfl rfl)
abbrev cX4_changes : ByteArray := prog_29_method_38_code
def yX4_changes : MethodName := ⟨RX4, "changes", "()LPondHouse$Change;"⟩
def dkwX4_changes_3 : List UInt8 := [42, 182, 0, 29, 43, 176]
abbrev dktX4_changes_3 : List UInt8 := dkwX4_changes_3 ++ []
def dkwX4_changes_2 : List UInt8 := [1, 1, 182, 1, 61, 2, 2, 1, 183, 1, 110, 167, 0, 7, 42, 182, 1, 113, 182, 1, 55, 167, 255, 210]
abbrev dktX4_changes_2 : List UInt8 := dkwX4_changes_2 ++ dktX4_changes_3
def dkwX4_changes_1 : List UInt8 := [16, 125, 182, 0, 108, 154, 0, 43, 43, 180, 1, 105, 42, 182, 1, 58, 153, 0, 22, 187, 1, 108, 89, 42]
abbrev dktX4_changes_1 : List UInt8 := dkwX4_changes_1 ++ dktX4_changes_2
def dkwX4_changes_0 : List UInt8 := [187, 1, 102, 89, 42, 180, 0, 3, 42, 182, 0, 155, 183, 1, 104, 76, 42, 16, 123, 182, 0, 177, 42]
abbrev dktX4_changes_0 : List UInt8 := dkwX4_changes_0 ++ dktX4_changes_1
theorem dksX4_changes_0 : cX4_changes.data.toList.drop 0 = dktX4_changes_0 := by decide +kernel
theorem dksX4_changes_1 : cX4_changes.data.toList.drop 23 = dktX4_changes_1 := dk_seg dksX4_changes_0 23 rfl rfl
theorem dksX4_changes_2 : cX4_changes.data.toList.drop 47 = dktX4_changes_2 := dk_seg dksX4_changes_1 24 rfl rfl
theorem dksX4_changes_3 : cX4_changes.data.toList.drop 71 = dktX4_changes_3 := dk_seg dksX4_changes_2 24 rfl rfl
theorem dX4_changes_0 : decode cX4_changes 0 = .ok (.new 358, 3) := dk_187 1 102 (dk_at dksX4_changes_0 0 rfl rfl)
theorem dX4_changes_3 : decode cX4_changes 3 = .ok (.dup, 1) := dk_89 (dk_at dksX4_changes_0 3 rfl rfl)
theorem dX4_changes_4 : decode cX4_changes 4 = .ok (.aload_n 0, 1) := dk_42 (dk_at dksX4_changes_0 4 rfl rfl)
theorem dX4_changes_5 : decode cX4_changes 5 = .ok (.getfield 3, 3) := dk_180 0 3 (dk_at dksX4_changes_0 5 rfl rfl)
theorem dX4_changes_8 : decode cX4_changes 8 = .ok (.aload_n 0, 1) := dk_42 (dk_at dksX4_changes_0 8 rfl rfl)
theorem dX4_changes_9 : decode cX4_changes 9 = .ok (.invokevirtual 155, 3) := dk_182 0 155 (dk_at dksX4_changes_0 9 rfl rfl)
theorem dX4_changes_12 : decode cX4_changes 12 = .ok (.invokespecial 360, 3) := dk_183 1 104 (dk_at dksX4_changes_0 12 rfl rfl)
theorem dX4_changes_15 : decode cX4_changes 15 = .ok (.astore_n 1, 1) := dk_76 (dk_at dksX4_changes_0 15 rfl rfl)
theorem dX4_changes_16 : decode cX4_changes 16 = .ok (.aload_n 0, 1) := dk_42 (dk_at dksX4_changes_0 16 rfl rfl)
theorem dX4_changes_17 : decode cX4_changes 17 = .ok (.bipush 123, 2) := dk_16 123 (dk_at dksX4_changes_0 17 rfl rfl)
theorem dX4_changes_19 : decode cX4_changes 19 = .ok (.invokevirtual 177, 3) := dk_182 0 177 (dk_at dksX4_changes_0 19 rfl rfl)
theorem dX4_changes_22 : decode cX4_changes 22 = .ok (.aload_n 0, 1) := dk_42 (dk_at dksX4_changes_0 22 rfl rfl)
theorem dX4_changes_23 : decode cX4_changes 23 = .ok (.bipush 125, 2) := dk_16 125 (dk_at dksX4_changes_1 0 rfl rfl)
theorem dX4_changes_25 : decode cX4_changes 25 = .ok (.invokevirtual 108, 3) := dk_182 0 108 (dk_at dksX4_changes_1 2 rfl rfl)
theorem dX4_changes_28 : decode cX4_changes 28 = .ok (.ifCond .ne 43, 3) := dk_154 0 43 (dk_at dksX4_changes_1 5 rfl rfl)
theorem dX4_changes_31 : decode cX4_changes 31 = .ok (.aload_n 1, 1) := dk_43 (dk_at dksX4_changes_1 8 rfl rfl)
theorem dX4_changes_32 : decode cX4_changes 32 = .ok (.getfield 361, 3) := dk_180 1 105 (dk_at dksX4_changes_1 9 rfl rfl)
theorem dX4_changes_35 : decode cX4_changes 35 = .ok (.aload_n 0, 1) := dk_42 (dk_at dksX4_changes_1 12 rfl rfl)
theorem dX4_changes_36 : decode cX4_changes 36 = .ok (.invokevirtual 314, 3) := dk_182 1 58 (dk_at dksX4_changes_1 13 rfl rfl)
theorem dX4_changes_39 : decode cX4_changes 39 = .ok (.ifCond .eq 22, 3) := dk_153 0 22 (dk_at dksX4_changes_1 16 rfl rfl)
theorem dX4_changes_42 : decode cX4_changes 42 = .ok (.new 364, 3) := dk_187 1 108 (dk_at dksX4_changes_1 19 rfl rfl)
theorem dX4_changes_45 : decode cX4_changes 45 = .ok (.dup, 1) := dk_89 (dk_at dksX4_changes_1 22 rfl rfl)
theorem dX4_changes_46 : decode cX4_changes 46 = .ok (.aload_n 0, 1) := dk_42 (dk_at dksX4_changes_1 23 rfl rfl)
theorem dX4_changes_47 : decode cX4_changes 47 = .ok (.aconst_null, 1) := dk_1 (dk_at dksX4_changes_2 0 rfl rfl)
theorem dX4_changes_48 : decode cX4_changes 48 = .ok (.aconst_null, 1) := dk_1 (dk_at dksX4_changes_2 1 rfl rfl)
theorem dX4_changes_49 : decode cX4_changes 49 = .ok (.invokevirtual 317, 3) := dk_182 1 61 (dk_at dksX4_changes_2 2 rfl rfl)
theorem dX4_changes_52 : decode cX4_changes 52 = .ok (.iconst (-1), 1) := dk_2 (dk_at dksX4_changes_2 5 rfl rfl)
theorem dX4_changes_53 : decode cX4_changes 53 = .ok (.iconst (-1), 1) := dk_2 (dk_at dksX4_changes_2 6 rfl rfl)
theorem dX4_changes_54 : decode cX4_changes 54 = .ok (.aconst_null, 1) := dk_1 (dk_at dksX4_changes_2 7 rfl rfl)
theorem dX4_changes_55 : decode cX4_changes 55 = .ok (.invokespecial 366, 3) := dk_183 1 110 (dk_at dksX4_changes_2 8 rfl rfl)
theorem dX4_changes_58 : decode cX4_changes 58 = .ok (.goto 7, 3) := dk_167 0 7 (dk_at dksX4_changes_2 11 rfl rfl)
theorem dX4_changes_61 : decode cX4_changes 61 = .ok (.aload_n 0, 1) := dk_42 (dk_at dksX4_changes_2 14 rfl rfl)
theorem dX4_changes_62 : decode cX4_changes 62 = .ok (.invokevirtual 369, 3) := dk_182 1 113 (dk_at dksX4_changes_2 15 rfl rfl)
theorem dX4_changes_65 : decode cX4_changes 65 = .ok (.invokevirtual 311, 3) := dk_182 1 55 (dk_at dksX4_changes_2 18 rfl rfl)
theorem dX4_changes_68 : decode cX4_changes 68 = .ok (.goto (-46), 3) := dk_167 255 210 (dk_at dksX4_changes_2 21 rfl rfl)
theorem dX4_changes_71 : decode cX4_changes 71 = .ok (.aload_n 0, 1) := dk_42 (dk_at dksX4_changes_3 0 rfl rfl)
theorem dX4_changes_72 : decode cX4_changes 72 = .ok (.invokevirtual 29, 3) := dk_182 0 29 (dk_at dksX4_changes_3 1 rfl rfl)
theorem dX4_changes_75 : decode cX4_changes 75 = .ok (.aload_n 1, 1) := dk_43 (dk_at dksX4_changes_3 4 rfl rfl)
theorem dX4_changes_76 : decode cX4_changes 76 = .ok (.areturn, 1) := dk_176 (dk_at dksX4_changes_3 5 rfl rfl)
abbrev cX4_edit : ByteArray := prog_29_method_39_code
def yX4_edit : MethodName := ⟨RX4, "edit", "()LPondHouse$Edit;"⟩
def dkwX4_edit_4 : List UInt8 := [183, 1, 110, 176]
abbrev dktX4_edit_4 : List UInt8 := dkwX4_edit_4 ++ []
def dkwX4_edit_3 : List UInt8 := [167, 0, 4, 1, 58, 5, 42, 16, 59, 182, 0, 177, 187, 1, 108, 89, 1, 29, 21, 4, 25, 5]
abbrev dktX4_edit_3 : List UInt8 := dkwX4_edit_3 ++ dktX4_edit_4
def dkwX4_edit_2 : List UInt8 := [27, 153, 0, 10, 42, 182, 0, 155, 167, 0, 4, 2, 54, 4, 28, 153, 0, 10, 42, 182, 0, 174]
abbrev dktX4_edit_2 : List UInt8 := dkwX4_edit_2 ++ dktX4_edit_3
def dkwX4_edit_1 : List UInt8 := [42, 19, 1, 80, 182, 0, 118, 154, 0, 8, 42, 182, 0, 114, 191, 42, 182, 0, 29, 42, 182, 0, 155, 62]
abbrev dktX4_edit_1 : List UInt8 := dkwX4_edit_1 ++ dktX4_edit_2
def dkwX4_edit_0 : List UInt8 := [42, 19, 1, 117, 182, 0, 118, 60, 42, 19, 1, 119, 182, 0, 118, 61, 27, 154, 0, 22, 28, 154, 0, 18]
abbrev dktX4_edit_0 : List UInt8 := dkwX4_edit_0 ++ dktX4_edit_1
theorem dksX4_edit_0 : cX4_edit.data.toList.drop 0 = dktX4_edit_0 := by decide +kernel
theorem dksX4_edit_1 : cX4_edit.data.toList.drop 24 = dktX4_edit_1 := dk_seg dksX4_edit_0 24 rfl rfl
theorem dksX4_edit_2 : cX4_edit.data.toList.drop 48 = dktX4_edit_2 := dk_seg dksX4_edit_1 24 rfl rfl
theorem dksX4_edit_3 : cX4_edit.data.toList.drop 70 = dktX4_edit_3 := dk_seg dksX4_edit_2 22 rfl rfl
theorem dksX4_edit_4 : cX4_edit.data.toList.drop 92 = dktX4_edit_4 := dk_seg dksX4_edit_3 22 rfl rfl
theorem dX4_edit_0 : decode cX4_edit 0 = .ok (.aload_n 0, 1) := dk_42 (dk_at dksX4_edit_0 0 rfl rfl)
theorem dX4_edit_1 : decode cX4_edit 1 = .ok (.ldc_w 373, 3) := dk_19 1 117 (dk_at dksX4_edit_0 1 rfl rfl)
theorem dX4_edit_4 : decode cX4_edit 4 = .ok (.invokevirtual 118, 3) := dk_182 0 118 (dk_at dksX4_edit_0 4 rfl rfl)
theorem dX4_edit_7 : decode cX4_edit 7 = .ok (.istore_n 1, 1) := dk_60 (dk_at dksX4_edit_0 7 rfl rfl)
theorem dX4_edit_8 : decode cX4_edit 8 = .ok (.aload_n 0, 1) := dk_42 (dk_at dksX4_edit_0 8 rfl rfl)
theorem dX4_edit_9 : decode cX4_edit 9 = .ok (.ldc_w 375, 3) := dk_19 1 119 (dk_at dksX4_edit_0 9 rfl rfl)
theorem dX4_edit_12 : decode cX4_edit 12 = .ok (.invokevirtual 118, 3) := dk_182 0 118 (dk_at dksX4_edit_0 12 rfl rfl)
theorem dX4_edit_15 : decode cX4_edit 15 = .ok (.istore_n 2, 1) := dk_61 (dk_at dksX4_edit_0 15 rfl rfl)
theorem dX4_edit_16 : decode cX4_edit 16 = .ok (.iload_n 1, 1) := dk_27 (dk_at dksX4_edit_0 16 rfl rfl)
theorem dX4_edit_17 : decode cX4_edit 17 = .ok (.ifCond .ne 22, 3) := dk_154 0 22 (dk_at dksX4_edit_0 17 rfl rfl)
theorem dX4_edit_20 : decode cX4_edit 20 = .ok (.iload_n 2, 1) := dk_28 (dk_at dksX4_edit_0 20 rfl rfl)
theorem dX4_edit_21 : decode cX4_edit 21 = .ok (.ifCond .ne 18, 3) := dk_154 0 18 (dk_at dksX4_edit_0 21 rfl rfl)
theorem dX4_edit_24 : decode cX4_edit 24 = .ok (.aload_n 0, 1) := dk_42 (dk_at dksX4_edit_1 0 rfl rfl)
theorem dX4_edit_25 : decode cX4_edit 25 = .ok (.ldc_w 336, 3) := dk_19 1 80 (dk_at dksX4_edit_1 1 rfl rfl)
theorem dX4_edit_28 : decode cX4_edit 28 = .ok (.invokevirtual 118, 3) := dk_182 0 118 (dk_at dksX4_edit_1 4 rfl rfl)
theorem dX4_edit_31 : decode cX4_edit 31 = .ok (.ifCond .ne 8, 3) := dk_154 0 8 (dk_at dksX4_edit_1 7 rfl rfl)
theorem dX4_edit_34 : decode cX4_edit 34 = .ok (.aload_n 0, 1) := dk_42 (dk_at dksX4_edit_1 10 rfl rfl)
theorem dX4_edit_35 : decode cX4_edit 35 = .ok (.invokevirtual 114, 3) := dk_182 0 114 (dk_at dksX4_edit_1 11 rfl rfl)
theorem dX4_edit_38 : decode cX4_edit 38 = .ok (.athrow, 1) := dk_191 (dk_at dksX4_edit_1 14 rfl rfl)
theorem dX4_edit_39 : decode cX4_edit 39 = .ok (.aload_n 0, 1) := dk_42 (dk_at dksX4_edit_1 15 rfl rfl)
theorem dX4_edit_40 : decode cX4_edit 40 = .ok (.invokevirtual 29, 3) := dk_182 0 29 (dk_at dksX4_edit_1 16 rfl rfl)
theorem dX4_edit_43 : decode cX4_edit 43 = .ok (.aload_n 0, 1) := dk_42 (dk_at dksX4_edit_1 19 rfl rfl)
theorem dX4_edit_44 : decode cX4_edit 44 = .ok (.invokevirtual 155, 3) := dk_182 0 155 (dk_at dksX4_edit_1 20 rfl rfl)
theorem dX4_edit_47 : decode cX4_edit 47 = .ok (.istore_n 3, 1) := dk_62 (dk_at dksX4_edit_1 23 rfl rfl)
theorem dX4_edit_48 : decode cX4_edit 48 = .ok (.iload_n 1, 1) := dk_27 (dk_at dksX4_edit_2 0 rfl rfl)
theorem dX4_edit_49 : decode cX4_edit 49 = .ok (.ifCond .eq 10, 3) := dk_153 0 10 (dk_at dksX4_edit_2 1 rfl rfl)
theorem dX4_edit_52 : decode cX4_edit 52 = .ok (.aload_n 0, 1) := dk_42 (dk_at dksX4_edit_2 4 rfl rfl)
theorem dX4_edit_53 : decode cX4_edit 53 = .ok (.invokevirtual 155, 3) := dk_182 0 155 (dk_at dksX4_edit_2 5 rfl rfl)
theorem dX4_edit_56 : decode cX4_edit 56 = .ok (.goto 4, 3) := dk_167 0 4 (dk_at dksX4_edit_2 8 rfl rfl)
theorem dX4_edit_59 : decode cX4_edit 59 = .ok (.iconst (-1), 1) := dk_2 (dk_at dksX4_edit_2 11 rfl rfl)
theorem dX4_edit_60 : decode cX4_edit 60 = .ok (.istore 4, 2) := dk_54 4 (dk_at dksX4_edit_2 12 rfl rfl)
theorem dX4_edit_62 : decode cX4_edit 62 = .ok (.iload_n 2, 1) := dk_28 (dk_at dksX4_edit_2 14 rfl rfl)
theorem dX4_edit_63 : decode cX4_edit 63 = .ok (.ifCond .eq 10, 3) := dk_153 0 10 (dk_at dksX4_edit_2 15 rfl rfl)
theorem dX4_edit_66 : decode cX4_edit 66 = .ok (.aload_n 0, 1) := dk_42 (dk_at dksX4_edit_2 18 rfl rfl)
theorem dX4_edit_67 : decode cX4_edit 67 = .ok (.invokevirtual 174, 3) := dk_182 0 174 (dk_at dksX4_edit_2 19 rfl rfl)
theorem dX4_edit_70 : decode cX4_edit 70 = .ok (.goto 4, 3) := dk_167 0 4 (dk_at dksX4_edit_3 0 rfl rfl)
theorem dX4_edit_73 : decode cX4_edit 73 = .ok (.aconst_null, 1) := dk_1 (dk_at dksX4_edit_3 3 rfl rfl)
theorem dX4_edit_74 : decode cX4_edit 74 = .ok (.astore 5, 2) := dk_58 5 (dk_at dksX4_edit_3 4 rfl rfl)
theorem dX4_edit_76 : decode cX4_edit 76 = .ok (.aload_n 0, 1) := dk_42 (dk_at dksX4_edit_3 6 rfl rfl)
theorem dX4_edit_77 : decode cX4_edit 77 = .ok (.bipush 59, 2) := dk_16 59 (dk_at dksX4_edit_3 7 rfl rfl)
theorem dX4_edit_79 : decode cX4_edit 79 = .ok (.invokevirtual 177, 3) := dk_182 0 177 (dk_at dksX4_edit_3 9 rfl rfl)
theorem dX4_edit_82 : decode cX4_edit 82 = .ok (.new 364, 3) := dk_187 1 108 (dk_at dksX4_edit_3 12 rfl rfl)
theorem dX4_edit_85 : decode cX4_edit 85 = .ok (.dup, 1) := dk_89 (dk_at dksX4_edit_3 15 rfl rfl)
theorem dX4_edit_86 : decode cX4_edit 86 = .ok (.aconst_null, 1) := dk_1 (dk_at dksX4_edit_3 16 rfl rfl)
theorem dX4_edit_87 : decode cX4_edit 87 = .ok (.iload_n 3, 1) := dk_29 (dk_at dksX4_edit_3 17 rfl rfl)
theorem dX4_edit_88 : decode cX4_edit 88 = .ok (.iload 4, 2) := dk_21 4 (dk_at dksX4_edit_3 18 rfl rfl)
theorem dX4_edit_90 : decode cX4_edit 90 = .ok (.aload 5, 2) := dk_25 5 (dk_at dksX4_edit_3 20 rfl rfl)
theorem dX4_edit_92 : decode cX4_edit 92 = .ok (.invokespecial 366, 3) := dk_183 1 110 (dk_at dksX4_edit_4 0 rfl rfl)
theorem dX4_edit_95 : decode cX4_edit 95 = .ok (.areturn, 1) := dk_176 (dk_at dksX4_edit_4 3 rfl rfl)
theorem q167 : (Jvm.Cond.initialized "PondHouse$Reader") ∈ lw_all := lw_g (lw_at lw_m1 7 rfl) rfl
theorem q568 : (Jvm.Cond.fieldLink "PondHouse$Reader" (287 : Nat) "PondHouse$Draft" "above" "I") ∈ lw_all := lw_g (lw_at lw_m2 168 rfl) rfl
theorem q687 : (Jvm.Cond.selects "PondHouse$Reader" ({ cls := "java/lang/Object", name := "getClass", desc := "()Ljava/lang/Class;" } : Jvm.MethodName) ({ cls := "java/lang/Object", name := "getClass", desc := "()Ljava/lang/Class;" } : Jvm.MethodName)) ∈ lw_all := lw_g (lw_at lw_m3 47 rfl) rfl
theorem q1174 : (Jvm.Cond.instantiable "PondHouse$Reader" (8 : Nat)) ∈ lw_all := lw_g (lw_at lw_m5 54 rfl) rfl
theorem q1176 : (Jvm.Cond.instanceMethod ({ cls := "PondHouse$Reader", name := "<init>", desc := "(LPondHouse;)V" } : Jvm.MethodName)) ∈ lw_all := lw_g (lw_at lw_m5 56 rfl) rfl
theorem q1177 : (Jvm.Cond.code ({ cls := "PondHouse$Reader", name := "<init>", desc := "(LPondHouse;)V" } : Jvm.MethodName) prog_29_method_1_code (2 : Nat) (Option.none : Option Jvm.ClassFile.FieldType)) ∈ lw_all := lw_g (lw_at lw_m5 57 rfl) rfl
theorem q1178 : (Jvm.Cond.methodLink "PondHouse$Reader" (9 : Nat) ({ cls := "java/lang/Object", name := "<init>", desc := "()V" } : Jvm.MethodName)) ∈ lw_all := lw_g (lw_at lw_m5 58 rfl) rfl
theorem q1179 : (Jvm.Cond.fieldLink "PondHouse$Reader" (15 : Nat) "PondHouse$Reader" "at" "I") ∈ lw_all := lw_g (lw_at lw_m5 59 rfl) rfl
theorem q1180 : (Jvm.Cond.fieldLink "PondHouse$Reader" (36 : Nat) "PondHouse$Reader" "from" "I") ∈ lw_all := lw_g (lw_at lw_m5 60 rfl) rfl
theorem q1181 : (Jvm.Cond.fieldLink "PondHouse$Reader" (39 : Nat) "PondHouse$Reader" "token" "I") ∈ lw_all := lw_g (lw_at lw_m5 61 rfl) rfl
theorem q1183 : (Jvm.Cond.fieldLink "PondHouse$Reader" (87 : Nat) "PondHouse$Reader" "value" "I") ∈ lw_all := lw_g (lw_at lw_m5 63 rfl) rfl
theorem q1184 : (Jvm.Cond.fieldLink "PondHouse$Reader" (26 : Nat) "PondHouse$Reader" "open" "I") ∈ lw_all := lw_g (lw_at lw_m5 64 rfl) rfl
theorem q1185 : (Jvm.Cond.fieldLink "PondHouse$Reader" (213 : Nat) "PondHouse$Reader" "statements" "I") ∈ lw_all := lw_g (lw_at lw_m5 65 rfl) rfl
theorem q1186 : (Jvm.Cond.fieldLink "PondHouse$Reader" (75 : Nat) "PondHouse$Reader" "word" "Ljava/lang/String;") ∈ lw_all := lw_g (lw_at lw_m5 66 rfl) rfl
theorem q1187 : (Jvm.Cond.fieldLink "PondHouse$Reader" (3 : Nat) "PondHouse$Reader" "this$0" "LPondHouse;") ∈ lw_all := lw_g (lw_at lw_m5 67 rfl) rfl
theorem q1188 : (Jvm.Cond.lays "PondHouse$Reader" "PondHouse$Reader" "at" "I") ∈ lw_all := lw_g (lw_at lw_m5 68 rfl) rfl
theorem q1189 : (Jvm.Cond.soleField "PondHouse$Reader" "at") ∈ lw_all := lw_g (lw_at lw_m5 69 rfl) rfl
theorem q1190 : (Jvm.Cond.lays "PondHouse$Reader" "PondHouse$Reader" "from" "I") ∈ lw_all := lw_g (lw_at lw_m5 70 rfl) rfl
theorem q1191 : (Jvm.Cond.soleField "PondHouse$Reader" "from") ∈ lw_all := lw_g (lw_at lw_m5 71 rfl) rfl
theorem q1192 : (Jvm.Cond.lays "PondHouse$Reader" "PondHouse$Reader" "token" "I") ∈ lw_all := lw_g (lw_at lw_m5 72 rfl) rfl
theorem q1193 : (Jvm.Cond.soleField "PondHouse$Reader" "token") ∈ lw_all := lw_g (lw_at lw_m5 73 rfl) rfl
theorem q1194 : (Jvm.Cond.lays "PondHouse$Reader" "PondHouse$Reader" "value" "I") ∈ lw_all := lw_g (lw_at lw_m5 74 rfl) rfl
theorem q1195 : (Jvm.Cond.soleField "PondHouse$Reader" "value") ∈ lw_all := lw_g (lw_at lw_m5 75 rfl) rfl
theorem q1196 : (Jvm.Cond.lays "PondHouse$Reader" "PondHouse$Reader" "open" "I") ∈ lw_all := lw_g (lw_at lw_m5 76 rfl) rfl
theorem q1197 : (Jvm.Cond.soleField "PondHouse$Reader" "open") ∈ lw_all := lw_g (lw_at lw_m5 77 rfl) rfl
theorem q1198 : (Jvm.Cond.lays "PondHouse$Reader" "PondHouse$Reader" "statements" "I") ∈ lw_all := lw_g (lw_at lw_m5 78 rfl) rfl
theorem q1199 : (Jvm.Cond.soleField "PondHouse$Reader" "statements") ∈ lw_all := lw_g (lw_at lw_m5 79 rfl) rfl
theorem q1200 : (Jvm.Cond.lays "PondHouse$Reader" "PondHouse$Reader" "word" "Ljava/lang/String;") ∈ lw_all := lw_g (lw_at lw_m5 80 rfl) rfl
theorem q1201 : (Jvm.Cond.soleField "PondHouse$Reader" "word") ∈ lw_all := lw_g (lw_at lw_m5 81 rfl) rfl
theorem q1202 : (Jvm.Cond.laysFinal "PondHouse$Reader" "PondHouse$Reader" "this$0" "LPondHouse;") ∈ lw_all := lw_g (lw_at lw_m5 82 rfl) rfl
theorem q1203 : (Jvm.Cond.soleField "PondHouse$Reader" "this$0") ∈ lw_all := lw_g (lw_at lw_m5 83 rfl) rfl
theorem q1204 : (Jvm.Cond.superclass "PondHouse$Reader" "java/lang/Object") ∈ lw_all := lw_g (lw_at lw_m5 84 rfl) rfl
theorem q1238 : (Jvm.Cond.fieldLinkNest "PondHouse$Reader" (79 : Nat) "PondHouse" "words" "[Ljava/lang/String;" "PondHouse") ∈ lw_tbl := lw_at lw_m5 118 rfl
theorem q1255 : (Jvm.Cond.fieldLinkNest "PondHouse$Reader" (22 : Nat) "PondHouse" "tape" "[B" "PondHouse") ∈ lw_tbl := lw_at lw_m5 135 rfl
theorem q1257 : (Jvm.Cond.fieldLinkNest "PondHouse$Reader" (19 : Nat) "PondHouse" "taped" "I" "PondHouse") ∈ lw_tbl := lw_at lw_m5 137 rfl
theorem q1393 : (Jvm.Cond.instanceMethod ({ cls := "PondHouse$Reader", name := "begins", desc := "()V" } : Jvm.MethodName)) ∈ lw_all := lw_g (lw_at lw_m6 33 rfl) rfl
theorem q1394 : (Jvm.Cond.selects "PondHouse$Reader" ({ cls := "PondHouse$Reader", name := "begins", desc := "()V" } : Jvm.MethodName) ({ cls := "PondHouse$Reader", name := "begins", desc := "()V" } : Jvm.MethodName)) ∈ lw_all := lw_g (lw_at lw_m6 34 rfl) rfl
theorem q1395 : (Jvm.Cond.code ({ cls := "PondHouse$Reader", name := "begins", desc := "()V" } : Jvm.MethodName) prog_29_method_6_code (1 : Nat) (Option.none : Option Jvm.ClassFile.FieldType)) ∈ lw_all := lw_g (lw_at lw_m6 35 rfl) rfl
theorem q1396 : (Jvm.Cond.methodLink "PondHouse$Reader" (29 : Nat) ({ cls := "PondHouse$Reader", name := "next", desc := "()V" } : Jvm.MethodName)) ∈ lw_all := lw_g (lw_at lw_m6 36 rfl) rfl
theorem q1397 : (Jvm.Cond.privateMethod ({ cls := "PondHouse$Reader", name := "next", desc := "()V" } : Jvm.MethodName)) ∈ lw_tbl := lw_at lw_m6 37 rfl
theorem q1398 : (Jvm.Cond.instanceMethod ({ cls := "PondHouse$Reader", name := "next", desc := "()V" } : Jvm.MethodName)) ∈ lw_all := lw_g (lw_at lw_m6 38 rfl) rfl
theorem q1399 : (Jvm.Cond.code ({ cls := "PondHouse$Reader", name := "next", desc := "()V" } : Jvm.MethodName) prog_29_method_7_code (2 : Nat) (Option.none : Option Jvm.ClassFile.FieldType)) ∈ lw_all := lw_g (lw_at lw_m6 39 rfl) rfl
theorem q1400 : (Jvm.Cond.methodLink "PondHouse$Reader" (32 : Nat) ({ cls := "PondHouse$Reader", name := "raw", desc := "(I)I" } : Jvm.MethodName)) ∈ lw_all := lw_g (lw_at lw_m6 40 rfl) rfl
theorem q1401 : (Jvm.Cond.privateMethod ({ cls := "PondHouse$Reader", name := "raw", desc := "(I)I" } : Jvm.MethodName)) ∈ lw_tbl := lw_at lw_m6 41 rfl
theorem q1402 : (Jvm.Cond.instanceMethod ({ cls := "PondHouse$Reader", name := "raw", desc := "(I)I" } : Jvm.MethodName)) ∈ lw_all := lw_g (lw_at lw_m6 42 rfl) rfl
theorem q1403 : (Jvm.Cond.code ({ cls := "PondHouse$Reader", name := "raw", desc := "(I)I" } : Jvm.MethodName) prog_29_method_2_code (2 : Nat) (Option.some Jvm.ClassFile.FieldType.int)) ∈ lw_all := lw_g (lw_at lw_m6 43 rfl) rfl
theorem q1404 : (Jvm.Cond.methodLink "PondHouse$Reader" (42 : Nat) ({ cls := "PondHouse$Reader", name := "isSmall", desc := "(I)Z" } : Jvm.MethodName)) ∈ lw_all := lw_g (lw_at lw_m6 44 rfl) rfl
theorem q1405 : (Jvm.Cond.privateMethod ({ cls := "PondHouse$Reader", name := "isSmall", desc := "(I)Z" } : Jvm.MethodName)) ∈ lw_tbl := lw_at lw_m6 45 rfl
theorem q1406 : (Jvm.Cond.instanceMethod ({ cls := "PondHouse$Reader", name := "isSmall", desc := "(I)Z" } : Jvm.MethodName)) ∈ lw_all := lw_g (lw_at lw_m6 46 rfl) rfl
theorem q1407 : (Jvm.Cond.code ({ cls := "PondHouse$Reader", name := "isSmall", desc := "(I)Z" } : Jvm.MethodName) prog_29_method_3_code (2 : Nat) (Option.some Jvm.ClassFile.FieldType.boolean)) ∈ lw_all := lw_g (lw_at lw_m6 47 rfl) rfl
theorem q1408 : (Jvm.Cond.methodLink "PondHouse$Reader" (46 : Nat) ({ cls := "PondHouse$Reader", name := "letters", desc := "()V" } : Jvm.MethodName)) ∈ lw_all := lw_g (lw_at lw_m6 48 rfl) rfl
theorem q1409 : (Jvm.Cond.privateMethod ({ cls := "PondHouse$Reader", name := "letters", desc := "()V" } : Jvm.MethodName)) ∈ lw_tbl := lw_at lw_m6 49 rfl
theorem q1410 : (Jvm.Cond.instanceMethod ({ cls := "PondHouse$Reader", name := "letters", desc := "()V" } : Jvm.MethodName)) ∈ lw_all := lw_g (lw_at lw_m6 50 rfl) rfl
theorem q1411 : (Jvm.Cond.code ({ cls := "PondHouse$Reader", name := "letters", desc := "()V" } : Jvm.MethodName) prog_29_method_8_code (2 : Nat) (Option.none : Option Jvm.ClassFile.FieldType)) ∈ lw_all := lw_g (lw_at lw_m6 51 rfl) rfl
theorem q1412 : (Jvm.Cond.classLink "PondHouse$Reader" (59 : Nat) "java/lang/StringBuilder") ∈ lw_all := lw_g (lw_at lw_m6 52 rfl) rfl
theorem q1414 : (Jvm.Cond.methodLink "PondHouse$Reader" (61 : Nat) ({ cls := "java/lang/StringBuilder", name := "<init>", desc := "(I)V" } : Jvm.MethodName)) ∈ lw_all := lw_g (lw_at lw_m6 54 rfl) rfl
theorem q1443 : (Jvm.Cond.methodLink "PondHouse$Reader" (63 : Nat) ({ cls := "java/lang/StringBuilder", name := "length", desc := "()I" } : Jvm.MethodName)) ∈ lw_all := lw_g (lw_at lw_m6 83 rfl) rfl
theorem q1450 : (Jvm.Cond.methodLink "PondHouse$Reader" (67 : Nat) ({ cls := "java/lang/StringBuilder", name := "append", desc := "(C)Ljava/lang/StringBuilder;" } : Jvm.MethodName)) ∈ lw_all := lw_g (lw_at lw_m6 90 rfl) rfl
theorem q1526 : (Jvm.Cond.methodLink "PondHouse$Reader" (71 : Nat) ({ cls := "java/lang/StringBuilder", name := "toString", desc := "()Ljava/lang/String;" } : Jvm.MethodName)) ∈ lw_all := lw_g (lw_at lw_m6 166 rfl) rfl
theorem q1580 : (Jvm.Cond.methodLinkNest "PondHouse$Reader" (83 : Nat) ({ cls := "PondHouse", name := "isAmong", desc := "([Ljava/lang/String;Ljava/lang/String;)Z" } : Jvm.MethodName) "PondHouse") ∈ lw_tbl := lw_at lw_m6 220 rfl
theorem q1591 : (Jvm.Cond.methodLink "PondHouse$Reader" (49 : Nat) ({ cls := "PondHouse$Reader", name := "isDigit", desc := "(I)Z" } : Jvm.MethodName)) ∈ lw_all := lw_g (lw_at lw_m6 231 rfl) rfl
theorem q1592 : (Jvm.Cond.privateMethod ({ cls := "PondHouse$Reader", name := "isDigit", desc := "(I)Z" } : Jvm.MethodName)) ∈ lw_tbl := lw_at lw_m6 232 rfl
theorem q1593 : (Jvm.Cond.instanceMethod ({ cls := "PondHouse$Reader", name := "isDigit", desc := "(I)Z" } : Jvm.MethodName)) ∈ lw_all := lw_g (lw_at lw_m6 233 rfl) rfl
theorem q1594 : (Jvm.Cond.code ({ cls := "PondHouse$Reader", name := "isDigit", desc := "(I)Z" } : Jvm.MethodName) prog_29_method_5_code (2 : Nat) (Option.some Jvm.ClassFile.FieldType.boolean)) ∈ lw_all := lw_g (lw_at lw_m6 234 rfl) rfl
theorem q1595 : (Jvm.Cond.methodLink "PondHouse$Reader" (52 : Nat) ({ cls := "PondHouse$Reader", name := "digits", desc := "()V" } : Jvm.MethodName)) ∈ lw_all := lw_g (lw_at lw_m6 235 rfl) rfl
theorem q1596 : (Jvm.Cond.privateMethod ({ cls := "PondHouse$Reader", name := "digits", desc := "()V" } : Jvm.MethodName)) ∈ lw_tbl := lw_at lw_m6 236 rfl
theorem q1597 : (Jvm.Cond.instanceMethod ({ cls := "PondHouse$Reader", name := "digits", desc := "()V" } : Jvm.MethodName)) ∈ lw_all := lw_g (lw_at lw_m6 237 rfl) rfl
theorem q1598 : (Jvm.Cond.code ({ cls := "PondHouse$Reader", name := "digits", desc := "()V" } : Jvm.MethodName) prog_29_method_9_code (2 : Nat) (Option.none : Option Jvm.ClassFile.FieldType)) ∈ lw_all := lw_g (lw_at lw_m6 238 rfl) rfl
theorem q1599 : (Jvm.Cond.methodLink "PondHouse$Reader" (90 : Nat) ({ cls := "PondHouse$Reader", name := "isGreat", desc := "(I)Z" } : Jvm.MethodName)) ∈ lw_all := lw_g (lw_at lw_m6 239 rfl) rfl
theorem q1600 : (Jvm.Cond.privateMethod ({ cls := "PondHouse$Reader", name := "isGreat", desc := "(I)Z" } : Jvm.MethodName)) ∈ lw_tbl := lw_at lw_m7 0 rfl
theorem q1601 : (Jvm.Cond.instanceMethod ({ cls := "PondHouse$Reader", name := "isGreat", desc := "(I)Z" } : Jvm.MethodName)) ∈ lw_all := lw_g (lw_at lw_m7 1 rfl) rfl
theorem q1602 : (Jvm.Cond.code ({ cls := "PondHouse$Reader", name := "isGreat", desc := "(I)Z" } : Jvm.MethodName) prog_29_method_4_code (2 : Nat) (Option.some Jvm.ClassFile.FieldType.boolean)) ∈ lw_all := lw_g (lw_at lw_m7 2 rfl) rfl
theorem q1603 : (Jvm.Cond.methodLink "PondHouse$Reader" (55 : Nat) ({ cls := "PondHouse$Reader", name := "sign", desc := "(I)V" } : Jvm.MethodName)) ∈ lw_all := lw_g (lw_at lw_m7 3 rfl) rfl
theorem q1604 : (Jvm.Cond.privateMethod ({ cls := "PondHouse$Reader", name := "sign", desc := "(I)V" } : Jvm.MethodName)) ∈ lw_tbl := lw_at lw_m7 4 rfl
theorem q1605 : (Jvm.Cond.instanceMethod ({ cls := "PondHouse$Reader", name := "sign", desc := "(I)V" } : Jvm.MethodName)) ∈ lw_all := lw_g (lw_at lw_m7 5 rfl) rfl
theorem q1606 : (Jvm.Cond.code ({ cls := "PondHouse$Reader", name := "sign", desc := "(I)V" } : Jvm.MethodName) prog_29_method_10_code (3 : Nat) (Option.none : Option Jvm.ClassFile.FieldType)) ∈ lw_all := lw_g (lw_at lw_m7 6 rfl) rfl
theorem q1607 : (Jvm.Cond.stringRef "PondHouse$Reader" (93 : Nat) "{}();=+-*/<.") ∈ lw_tbl := lw_at lw_m7 7 rfl
theorem q1608 : (Jvm.Cond.methodLink "PondHouse$Reader" (95 : Nat) ({ cls := "java/lang/String", name := "indexOf", desc := "(I)I" } : Jvm.MethodName)) ∈ lw_all := lw_g (lw_at lw_m7 8 rfl) rfl
theorem q1675 : (Jvm.Cond.privateMethod ({ cls := "PondHouse$Reader", name := "takesName", desc := "()I" } : Jvm.MethodName)) ∈ lw_tbl := lw_at lw_m7 75 rfl
theorem q1676 : (Jvm.Cond.instanceMethod ({ cls := "PondHouse$Reader", name := "takesName", desc := "()I" } : Jvm.MethodName)) ∈ lw_all := lw_g (lw_at lw_m7 76 rfl) rfl
theorem q1677 : (Jvm.Cond.code ({ cls := "PondHouse$Reader", name := "takesName", desc := "()I" } : Jvm.MethodName) prog_29_method_18_code (2 : Nat) (Option.some Jvm.ClassFile.FieldType.int)) ∈ lw_all := lw_g (lw_at lw_m7 77 rfl) rfl
theorem q1678 : (Jvm.Cond.methodLink "PondHouse$Reader" (126 : Nat) ({ cls := "PondHouse$Reader", name := "name", desc := "()I" } : Jvm.MethodName)) ∈ lw_all := lw_g (lw_at lw_m7 78 rfl) rfl
theorem q1679 : (Jvm.Cond.privateMethod ({ cls := "PondHouse$Reader", name := "name", desc := "()I" } : Jvm.MethodName)) ∈ lw_tbl := lw_at lw_m7 79 rfl
theorem q1680 : (Jvm.Cond.instanceMethod ({ cls := "PondHouse$Reader", name := "name", desc := "()I" } : Jvm.MethodName)) ∈ lw_all := lw_g (lw_at lw_m7 80 rfl) rfl
theorem q1681 : (Jvm.Cond.code ({ cls := "PondHouse$Reader", name := "name", desc := "()I" } : Jvm.MethodName) prog_29_method_17_code (2 : Nat) (Option.some Jvm.ClassFile.FieldType.int)) ∈ lw_all := lw_g (lw_at lw_m7 81 rfl) rfl
theorem q1682 : (Jvm.Cond.methodLink "PondHouse$Reader" (114 : Nat) ({ cls := "PondHouse$Reader", name := "bad", desc := "()LPondHouse$Fault;" } : Jvm.MethodName)) ∈ lw_all := lw_g (lw_at lw_m7 82 rfl) rfl
theorem q1683 : (Jvm.Cond.privateMethod ({ cls := "PondHouse$Reader", name := "bad", desc := "()LPondHouse$Fault;" } : Jvm.MethodName)) ∈ lw_tbl := lw_at lw_m7 83 rfl
theorem q1684 : (Jvm.Cond.instanceMethod ({ cls := "PondHouse$Reader", name := "bad", desc := "()LPondHouse$Fault;" } : Jvm.MethodName)) ∈ lw_all := lw_g (lw_at lw_m7 84 rfl) rfl
theorem q1685 : (Jvm.Cond.code ({ cls := "PondHouse$Reader", name := "bad", desc := "()LPondHouse$Fault;" } : Jvm.MethodName) prog_29_method_11_code (1 : Nat) (Option.some (Jvm.ClassFile.FieldType.object "PondHouse$Fault"))) ∈ lw_all := lw_g (lw_at lw_m7 85 rfl) rfl
theorem q1686 : (Jvm.Cond.methodLinkNest "PondHouse$Reader" (100 : Nat) ({ cls := "PondHouse", name := "refused", desc := "(II)LPondHouse$Fault;" } : Jvm.MethodName) "PondHouse") ∈ lw_tbl := lw_at lw_m7 86 rfl
theorem q1690 : (Jvm.Cond.methodLinkNest "PondHouse$Reader" (122 : Nat) ({ cls := "PondHouse", name := "number", desc := "(Ljava/lang/String;)I" } : Jvm.MethodName) "PondHouse") ∈ lw_tbl := lw_at lw_m7 90 rfl
theorem q1699 : (Jvm.Cond.privateMethod ({ cls := "PondHouse$Reader", name := "pond", desc := "()LPondHouse$Row;" } : Jvm.MethodName)) ∈ lw_tbl := lw_at lw_m7 99 rfl
theorem q1700 : (Jvm.Cond.instanceMethod ({ cls := "PondHouse$Reader", name := "pond", desc := "()LPondHouse$Row;" } : Jvm.MethodName)) ∈ lw_all := lw_g (lw_at lw_m7 100 rfl) rfl
theorem q1701 : (Jvm.Cond.code ({ cls := "PondHouse$Reader", name := "pond", desc := "()LPondHouse$Row;" } : Jvm.MethodName) prog_29_method_33_code (4 : Nat) (Option.some (Jvm.ClassFile.FieldType.object "PondHouse$Row"))) ∈ lw_all := lw_g (lw_at lw_m7 101 rfl) rfl
theorem q1702 : (Jvm.Cond.methodLink "PondHouse$Reader" (293 : Nat) ({ cls := "PondHouse$Reader", name := "begins", desc := "()V" } : Jvm.MethodName)) ∈ lw_all := lw_g (lw_at lw_m7 102 rfl) rfl
theorem q1703 : (Jvm.Cond.classLink "PondHouse$Reader" (296 : Nat) "PondHouse$Row") ∈ lw_all := lw_g (lw_at lw_m7 103 rfl) rfl
theorem q1704 : (Jvm.Cond.methodLinkNest "PondHouse$Reader" (298 : Nat) ({ cls := "PondHouse$Row", name := "<init>", desc := "()V" } : Jvm.MethodName) "PondHouse") ∈ lw_tbl := lw_at lw_m7 104 rfl
theorem q1705 : (Jvm.Cond.stringRef "PondHouse$Reader" (299 : Nat) "kind") ∈ lw_tbl := lw_at lw_m7 105 rfl
theorem q1706 : (Jvm.Cond.methodLink "PondHouse$Reader" (161 : Nat) ({ cls := "PondHouse$Reader", name := "takesWord", desc := "(Ljava/lang/String;)Z" } : Jvm.MethodName)) ∈ lw_all := lw_g (lw_at lw_m7 106 rfl) rfl
theorem q1707 : (Jvm.Cond.privateMethod ({ cls := "PondHouse$Reader", name := "takesWord", desc := "(Ljava/lang/String;)Z" } : Jvm.MethodName)) ∈ lw_tbl := lw_at lw_m7 107 rfl
theorem q1708 : (Jvm.Cond.instanceMethod ({ cls := "PondHouse$Reader", name := "takesWord", desc := "(Ljava/lang/String;)Z" } : Jvm.MethodName)) ∈ lw_all := lw_g (lw_at lw_m7 108 rfl) rfl
theorem q1709 : (Jvm.Cond.code ({ cls := "PondHouse$Reader", name := "takesWord", desc := "(Ljava/lang/String;)Z" } : Jvm.MethodName) prog_29_method_16_code (2 : Nat) (Option.some Jvm.ClassFile.FieldType.boolean)) ∈ lw_all := lw_g (lw_at lw_m7 109 rfl) rfl
theorem q1710 : (Jvm.Cond.methodLink "PondHouse$Reader" (118 : Nat) ({ cls := "PondHouse$Reader", name := "isWord", desc := "(Ljava/lang/String;)Z" } : Jvm.MethodName)) ∈ lw_all := lw_g (lw_at lw_m7 110 rfl) rfl
theorem q1711 : (Jvm.Cond.privateMethod ({ cls := "PondHouse$Reader", name := "isWord", desc := "(Ljava/lang/String;)Z" } : Jvm.MethodName)) ∈ lw_tbl := lw_at lw_m7 111 rfl
theorem q1712 : (Jvm.Cond.instanceMethod ({ cls := "PondHouse$Reader", name := "isWord", desc := "(Ljava/lang/String;)Z" } : Jvm.MethodName)) ∈ lw_all := lw_g (lw_at lw_m7 112 rfl) rfl
theorem q1713 : (Jvm.Cond.code ({ cls := "PondHouse$Reader", name := "isWord", desc := "(Ljava/lang/String;)Z" } : Jvm.MethodName) prog_29_method_13_code (2 : Nat) (Option.some Jvm.ClassFile.FieldType.boolean)) ∈ lw_all := lw_g (lw_at lw_m7 113 rfl) rfl
theorem q1714 : (Jvm.Cond.methodLink "PondHouse$Reader" (104 : Nat) ({ cls := "java/lang/String", name := "equals", desc := "(Ljava/lang/Object;)Z" } : Jvm.MethodName)) ∈ lw_all := lw_g (lw_at lw_m7 114 rfl) rfl
theorem q1715 : (Jvm.Cond.methodLinkNest "PondHouse$Reader" (289 : Nat) ({ cls := "PondHouse", name := "draft", desc := "(LPondHouse$Row;I)LPondHouse$Draft;" } : Jvm.MethodName) "PondHouse") ∈ lw_tbl := lw_at lw_m7 115 rfl
theorem q1716 : (Jvm.Cond.methodLink "PondHouse$Reader" (301 : Nat) ({ cls := "PondHouse$Row", name := "size", desc := "()I" } : Jvm.MethodName)) ∈ lw_all := lw_g (lw_at lw_m7 116 rfl) rfl
theorem q1717 : (Jvm.Cond.classLink "PondHouse$Reader" (268 : Nat) "PondHouse$Draft") ∈ lw_all := lw_g (lw_at lw_m7 117 rfl) rfl
theorem q1718 : (Jvm.Cond.methodLink "PondHouse$Reader" (304 : Nat) ({ cls := "PondHouse$Reader", name := "under", desc := "(LPondHouse$Row;)I" } : Jvm.MethodName)) ∈ lw_all := lw_g (lw_at lw_m7 118 rfl) rfl
theorem q1719 : (Jvm.Cond.privateMethod ({ cls := "PondHouse$Reader", name := "under", desc := "(LPondHouse$Row;)I" } : Jvm.MethodName)) ∈ lw_tbl := lw_at lw_m7 119 rfl
theorem q1720 : (Jvm.Cond.instanceMethod ({ cls := "PondHouse$Reader", name := "under", desc := "(LPondHouse$Row;)I" } : Jvm.MethodName)) ∈ lw_all := lw_g (lw_at lw_m7 120 rfl) rfl
theorem q1721 : (Jvm.Cond.code ({ cls := "PondHouse$Reader", name := "under", desc := "(LPondHouse$Row;)I" } : Jvm.MethodName) prog_29_method_34_code (3 : Nat) (Option.some Jvm.ClassFile.FieldType.int)) ∈ lw_all := lw_g (lw_at lw_m7 121 rfl) rfl
theorem q1722 : (Jvm.Cond.stringRef "PondHouse$Reader" (324 : Nat) "under") ∈ lw_tbl := lw_at lw_m7 122 rfl
theorem q1723 : (Jvm.Cond.methodLink "PondHouse$Reader" (308 : Nat) ({ cls := "PondHouse$Draft", name := "<init>", desc := "(II)V" } : Jvm.MethodName)) ∈ lw_all := lw_g (lw_at lw_m7 123 rfl) rfl
theorem q1724 : (Jvm.Cond.methodLink "PondHouse$Reader" (311 : Nat) ({ cls := "PondHouse$Row", name := "add", desc := "(Ljava/lang/Object;)V" } : Jvm.MethodName)) ∈ lw_all := lw_g (lw_at lw_m7 124 rfl) rfl
theorem q1725 : (Jvm.Cond.methodLink "PondHouse$Reader" (177 : Nat) ({ cls := "PondHouse$Reader", name := "needs", desc := "(I)V" } : Jvm.MethodName)) ∈ lw_all := lw_g (lw_at lw_m7 125 rfl) rfl
theorem q1726 : (Jvm.Cond.privateMethod ({ cls := "PondHouse$Reader", name := "needs", desc := "(I)V" } : Jvm.MethodName)) ∈ lw_tbl := lw_at lw_m7 126 rfl
theorem q1727 : (Jvm.Cond.instanceMethod ({ cls := "PondHouse$Reader", name := "needs", desc := "(I)V" } : Jvm.MethodName)) ∈ lw_all := lw_g (lw_at lw_m7 127 rfl) rfl
theorem q1728 : (Jvm.Cond.code ({ cls := "PondHouse$Reader", name := "needs", desc := "(I)V" } : Jvm.MethodName) prog_29_method_15_code (2 : Nat) (Option.none : Option Jvm.ClassFile.FieldType)) ∈ lw_all := lw_g (lw_at lw_m7 128 rfl) rfl
theorem q1729 : (Jvm.Cond.methodLink "PondHouse$Reader" (111 : Nat) ({ cls := "PondHouse$Reader", name := "takes", desc := "(I)Z" } : Jvm.MethodName)) ∈ lw_all := lw_g (lw_at lw_m7 129 rfl) rfl
theorem q1730 : (Jvm.Cond.privateMethod ({ cls := "PondHouse$Reader", name := "takes", desc := "(I)Z" } : Jvm.MethodName)) ∈ lw_tbl := lw_at lw_m7 130 rfl
theorem q1731 : (Jvm.Cond.instanceMethod ({ cls := "PondHouse$Reader", name := "takes", desc := "(I)Z" } : Jvm.MethodName)) ∈ lw_all := lw_g (lw_at lw_m7 131 rfl) rfl
theorem q1732 : (Jvm.Cond.code ({ cls := "PondHouse$Reader", name := "takes", desc := "(I)Z" } : Jvm.MethodName) prog_29_method_14_code (2 : Nat) (Option.some Jvm.ClassFile.FieldType.boolean)) ∈ lw_all := lw_g (lw_at lw_m7 132 rfl) rfl
theorem q1733 : (Jvm.Cond.methodLink "PondHouse$Reader" (108 : Nat) ({ cls := "PondHouse$Reader", name := "isSign", desc := "(I)Z" } : Jvm.MethodName)) ∈ lw_all := lw_g (lw_at lw_m7 133 rfl) rfl
theorem q1734 : (Jvm.Cond.privateMethod ({ cls := "PondHouse$Reader", name := "isSign", desc := "(I)Z" } : Jvm.MethodName)) ∈ lw_tbl := lw_at lw_m7 134 rfl
theorem q1735 : (Jvm.Cond.instanceMethod ({ cls := "PondHouse$Reader", name := "isSign", desc := "(I)Z" } : Jvm.MethodName)) ∈ lw_all := lw_g (lw_at lw_m7 135 rfl) rfl
theorem q1736 : (Jvm.Cond.code ({ cls := "PondHouse$Reader", name := "isSign", desc := "(I)Z" } : Jvm.MethodName) prog_29_method_12_code (2 : Nat) (Option.some Jvm.ClassFile.FieldType.boolean)) ∈ lw_all := lw_g (lw_at lw_m7 136 rfl) rfl
theorem q1737 : (Jvm.Cond.methodLink "PondHouse$Reader" (314 : Nat) ({ cls := "PondHouse$Reader", name := "isMember", desc := "()Z" } : Jvm.MethodName)) ∈ lw_all := lw_g (lw_at lw_m7 137 rfl) rfl
theorem q1738 : (Jvm.Cond.privateMethod ({ cls := "PondHouse$Reader", name := "isMember", desc := "()Z" } : Jvm.MethodName)) ∈ lw_tbl := lw_at lw_m7 138 rfl
theorem q1739 : (Jvm.Cond.instanceMethod ({ cls := "PondHouse$Reader", name := "isMember", desc := "()Z" } : Jvm.MethodName)) ∈ lw_all := lw_g (lw_at lw_m7 139 rfl) rfl
theorem q1740 : (Jvm.Cond.code ({ cls := "PondHouse$Reader", name := "isMember", desc := "()Z" } : Jvm.MethodName) prog_29_method_30_code (1 : Nat) (Option.some Jvm.ClassFile.FieldType.boolean)) ∈ lw_all := lw_g (lw_at lw_m7 140 rfl) rfl
theorem q1741 : (Jvm.Cond.stringRef "PondHouse$Reader" (257 : Nat) "field") ∈ lw_tbl := lw_at lw_m7 141 rfl
theorem q1742 : (Jvm.Cond.stringRef "PondHouse$Reader" (259 : Nat) "link") ∈ lw_tbl := lw_at lw_m7 142 rfl
theorem q1743 : (Jvm.Cond.stringRef "PondHouse$Reader" (261 : Nat) "static") ∈ lw_tbl := lw_at lw_m7 143 rfl
theorem q1744 : (Jvm.Cond.stringRef "PondHouse$Reader" (263 : Nat) "act") ∈ lw_tbl := lw_at lw_m7 144 rfl
theorem q1745 : (Jvm.Cond.methodLink "PondHouse$Reader" (317 : Nat) ({ cls := "PondHouse$Reader", name := "member", desc := "(LPondHouse$Draft;LPondHouse$Row;)LPondHouse$Member;" } : Jvm.MethodName)) ∈ lw_all := lw_g (lw_at lw_m7 145 rfl) rfl
theorem q1746 : (Jvm.Cond.privateMethod ({ cls := "PondHouse$Reader", name := "member", desc := "(LPondHouse$Draft;LPondHouse$Row;)LPondHouse$Member;" } : Jvm.MethodName)) ∈ lw_tbl := lw_at lw_m7 146 rfl
theorem q1747 : (Jvm.Cond.instanceMethod ({ cls := "PondHouse$Reader", name := "member", desc := "(LPondHouse$Draft;LPondHouse$Row;)LPondHouse$Member;" } : Jvm.MethodName)) ∈ lw_all := lw_g (lw_at lw_m7 147 rfl) rfl
theorem q1748 : (Jvm.Cond.code ({ cls := "PondHouse$Reader", name := "member", desc := "(LPondHouse$Draft;LPondHouse$Row;)LPondHouse$Member;" } : Jvm.MethodName) prog_29_method_31_code (7 : Nat) (Option.some (Jvm.ClassFile.FieldType.object "PondHouse$Member"))) ∈ lw_all := lw_g (lw_at lw_m7 148 rfl) rfl
theorem q1749 : (Jvm.Cond.methodLink "PondHouse$Reader" (267 : Nat) ({ cls := "PondHouse$Draft", name := "act", desc := "(I)I" } : Jvm.MethodName)) ∈ lw_all := lw_g (lw_at lw_m7 149 rfl) rfl
theorem q1750 : (Jvm.Cond.methodLink "PondHouse$Reader" (271 : Nat) ({ cls := "PondHouse$Draft", name := "holds", desc := "(I)Z" } : Jvm.MethodName)) ∈ lw_all := lw_g (lw_at lw_m7 150 rfl) rfl
theorem q1751 : (Jvm.Cond.methodLink "PondHouse$Reader" (274 : Nat) ({ cls := "PondHouse$Reader", name := "isAbove", desc := "(LPondHouse$Draft;LPondHouse$Row;I)Z" } : Jvm.MethodName)) ∈ lw_all := lw_g (lw_at lw_m7 151 rfl) rfl
theorem q1752 : (Jvm.Cond.privateMethod ({ cls := "PondHouse$Reader", name := "isAbove", desc := "(LPondHouse$Draft;LPondHouse$Row;I)Z" } : Jvm.MethodName)) ∈ lw_tbl := lw_at lw_m7 152 rfl
theorem q1753 : (Jvm.Cond.instanceMethod ({ cls := "PondHouse$Reader", name := "isAbove", desc := "(LPondHouse$Draft;LPondHouse$Row;I)Z" } : Jvm.MethodName)) ∈ lw_all := lw_g (lw_at lw_m7 153 rfl) rfl
theorem q1754 : (Jvm.Cond.code ({ cls := "PondHouse$Reader", name := "isAbove", desc := "(LPondHouse$Draft;LPondHouse$Row;I)Z" } : Jvm.MethodName) prog_29_method_32_code (6 : Nat) (Option.some Jvm.ClassFile.FieldType.boolean)) ∈ lw_all := lw_g (lw_at lw_m7 154 rfl) rfl
theorem q1755 : (Jvm.Cond.methodLink "PondHouse$Reader" (278 : Nat) ({ cls := "PondHouse$Draft", name := "isFull", desc := "(I)Z" } : Jvm.MethodName)) ∈ lw_all := lw_g (lw_at lw_m7 155 rfl) rfl
theorem q1756 : (Jvm.Cond.classLink "PondHouse$Reader" (265 : Nat) "PondHouse$Member") ∈ lw_all := lw_g (lw_at lw_m7 156 rfl) rfl
theorem q1758 : (Jvm.Cond.methodLink "PondHouse$Reader" (244 : Nat) ({ cls := "PondHouse$Reader", name := "block", desc := "(Z)LPondHouse$Block;" } : Jvm.MethodName)) ∈ lw_all := lw_g (lw_at lw_m7 158 rfl) rfl
theorem q1759 : (Jvm.Cond.privateMethod ({ cls := "PondHouse$Reader", name := "block", desc := "(Z)LPondHouse$Block;" } : Jvm.MethodName)) ∈ lw_tbl := lw_at lw_m7 159 rfl
theorem q1760 : (Jvm.Cond.instanceMethod ({ cls := "PondHouse$Reader", name := "block", desc := "(Z)LPondHouse$Block;" } : Jvm.MethodName)) ∈ lw_all := lw_g (lw_at lw_m7 160 rfl) rfl
theorem q1761 : (Jvm.Cond.code ({ cls := "PondHouse$Reader", name := "block", desc := "(Z)LPondHouse$Block;" } : Jvm.MethodName) prog_29_method_25_code (3 : Nat) (Option.some (Jvm.ClassFile.FieldType.object "PondHouse$Block"))) ∈ lw_all := lw_g (lw_at lw_m7 161 rfl) rfl
theorem q1762 : (Jvm.Cond.classLink "PondHouse$Reader" (183 : Nat) "PondHouse$Block") ∈ lw_all := lw_g (lw_at lw_m7 162 rfl) rfl
theorem q1764 : (Jvm.Cond.methodLinkNest "PondHouse$Reader" (185 : Nat) ({ cls := "PondHouse$Block", name := "<init>", desc := "(LPondHouse;)V" } : Jvm.MethodName) "PondHouse") ∈ lw_tbl := lw_at lw_m7 164 rfl
theorem q1780 : (Jvm.Cond.methodLink "PondHouse$Reader" (188 : Nat) ({ cls := "PondHouse$Reader", name := "statement", desc := "(Z)LPondHouse$Statement;" } : Jvm.MethodName)) ∈ lw_all := lw_g (lw_at lw_m7 180 rfl) rfl
theorem q1781 : (Jvm.Cond.privateMethod ({ cls := "PondHouse$Reader", name := "statement", desc := "(Z)LPondHouse$Statement;" } : Jvm.MethodName)) ∈ lw_tbl := lw_at lw_m7 181 rfl
theorem q1782 : (Jvm.Cond.instanceMethod ({ cls := "PondHouse$Reader", name := "statement", desc := "(Z)LPondHouse$Statement;" } : Jvm.MethodName)) ∈ lw_all := lw_g (lw_at lw_m7 182 rfl) rfl
theorem q1783 : (Jvm.Cond.code ({ cls := "PondHouse$Reader", name := "statement", desc := "(Z)LPondHouse$Statement;" } : Jvm.MethodName) prog_29_method_27_code (3 : Nat) (Option.some (Jvm.ClassFile.FieldType.object "PondHouse$Statement"))) ∈ lw_all := lw_g (lw_at lw_m7 183 rfl) rfl
theorem q1784 : (Jvm.Cond.methodLink "PondHouse$Reader" (209 : Nat) ({ cls := "PondHouse$Reader", name := "isStatement", desc := "()Z" } : Jvm.MethodName)) ∈ lw_all := lw_g (lw_at lw_m7 184 rfl) rfl
theorem q1785 : (Jvm.Cond.privateMethod ({ cls := "PondHouse$Reader", name := "isStatement", desc := "()Z" } : Jvm.MethodName)) ∈ lw_tbl := lw_at lw_m7 185 rfl
theorem q1786 : (Jvm.Cond.instanceMethod ({ cls := "PondHouse$Reader", name := "isStatement", desc := "()Z" } : Jvm.MethodName)) ∈ lw_all := lw_g (lw_at lw_m7 186 rfl) rfl
theorem q1787 : (Jvm.Cond.code ({ cls := "PondHouse$Reader", name := "isStatement", desc := "()Z" } : Jvm.MethodName) prog_29_method_26_code (1 : Nat) (Option.some Jvm.ClassFile.FieldType.boolean)) ∈ lw_all := lw_g (lw_at lw_m7 187 rfl) rfl
theorem q1788 : (Jvm.Cond.stringRef "PondHouse$Reader" (195 : Nat) "give") ∈ lw_tbl := lw_at lw_m7 188 rfl
theorem q1789 : (Jvm.Cond.stringRef "PondHouse$Reader" (197 : Nat) "fail") ∈ lw_tbl := lw_at lw_m7 189 rfl
theorem q1790 : (Jvm.Cond.stringRef "PondHouse$Reader" (199 : Nat) "above") ∈ lw_tbl := lw_at lw_m7 190 rfl
theorem q1791 : (Jvm.Cond.stringRef "PondHouse$Reader" (201 : Nat) "do") ∈ lw_tbl := lw_at lw_m7 191 rfl
theorem q1792 : (Jvm.Cond.stringRef "PondHouse$Reader" (203 : Nat) "send") ∈ lw_tbl := lw_at lw_m7 192 rfl
theorem q1793 : (Jvm.Cond.stringRef "PondHouse$Reader" (205 : Nat) "rest") ∈ lw_tbl := lw_at lw_m7 193 rfl
theorem q1794 : (Jvm.Cond.stringRef "PondHouse$Reader" (207 : Nat) "if") ∈ lw_tbl := lw_at lw_m7 194 rfl
theorem q1795 : (Jvm.Cond.methodLink "PondHouse$Reader" (216 : Nat) ({ cls := "PondHouse$Reader", name := "chooses", desc := "()LPondHouse$Statement;" } : Jvm.MethodName)) ∈ lw_all := lw_g (lw_at lw_m7 195 rfl) rfl
theorem q1796 : (Jvm.Cond.privateMethod ({ cls := "PondHouse$Reader", name := "chooses", desc := "()LPondHouse$Statement;" } : Jvm.MethodName)) ∈ lw_tbl := lw_at lw_m7 196 rfl
theorem q1797 : (Jvm.Cond.instanceMethod ({ cls := "PondHouse$Reader", name := "chooses", desc := "()LPondHouse$Statement;" } : Jvm.MethodName)) ∈ lw_all := lw_g (lw_at lw_m7 197 rfl) rfl
theorem q1798 : (Jvm.Cond.code ({ cls := "PondHouse$Reader", name := "chooses", desc := "()LPondHouse$Statement;" } : Jvm.MethodName) prog_29_method_29_code (2 : Nat) (Option.some (Jvm.ClassFile.FieldType.object "PondHouse$Statement"))) ∈ lw_all := lw_g (lw_at lw_m7 198 rfl) rfl
theorem q1799 : (Jvm.Cond.methodLink "PondHouse$Reader" (171 : Nat) ({ cls := "PondHouse$Reader", name := "opens", desc := "()V" } : Jvm.MethodName)) ∈ lw_all := lw_g (lw_at lw_m7 199 rfl) rfl
theorem q1800 : (Jvm.Cond.privateMethod ({ cls := "PondHouse$Reader", name := "opens", desc := "()V" } : Jvm.MethodName)) ∈ lw_tbl := lw_at lw_m7 200 rfl
theorem q1801 : (Jvm.Cond.instanceMethod ({ cls := "PondHouse$Reader", name := "opens", desc := "()V" } : Jvm.MethodName)) ∈ lw_all := lw_g (lw_at lw_m7 201 rfl) rfl
theorem q1802 : (Jvm.Cond.code ({ cls := "PondHouse$Reader", name := "opens", desc := "()V" } : Jvm.MethodName) prog_29_method_20_code (1 : Nat) (Option.none : Option Jvm.ClassFile.FieldType)) ∈ lw_all := lw_g (lw_at lw_m7 202 rfl) rfl
theorem q1803 : (Jvm.Cond.classLink "PondHouse$Reader" (241 : Nat) "PondHouse$Chooses") ∈ lw_all := lw_g (lw_at lw_m7 203 rfl) rfl
theorem q1805 : (Jvm.Cond.methodLink "PondHouse$Reader" (174 : Nat) ({ cls := "PondHouse$Reader", name := "worth", desc := "()LPondHouse$Worth;" } : Jvm.MethodName)) ∈ lw_all := lw_g (lw_at lw_m7 205 rfl) rfl
theorem q1806 : (Jvm.Cond.privateMethod ({ cls := "PondHouse$Reader", name := "worth", desc := "()LPondHouse$Worth;" } : Jvm.MethodName)) ∈ lw_tbl := lw_at lw_m7 206 rfl
theorem q1807 : (Jvm.Cond.instanceMethod ({ cls := "PondHouse$Reader", name := "worth", desc := "()LPondHouse$Worth;" } : Jvm.MethodName)) ∈ lw_all := lw_g (lw_at lw_m7 207 rfl) rfl
theorem q1808 : (Jvm.Cond.code ({ cls := "PondHouse$Reader", name := "worth", desc := "()LPondHouse$Worth;" } : Jvm.MethodName) prog_29_method_21_code (4 : Nat) (Option.some (Jvm.ClassFile.FieldType.object "PondHouse$Worth"))) ∈ lw_all := lw_g (lw_at lw_m7 208 rfl) rfl
theorem q1809 : (Jvm.Cond.methodLink "PondHouse$Reader" (129 : Nat) ({ cls := "PondHouse$Reader", name := "sum", desc := "()LPondHouse$Worth;" } : Jvm.MethodName)) ∈ lw_all := lw_g (lw_at lw_m7 209 rfl) rfl
theorem q1810 : (Jvm.Cond.privateMethod ({ cls := "PondHouse$Reader", name := "sum", desc := "()LPondHouse$Worth;" } : Jvm.MethodName)) ∈ lw_tbl := lw_at lw_m7 210 rfl
theorem q1811 : (Jvm.Cond.instanceMethod ({ cls := "PondHouse$Reader", name := "sum", desc := "()LPondHouse$Worth;" } : Jvm.MethodName)) ∈ lw_all := lw_g (lw_at lw_m7 211 rfl) rfl
theorem q1812 : (Jvm.Cond.code ({ cls := "PondHouse$Reader", name := "sum", desc := "()LPondHouse$Worth;" } : Jvm.MethodName) prog_29_method_22_code (4 : Nat) (Option.some (Jvm.ClassFile.FieldType.object "PondHouse$Worth"))) ∈ lw_all := lw_g (lw_at lw_m7 212 rfl) rfl
theorem q1813 : (Jvm.Cond.methodLink "PondHouse$Reader" (142 : Nat) ({ cls := "PondHouse$Reader", name := "product", desc := "()LPondHouse$Worth;" } : Jvm.MethodName)) ∈ lw_all := lw_g (lw_at lw_m7 213 rfl) rfl
theorem q1814 : (Jvm.Cond.privateMethod ({ cls := "PondHouse$Reader", name := "product", desc := "()LPondHouse$Worth;" } : Jvm.MethodName)) ∈ lw_tbl := lw_at lw_m7 214 rfl
theorem q1815 : (Jvm.Cond.instanceMethod ({ cls := "PondHouse$Reader", name := "product", desc := "()LPondHouse$Worth;" } : Jvm.MethodName)) ∈ lw_all := lw_g (lw_at lw_m7 215 rfl) rfl
theorem q1816 : (Jvm.Cond.code ({ cls := "PondHouse$Reader", name := "product", desc := "()LPondHouse$Worth;" } : Jvm.MethodName) prog_29_method_23_code (4 : Nat) (Option.some (Jvm.ClassFile.FieldType.object "PondHouse$Worth"))) ∈ lw_all := lw_g (lw_at lw_m7 216 rfl) rfl
theorem q1817 : (Jvm.Cond.methodLink "PondHouse$Reader" (145 : Nat) ({ cls := "PondHouse$Reader", name := "unit", desc := "()LPondHouse$Worth;" } : Jvm.MethodName)) ∈ lw_all := lw_g (lw_at lw_m7 217 rfl) rfl
theorem q1818 : (Jvm.Cond.privateMethod ({ cls := "PondHouse$Reader", name := "unit", desc := "()LPondHouse$Worth;" } : Jvm.MethodName)) ∈ lw_tbl := lw_at lw_m7 218 rfl
theorem q1819 : (Jvm.Cond.instanceMethod ({ cls := "PondHouse$Reader", name := "unit", desc := "()LPondHouse$Worth;" } : Jvm.MethodName)) ∈ lw_all := lw_g (lw_at lw_m7 219 rfl) rfl
theorem q1820 : (Jvm.Cond.code ({ cls := "PondHouse$Reader", name := "unit", desc := "()LPondHouse$Worth;" } : Jvm.MethodName) prog_29_method_24_code (3 : Nat) (Option.some (Jvm.ClassFile.FieldType.object "PondHouse$Worth"))) ∈ lw_all := lw_g (lw_at lw_m7 220 rfl) rfl
theorem q1821 : (Jvm.Cond.classLink "PondHouse$Reader" (148 : Nat) "PondHouse$Plain") ∈ lw_all := lw_g (lw_at lw_m7 221 rfl) rfl
theorem q1823 : (Jvm.Cond.methodLink "PondHouse$Reader" (150 : Nat) ({ cls := "PondHouse$Plain", name := "<init>", desc := "(LPondHouse;I)V" } : Jvm.MethodName)) ∈ lw_all := lw_g (lw_at lw_m7 223 rfl) rfl
theorem q1840 : (Jvm.Cond.classLink "PondHouse$Reader" (153 : Nat) "PondHouse$Named") ∈ lw_all := lw_g (lw_at lw_m8 0 rfl) rfl
theorem q1842 : (Jvm.Cond.methodLink "PondHouse$Reader" (155 : Nat) ({ cls := "PondHouse$Reader", name := "takesName", desc := "()I" } : Jvm.MethodName)) ∈ lw_all := lw_g (lw_at lw_m8 2 rfl) rfl
theorem q1843 : (Jvm.Cond.methodLink "PondHouse$Reader" (158 : Nat) ({ cls := "PondHouse$Named", name := "<init>", desc := "(LPondHouse;I)V" } : Jvm.MethodName)) ∈ lw_all := lw_g (lw_at lw_m8 3 rfl) rfl
theorem q1855 : (Jvm.Cond.stringRef "PondHouse$Reader" (159 : Nat) "v") ∈ lw_tbl := lw_at lw_m8 15 rfl
theorem q1856 : (Jvm.Cond.classLink "PondHouse$Reader" (164 : Nat) "PondHouse$Own") ∈ lw_all := lw_g (lw_at lw_m8 16 rfl) rfl
theorem q1858 : (Jvm.Cond.methodLink "PondHouse$Reader" (166 : Nat) ({ cls := "PondHouse$Own", name := "<init>", desc := "(LPondHouse;Z)V" } : Jvm.MethodName)) ∈ lw_all := lw_g (lw_at lw_m8 18 rfl) rfl
theorem q1870 : (Jvm.Cond.stringRef "PondHouse$Reader" (169 : Nat) "last") ∈ lw_tbl := lw_at lw_m8 30 rfl
theorem q1871 : (Jvm.Cond.classLink "PondHouse$Reader" (180 : Nat) "PondHouse$Minus") ∈ lw_all := lw_g (lw_at lw_m8 31 rfl) rfl
theorem q1873 : (Jvm.Cond.methodLink "PondHouse$Reader" (182 : Nat) ({ cls := "PondHouse$Minus", name := "<init>", desc := "(LPondHouse;LPondHouse$Worth;)V" } : Jvm.MethodName)) ∈ lw_all := lw_g (lw_at lw_m8 33 rfl) rfl
theorem q1885 : (Jvm.Cond.classLink "PondHouse$Reader" (133 : Nat) "PondHouse$Chain") ∈ lw_all := lw_g (lw_at lw_m8 45 rfl) rfl
theorem q1886 : (Jvm.Cond.methodLink "PondHouse$Reader" (135 : Nat) ({ cls := "PondHouse$Chain", name := "<init>", desc := "(LPondHouse;LPondHouse$Worth;)V" } : Jvm.MethodName)) ∈ lw_all := lw_g (lw_at lw_m8 46 rfl) rfl
theorem q1910 : (Jvm.Cond.methodLink "PondHouse$Reader" (138 : Nat) ({ cls := "PondHouse$Chain", name := "add", desc := "(CLPondHouse$Worth;)V" } : Jvm.MethodName)) ∈ lw_all := lw_g (lw_at lw_m8 70 rfl) rfl
theorem q1923 : (Jvm.Cond.methodLink "PondHouse$Reader" (243 : Nat) ({ cls := "PondHouse$Chooses", name := "<init>", desc := "(LPondHouse;LPondHouse$Worth;)V" } : Jvm.MethodName)) ∈ lw_all := lw_g (lw_at lw_m8 83 rfl) rfl
theorem q1932 : (Jvm.Cond.fieldLinkNest "PondHouse$Reader" (248 : Nat) "PondHouse$Chooses" "then" "LPondHouse$Block;" "PondHouse") ∈ lw_tbl := lw_at lw_m8 92 rfl
theorem q1934 : (Jvm.Cond.fieldLinkNest "PondHouse$Reader" (254 : Nat) "PondHouse$Chooses" "otherwise" "LPondHouse$Block;" "PondHouse") ∈ lw_tbl := lw_at lw_m8 94 rfl
theorem q1948 : (Jvm.Cond.stringRef "PondHouse$Reader" (252 : Nat) "else") ∈ lw_tbl := lw_at lw_m8 108 rfl
theorem q1949 : (Jvm.Cond.methodLink "PondHouse$Reader" (220 : Nat) ({ cls := "PondHouse$Reader", name := "plain", desc := "()LPondHouse$Statement;" } : Jvm.MethodName)) ∈ lw_all := lw_g (lw_at lw_m8 109 rfl) rfl
theorem q1950 : (Jvm.Cond.privateMethod ({ cls := "PondHouse$Reader", name := "plain", desc := "()LPondHouse$Statement;" } : Jvm.MethodName)) ∈ lw_tbl := lw_at lw_m8 110 rfl
theorem q1951 : (Jvm.Cond.instanceMethod ({ cls := "PondHouse$Reader", name := "plain", desc := "()LPondHouse$Statement;" } : Jvm.MethodName)) ∈ lw_all := lw_g (lw_at lw_m8 111 rfl) rfl
theorem q1952 : (Jvm.Cond.code ({ cls := "PondHouse$Reader", name := "plain", desc := "()LPondHouse$Statement;" } : Jvm.MethodName) prog_29_method_28_code (2 : Nat) (Option.some (Jvm.ClassFile.FieldType.object "PondHouse$Statement"))) ∈ lw_all := lw_g (lw_at lw_m8 112 rfl) rfl
theorem q1953 : (Jvm.Cond.classLink "PondHouse$Reader" (223 : Nat) "PondHouse$Sets") ∈ lw_all := lw_g (lw_at lw_m8 113 rfl) rfl
theorem q1955 : (Jvm.Cond.methodLink "PondHouse$Reader" (225 : Nat) ({ cls := "PondHouse$Sets", name := "<init>", desc := "(LPondHouse;ILPondHouse$Worth;)V" } : Jvm.MethodName)) ∈ lw_all := lw_g (lw_at lw_m8 115 rfl) rfl
theorem q1970 : (Jvm.Cond.classLink "PondHouse$Reader" (228 : Nat) "PondHouse$Gives") ∈ lw_all := lw_g (lw_at lw_m8 130 rfl) rfl
theorem q1972 : (Jvm.Cond.methodLink "PondHouse$Reader" (230 : Nat) ({ cls := "PondHouse$Gives", name := "<init>", desc := "(LPondHouse;LPondHouse$Worth;Z)V" } : Jvm.MethodName)) ∈ lw_all := lw_g (lw_at lw_m8 132 rfl) rfl
theorem q1987 : (Jvm.Cond.classLink "PondHouse$Reader" (233 : Nat) "PondHouse$Calls") ∈ lw_all := lw_g (lw_at lw_m8 147 rfl) rfl
theorem q1989 : (Jvm.Cond.methodLink "PondHouse$Reader" (235 : Nat) ({ cls := "PondHouse$Calls", name := "<init>", desc := "(LPondHouse;II)V" } : Jvm.MethodName)) ∈ lw_all := lw_g (lw_at lw_m8 149 rfl) rfl
theorem q2004 : (Jvm.Cond.classLink "PondHouse$Reader" (238 : Nat) "PondHouse$Rests") ∈ lw_all := lw_g (lw_at lw_m8 164 rfl) rfl
theorem q2006 : (Jvm.Cond.methodLinkNest "PondHouse$Reader" (240 : Nat) ({ cls := "PondHouse$Rests", name := "<init>", desc := "(LPondHouse;)V" } : Jvm.MethodName) "PondHouse") ∈ lw_tbl := lw_at lw_m8 166 rfl
theorem q2015 : (Jvm.Cond.methodLink "PondHouse$Reader" (192 : Nat) ({ cls := "PondHouse$Block", name := "add", desc := "(LPondHouse$Statement;)V" } : Jvm.MethodName)) ∈ lw_all := lw_g (lw_at lw_m8 175 rfl) rfl
theorem q2020 : (Jvm.Cond.methodLink "PondHouse$Reader" (281 : Nat) ({ cls := "PondHouse$Member", name := "<init>", desc := "(IIILPondHouse$Block;)V" } : Jvm.MethodName)) ∈ lw_all := lw_g (lw_at lw_m8 180 rfl) rfl
theorem q2043 : (Jvm.Cond.methodLink "PondHouse$Reader" (284 : Nat) ({ cls := "PondHouse$Reader", name := "signed", desc := "()I" } : Jvm.MethodName)) ∈ lw_all := lw_g (lw_at lw_m8 203 rfl) rfl
theorem q2044 : (Jvm.Cond.privateMethod ({ cls := "PondHouse$Reader", name := "signed", desc := "()I" } : Jvm.MethodName)) ∈ lw_tbl := lw_at lw_m8 204 rfl
theorem q2045 : (Jvm.Cond.instanceMethod ({ cls := "PondHouse$Reader", name := "signed", desc := "()I" } : Jvm.MethodName)) ∈ lw_all := lw_g (lw_at lw_m8 205 rfl) rfl
theorem q2046 : (Jvm.Cond.code ({ cls := "PondHouse$Reader", name := "signed", desc := "()I" } : Jvm.MethodName) prog_29_method_19_code (3 : Nat) (Option.some Jvm.ClassFile.FieldType.int)) ∈ lw_all := lw_g (lw_at lw_m8 206 rfl) rfl
theorem q2047 : (Jvm.Cond.methodLink "PondHouse$Reader" (321 : Nat) ({ cls := "PondHouse$Draft", name := "add", desc := "(LPondHouse$Member;)V" } : Jvm.MethodName)) ∈ lw_all := lw_g (lw_at lw_m8 207 rfl) rfl
theorem q2065 : (Jvm.Cond.privateMethod ({ cls := "PondHouse$Reader", name := "patch", desc := "()LPondHouse$Row;" } : Jvm.MethodName)) ∈ lw_tbl := lw_at lw_m8 225 rfl
theorem q2066 : (Jvm.Cond.instanceMethod ({ cls := "PondHouse$Reader", name := "patch", desc := "()LPondHouse$Row;" } : Jvm.MethodName)) ∈ lw_all := lw_g (lw_at lw_m8 226 rfl) rfl
theorem q2067 : (Jvm.Cond.code ({ cls := "PondHouse$Reader", name := "patch", desc := "()LPondHouse$Row;" } : Jvm.MethodName) prog_29_method_35_code (2 : Nat) (Option.some (Jvm.ClassFile.FieldType.object "PondHouse$Row"))) ∈ lw_all := lw_g (lw_at lw_m8 227 rfl) rfl
theorem q2068 : (Jvm.Cond.methodLink "PondHouse$Reader" (325 : Nat) ({ cls := "PondHouse$Reader", name := "change", desc := "()LPondHouse$Change;" } : Jvm.MethodName)) ∈ lw_all := lw_g (lw_at lw_m8 228 rfl) rfl
theorem q2069 : (Jvm.Cond.privateMethod ({ cls := "PondHouse$Reader", name := "change", desc := "()LPondHouse$Change;" } : Jvm.MethodName)) ∈ lw_tbl := lw_at lw_m8 229 rfl
theorem q2070 : (Jvm.Cond.instanceMethod ({ cls := "PondHouse$Reader", name := "change", desc := "()LPondHouse$Change;" } : Jvm.MethodName)) ∈ lw_all := lw_g (lw_at lw_m8 230 rfl) rfl
theorem q2071 : (Jvm.Cond.code ({ cls := "PondHouse$Reader", name := "change", desc := "()LPondHouse$Change;" } : Jvm.MethodName) prog_29_method_36_code (5 : Nat) (Option.some (Jvm.ClassFile.FieldType.object "PondHouse$Change"))) ∈ lw_all := lw_g (lw_at lw_m8 231 rfl) rfl
theorem q2072 : (Jvm.Cond.methodLink "PondHouse$Reader" (329 : Nat) ({ cls := "PondHouse$Reader", name := "comes", desc := "()LPondHouse$Change;" } : Jvm.MethodName)) ∈ lw_all := lw_g (lw_at lw_m8 232 rfl) rfl
theorem q2073 : (Jvm.Cond.privateMethod ({ cls := "PondHouse$Reader", name := "comes", desc := "()LPondHouse$Change;" } : Jvm.MethodName)) ∈ lw_tbl := lw_at lw_m8 233 rfl
theorem q2074 : (Jvm.Cond.instanceMethod ({ cls := "PondHouse$Reader", name := "comes", desc := "()LPondHouse$Change;" } : Jvm.MethodName)) ∈ lw_all := lw_g (lw_at lw_m8 234 rfl) rfl
theorem q2075 : (Jvm.Cond.code ({ cls := "PondHouse$Reader", name := "comes", desc := "()LPondHouse$Change;" } : Jvm.MethodName) prog_29_method_37_code (3 : Nat) (Option.some (Jvm.ClassFile.FieldType.object "PondHouse$Change"))) ∈ lw_all := lw_g (lw_at lw_m8 235 rfl) rfl
theorem q2076 : (Jvm.Cond.classLink "PondHouse$Reader" (351 : Nat) "PondHouse$Comes") ∈ lw_all := lw_g (lw_at lw_m8 236 rfl) rfl
theorem q2078 : (Jvm.Cond.methodLink "PondHouse$Reader" (353 : Nat) ({ cls := "PondHouse$Comes", name := "<init>", desc := "(LPondHouse;II)V" } : Jvm.MethodName)) ∈ lw_all := lw_g (lw_at lw_m8 238 rfl) rfl
theorem q2089 : (Jvm.Cond.fieldLinkNest "PondHouse$Reader" (354 : Nat) "PondHouse$Comes" "members" "LPondHouse$Row;" "PondHouse") ∈ lw_tbl := lw_at lw_m9 9 rfl
theorem q2115 : (Jvm.Cond.stringRef "PondHouse$Reader" (332 : Nat) "change") ∈ lw_tbl := lw_at lw_m9 35 rfl
theorem q2116 : (Jvm.Cond.methodLink "PondHouse$Reader" (333 : Nat) ({ cls := "PondHouse$Reader", name := "changes", desc := "()LPondHouse$Change;" } : Jvm.MethodName)) ∈ lw_all := lw_g (lw_at lw_m9 36 rfl) rfl
theorem q2117 : (Jvm.Cond.privateMethod ({ cls := "PondHouse$Reader", name := "changes", desc := "()LPondHouse$Change;" } : Jvm.MethodName)) ∈ lw_tbl := lw_at lw_m9 37 rfl
theorem q2118 : (Jvm.Cond.instanceMethod ({ cls := "PondHouse$Reader", name := "changes", desc := "()LPondHouse$Change;" } : Jvm.MethodName)) ∈ lw_all := lw_g (lw_at lw_m9 38 rfl) rfl
theorem q2119 : (Jvm.Cond.code ({ cls := "PondHouse$Reader", name := "changes", desc := "()LPondHouse$Change;" } : Jvm.MethodName) prog_29_method_38_code (2 : Nat) (Option.some (Jvm.ClassFile.FieldType.object "PondHouse$Change"))) ∈ lw_all := lw_g (lw_at lw_m9 39 rfl) rfl
theorem q2120 : (Jvm.Cond.classLink "PondHouse$Reader" (358 : Nat) "PondHouse$Edits") ∈ lw_all := lw_g (lw_at lw_m9 40 rfl) rfl
theorem q2121 : (Jvm.Cond.methodLink "PondHouse$Reader" (360 : Nat) ({ cls := "PondHouse$Edits", name := "<init>", desc := "(LPondHouse;I)V" } : Jvm.MethodName)) ∈ lw_all := lw_g (lw_at lw_m9 41 rfl) rfl
theorem q2128 : (Jvm.Cond.fieldLinkNest "PondHouse$Reader" (361 : Nat) "PondHouse$Edits" "edits" "LPondHouse$Row;" "PondHouse") ∈ lw_tbl := lw_at lw_m9 48 rfl
theorem q2137 : (Jvm.Cond.classLink "PondHouse$Reader" (364 : Nat) "PondHouse$Edit") ∈ lw_all := lw_g (lw_at lw_m9 57 rfl) rfl
theorem q2139 : (Jvm.Cond.methodLink "PondHouse$Reader" (366 : Nat) ({ cls := "PondHouse$Edit", name := "<init>", desc := "(LPondHouse$Member;IILPondHouse$Worth;)V" } : Jvm.MethodName)) ∈ lw_all := lw_g (lw_at lw_m9 59 rfl) rfl
theorem q2160 : (Jvm.Cond.methodLink "PondHouse$Reader" (369 : Nat) ({ cls := "PondHouse$Reader", name := "edit", desc := "()LPondHouse$Edit;" } : Jvm.MethodName)) ∈ lw_all := lw_g (lw_at lw_m9 80 rfl) rfl
theorem q2161 : (Jvm.Cond.privateMethod ({ cls := "PondHouse$Reader", name := "edit", desc := "()LPondHouse$Edit;" } : Jvm.MethodName)) ∈ lw_tbl := lw_at lw_m9 81 rfl
theorem q2162 : (Jvm.Cond.instanceMethod ({ cls := "PondHouse$Reader", name := "edit", desc := "()LPondHouse$Edit;" } : Jvm.MethodName)) ∈ lw_all := lw_g (lw_at lw_m9 82 rfl) rfl
theorem q2163 : (Jvm.Cond.code ({ cls := "PondHouse$Reader", name := "edit", desc := "()LPondHouse$Edit;" } : Jvm.MethodName) prog_29_method_39_code (6 : Nat) (Option.some (Jvm.ClassFile.FieldType.object "PondHouse$Edit"))) ∈ lw_all := lw_g (lw_at lw_m9 83 rfl) rfl
theorem q2164 : (Jvm.Cond.stringRef "PondHouse$Reader" (373 : Nat) "rename") ∈ lw_tbl := lw_at lw_m9 84 rfl
theorem q2165 : (Jvm.Cond.stringRef "PondHouse$Reader" (375 : Nat) "carry") ∈ lw_tbl := lw_at lw_m9 85 rfl
theorem q2166 : (Jvm.Cond.stringRef "PondHouse$Reader" (336 : Nat) "drop") ∈ lw_tbl := lw_at lw_m9 86 rfl
theorem q2167 : (Jvm.Cond.stringRef "PondHouse$Reader" (338 : Nat) "move") ∈ lw_tbl := lw_at lw_m9 87 rfl
theorem q2168 : (Jvm.Cond.stringRef "PondHouse$Reader" (340 : Nat) "check") ∈ lw_tbl := lw_at lw_m9 88 rfl
theorem q2169 : (Jvm.Cond.classLink "PondHouse$Reader" (342 : Nat) "PondHouse$Goes") ∈ lw_all := lw_g (lw_at lw_m9 89 rfl) rfl
theorem q2171 : (Jvm.Cond.methodLink "PondHouse$Reader" (344 : Nat) ({ cls := "PondHouse$Goes", name := "<init>", desc := "(LPondHouse;I)V" } : Jvm.MethodName)) ∈ lw_all := lw_g (lw_at lw_m9 91 rfl) rfl
theorem q2181 : (Jvm.Cond.classLink "PondHouse$Reader" (345 : Nat) "PondHouse$Moves") ∈ lw_all := lw_g (lw_at lw_m9 101 rfl) rfl
theorem q2183 : (Jvm.Cond.methodLink "PondHouse$Reader" (347 : Nat) ({ cls := "PondHouse$Moves", name := "<init>", desc := "(LPondHouse;II)V" } : Jvm.MethodName)) ∈ lw_all := lw_g (lw_at lw_m9 103 rfl) rfl
theorem q2196 : (Jvm.Cond.classLink "PondHouse$Reader" (348 : Nat) "PondHouse$Checks") ∈ lw_all := lw_g (lw_at lw_m9 116 rfl) rfl
theorem q2198 : (Jvm.Cond.methodLink "PondHouse$Reader" (350 : Nat) ({ cls := "PondHouse$Checks", name := "<init>", desc := "(LPondHouse;ILPondHouse$Worth;)V" } : Jvm.MethodName)) ∈ lw_all := lw_g (lw_at lw_m9 118 rfl) rfl
theorem q3101 : (Jvm.Cond.castable "PondHouse$Reader" "java/lang/Object") ∈ lw_tbl := lw_at lw_m13 61 rfl
theorem in_X4 : ∀ w ∈ wsX40, w ∈ lw_all := lw_in wsX40 [1188, 1190, 1192, 1194, 1196, 1198, 1200, 1202] (by decide +kernel) (by decide +kernel)
