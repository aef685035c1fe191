/-! Splitpointer$Hashing -/
set_option maxRecDepth 100000
def RX3 : String := "Splitpointer$Hashing"
def TX3 : u_T := fun k => match k with
  | 0 => ("Splitpointer$Hashing", "choice", "I", true)
  | _ => ("Splitpointer$Hashing", "seed", "I", true)
def tyX3 : Nat → FieldType := fun k => match k with
  | 0 => .int
  | _ => .int
abbrev wsX30 : List Cond := u_ws RX3 TX3 2
theorem nmX3 : ∀ a, a < 2 → ∀ b, b < 2 → a ≠ b → (TX3 a).2.1 ≠ (TX3 b).2.1 := by decide +kernel
theorem tyX3_ok : ∀ k, k < 2 → parseFieldDescriptor (TX3 k).2.2.1 = some (tyX3 k) := by decide +kernel
abbrev cX3_init : ByteArray := prog_8_method_1_code
def yX3_init : MethodName := ⟨RX3, "<init>", "(II)V"⟩
def dkwX3_init_0 : List UInt8 := [42, 183, 0, 3, 42, 27, 181, 0, 9, 42, 28, 181, 0, 15, 177]
abbrev dktX3_init_0 : List UInt8 := dkwX3_init_0 ++ []
theorem dksX3_init_0 : cX3_init.data.toList.drop 0 = dktX3_init_0 := by decide +kernel
theorem dX3_init_0 : decode cX3_init 0 = .ok (.aload_n 0, 1) := dk_42 (dk_at dksX3_init_0 0 rfl rfl)
theorem dX3_init_1 : decode cX3_init 1 = .ok (.invokespecial 3, 3) := dk_183 0 3 (dk_at dksX3_init_0 1 rfl rfl)
theorem dX3_init_4 : decode cX3_init 4 = .ok (.aload_n 0, 1) := dk_42 (dk_at dksX3_init_0 4 rfl rfl)
theorem dX3_init_5 : decode cX3_init 5 = .ok (.iload_n 1, 1) := dk_27 (dk_at dksX3_init_0 5 rfl rfl)
theorem dX3_init_6 : decode cX3_init 6 = .ok (.putfield 9, 3) := dk_181 0 9 (dk_at dksX3_init_0 6 rfl rfl)
theorem dX3_init_9 : decode cX3_init 9 = .ok (.aload_n 0, 1) := dk_42 (dk_at dksX3_init_0 9 rfl rfl)
theorem dX3_init_10 : decode cX3_init 10 = .ok (.iload_n 2, 1) := dk_28 (dk_at dksX3_init_0 10 rfl rfl)
theorem dX3_init_11 : decode cX3_init 11 = .ok (.putfield 15, 3) := dk_181 0 15 (dk_at dksX3_init_0 11 rfl rfl)
theorem dX3_init_14 : decode cX3_init 14 = .ok (.return_, 1) := dk_177 (dk_at dksX3_init_0 14 rfl rfl)
abbrev cX3_of : ByteArray := prog_8_method_2_code
def yX3_of : MethodName := ⟨RX3, "of", "(I)I"⟩
def dkwX3_of_3 : List UInt8 := [167, 255, 201, 21, 4, 17, 1, 141, 42, 180, 0, 15, 104, 17, 4, 0, 112, 130, 172]
abbrev dktX3_of_3 : List UInt8 := dkwX3_of_3 ++ []
def dkwX3_of_2 : List UInt8 := [122, 61, 167, 0, 18, 21, 4, 29, 4, 126, 21, 5, 120, 128, 54, 4, 29, 4, 122, 62, 132, 5, 1]
abbrev dktX3_of_2 : List UInt8 := dkwX3_of_2 ++ dktX3_of_3
def dkwX3_of_1 : List UInt8 := [180, 0, 9, 21, 5, 184, 0, 18, 153, 0, 21, 21, 4, 28, 4, 126, 21, 5, 120, 128, 54, 4, 28, 4]
abbrev dktX3_of_1 : List UInt8 := dkwX3_of_1 ++ dktX3_of_2
def dkwX3_of_0 : List UInt8 := [27, 16, 100, 108, 61, 27, 16, 100, 112, 62, 3, 54, 4, 3, 54, 5, 21, 5, 16, 10, 162, 0, 54, 42]
abbrev dktX3_of_0 : List UInt8 := dkwX3_of_0 ++ dktX3_of_1
theorem dksX3_of_0 : cX3_of.data.toList.drop 0 = dktX3_of_0 := by decide +kernel
theorem dksX3_of_1 : cX3_of.data.toList.drop 24 = dktX3_of_1 := dk_seg dksX3_of_0 24 rfl rfl
theorem dksX3_of_2 : cX3_of.data.toList.drop 48 = dktX3_of_2 := dk_seg dksX3_of_1 24 rfl rfl
theorem dksX3_of_3 : cX3_of.data.toList.drop 71 = dktX3_of_3 := dk_seg dksX3_of_2 23 rfl rfl
theorem dX3_of_0 : decode cX3_of 0 = .ok (.iload_n 1, 1) := dk_27 (dk_at dksX3_of_0 0 rfl rfl)
theorem dX3_of_1 : decode cX3_of 1 = .ok (.bipush 100, 2) := dk_16 100 (dk_at dksX3_of_0 1 rfl rfl)
theorem dX3_of_3 : decode cX3_of 3 = .ok (.idiv, 1) := dk_108 (dk_at dksX3_of_0 3 rfl rfl)
theorem dX3_of_4 : decode cX3_of 4 = .ok (.istore_n 2, 1) := dk_61 (dk_at dksX3_of_0 4 rfl rfl)
theorem dX3_of_5 : decode cX3_of 5 = .ok (.iload_n 1, 1) := dk_27 (dk_at dksX3_of_0 5 rfl rfl)
theorem dX3_of_6 : decode cX3_of 6 = .ok (.bipush 100, 2) := dk_16 100 (dk_at dksX3_of_0 6 rfl rfl)
theorem dX3_of_8 : decode cX3_of 8 = .ok (.irem, 1) := dk_112 (dk_at dksX3_of_0 8 rfl rfl)
theorem dX3_of_9 : decode cX3_of 9 = .ok (.istore_n 3, 1) := dk_62 (dk_at dksX3_of_0 9 rfl rfl)
theorem dX3_of_10 : decode cX3_of 10 = .ok (.iconst 0, 1) := dk_3 (dk_at dksX3_of_0 10 rfl rfl)
theorem dX3_of_11 : decode cX3_of 11 = .ok (.istore 4, 2) := dk_54 4 (dk_at dksX3_of_0 11 rfl rfl)
theorem dX3_of_13 : decode cX3_of 13 = .ok (.iconst 0, 1) := dk_3 (dk_at dksX3_of_0 13 rfl rfl)
theorem dX3_of_14 : decode cX3_of 14 = .ok (.istore 5, 2) := dk_54 5 (dk_at dksX3_of_0 14 rfl rfl)
theorem dX3_of_16 : decode cX3_of 16 = .ok (.iload 5, 2) := dk_21 5 (dk_at dksX3_of_0 16 rfl rfl)
theorem dX3_of_18 : decode cX3_of 18 = .ok (.bipush 10, 2) := dk_16 10 (dk_at dksX3_of_0 18 rfl rfl)
theorem dX3_of_20 : decode cX3_of 20 = .ok (.if_icmp .ge 54, 3) := dk_162 0 54 (dk_at dksX3_of_0 20 rfl rfl)
theorem dX3_of_23 : decode cX3_of 23 = .ok (.aload_n 0, 1) := dk_42 (dk_at dksX3_of_0 23 rfl rfl)
theorem dX3_of_24 : decode cX3_of 24 = .ok (.getfield 9, 3) := dk_180 0 9 (dk_at dksX3_of_1 0 rfl rfl)
theorem dX3_of_27 : decode cX3_of 27 = .ok (.iload 5, 2) := dk_21 5 (dk_at dksX3_of_1 3 rfl rfl)
theorem dX3_of_29 : decode cX3_of 29 = .ok (.invokestatic 18, 3) := dk_184 0 18 (dk_at dksX3_of_1 5 rfl rfl)
theorem dX3_of_32 : decode cX3_of 32 = .ok (.ifCond .eq 21, 3) := dk_153 0 21 (dk_at dksX3_of_1 8 rfl rfl)
theorem dX3_of_35 : decode cX3_of 35 = .ok (.iload 4, 2) := dk_21 4 (dk_at dksX3_of_1 11 rfl rfl)
theorem dX3_of_37 : decode cX3_of 37 = .ok (.iload_n 2, 1) := dk_28 (dk_at dksX3_of_1 13 rfl rfl)
theorem dX3_of_38 : decode cX3_of 38 = .ok (.iconst 1, 1) := dk_4 (dk_at dksX3_of_1 14 rfl rfl)
theorem dX3_of_39 : decode cX3_of 39 = .ok (.iand, 1) := dk_126 (dk_at dksX3_of_1 15 rfl rfl)
theorem dX3_of_40 : decode cX3_of 40 = .ok (.iload 5, 2) := dk_21 5 (dk_at dksX3_of_1 16 rfl rfl)
theorem dX3_of_42 : decode cX3_of 42 = .ok (.ishl, 1) := dk_120 (dk_at dksX3_of_1 18 rfl rfl)
theorem dX3_of_43 : decode cX3_of 43 = .ok (.ior, 1) := dk_128 (dk_at dksX3_of_1 19 rfl rfl)
theorem dX3_of_44 : decode cX3_of 44 = .ok (.istore 4, 2) := dk_54 4 (dk_at dksX3_of_1 20 rfl rfl)
theorem dX3_of_46 : decode cX3_of 46 = .ok (.iload_n 2, 1) := dk_28 (dk_at dksX3_of_1 22 rfl rfl)
theorem dX3_of_47 : decode cX3_of 47 = .ok (.iconst 1, 1) := dk_4 (dk_at dksX3_of_1 23 rfl rfl)
theorem dX3_of_48 : decode cX3_of 48 = .ok (.ishr, 1) := dk_122 (dk_at dksX3_of_2 0 rfl rfl)
theorem dX3_of_49 : decode cX3_of 49 = .ok (.istore_n 2, 1) := dk_61 (dk_at dksX3_of_2 1 rfl rfl)
theorem dX3_of_50 : decode cX3_of 50 = .ok (.goto 18, 3) := dk_167 0 18 (dk_at dksX3_of_2 2 rfl rfl)
theorem dX3_of_53 : decode cX3_of 53 = .ok (.iload 4, 2) := dk_21 4 (dk_at dksX3_of_2 5 rfl rfl)
theorem dX3_of_55 : decode cX3_of 55 = .ok (.iload_n 3, 1) := dk_29 (dk_at dksX3_of_2 7 rfl rfl)
theorem dX3_of_56 : decode cX3_of 56 = .ok (.iconst 1, 1) := dk_4 (dk_at dksX3_of_2 8 rfl rfl)
theorem dX3_of_57 : decode cX3_of 57 = .ok (.iand, 1) := dk_126 (dk_at dksX3_of_2 9 rfl rfl)
theorem dX3_of_58 : decode cX3_of 58 = .ok (.iload 5, 2) := dk_21 5 (dk_at dksX3_of_2 10 rfl rfl)
theorem dX3_of_60 : decode cX3_of 60 = .ok (.ishl, 1) := dk_120 (dk_at dksX3_of_2 12 rfl rfl)
theorem dX3_of_61 : decode cX3_of 61 = .ok (.ior, 1) := dk_128 (dk_at dksX3_of_2 13 rfl rfl)
theorem dX3_of_62 : decode cX3_of 62 = .ok (.istore 4, 2) := dk_54 4 (dk_at dksX3_of_2 14 rfl rfl)
theorem dX3_of_64 : decode cX3_of 64 = .ok (.iload_n 3, 1) := dk_29 (dk_at dksX3_of_2 16 rfl rfl)
theorem dX3_of_65 : decode cX3_of 65 = .ok (.iconst 1, 1) := dk_4 (dk_at dksX3_of_2 17 rfl rfl)
theorem dX3_of_66 : decode cX3_of 66 = .ok (.ishr, 1) := dk_122 (dk_at dksX3_of_2 18 rfl rfl)
theorem dX3_of_67 : decode cX3_of 67 = .ok (.istore_n 3, 1) := dk_62 (dk_at dksX3_of_2 19 rfl rfl)
theorem dX3_of_68 : decode cX3_of 68 = .ok (.iinc 5 1, 3) := dk_132 5 1 (dk_at dksX3_of_2 20 rfl rfl)
theorem dX3_of_71 : decode cX3_of 71 = .ok (.goto (-55), 3) := dk_167 255 201 (dk_at dksX3_of_3 0 rfl rfl)
theorem dX3_of_74 : decode cX3_of 74 = .ok (.iload 4, 2) := dk_21 4 (dk_at dksX3_of_3 3 rfl rfl)
theorem dX3_of_76 : decode cX3_of 76 = .ok (.sipush 397, 3) := dk_17 1 141 (dk_at dksX3_of_3 5 rfl rfl)
theorem dX3_of_79 : decode cX3_of 79 = .ok (.aload_n 0, 1) := dk_42 (dk_at dksX3_of_3 8 rfl rfl)
theorem dX3_of_80 : decode cX3_of 80 = .ok (.getfield 15, 3) := dk_180 0 15 (dk_at dksX3_of_3 9 rfl rfl)
theorem dX3_of_83 : decode cX3_of 83 = .ok (.imul, 1) := dk_104 (dk_at dksX3_of_3 12 rfl rfl)
theorem dX3_of_84 : decode cX3_of 84 = .ok (.sipush 1024, 3) := dk_17 4 0 (dk_at dksX3_of_3 13 rfl rfl)
theorem dX3_of_87 : decode cX3_of 87 = .ok (.irem, 1) := dk_112 (dk_at dksX3_of_3 16 rfl rfl)
theorem dX3_of_88 : decode cX3_of 88 = .ok (.ixor, 1) := dk_130 (dk_at dksX3_of_3 17 rfl rfl)
theorem dX3_of_89 : decode cX3_of 89 = .ok (.ireturn, 1) := dk_172 (dk_at dksX3_of_3 18 rfl rfl)
abbrev cX3_digits : ByteArray := prog_8_method_3_code
def yX3_digits : MethodName := ⟨RX3, "digits", "(Z)I"⟩
def dkwX3_digits_0 : List UInt8 := [27, 153, 0, 10, 42, 180, 0, 9, 167, 0, 11, 17, 3, 255, 42, 180, 0, 9, 100, 172]
abbrev dktX3_digits_0 : List UInt8 := dkwX3_digits_0 ++ []
theorem dksX3_digits_0 : cX3_digits.data.toList.drop 0 = dktX3_digits_0 := by decide +kernel
theorem dX3_digits_0 : decode cX3_digits 0 = .ok (.iload_n 1, 1) := dk_27 (dk_at dksX3_digits_0 0 rfl rfl)
theorem dX3_digits_1 : decode cX3_digits 1 = .ok (.ifCond .eq 10, 3) := dk_153 0 10 (dk_at dksX3_digits_0 1 rfl rfl)
theorem dX3_digits_4 : decode cX3_digits 4 = .ok (.aload_n 0, 1) := dk_42 (dk_at dksX3_digits_0 4 rfl rfl)
theorem dX3_digits_5 : decode cX3_digits 5 = .ok (.getfield 9, 3) := dk_180 0 9 (dk_at dksX3_digits_0 5 rfl rfl)
theorem dX3_digits_8 : decode cX3_digits 8 = .ok (.goto 11, 3) := dk_167 0 11 (dk_at dksX3_digits_0 8 rfl rfl)
theorem dX3_digits_11 : decode cX3_digits 11 = .ok (.sipush 1023, 3) := dk_17 3 255 (dk_at dksX3_digits_0 11 rfl rfl)
theorem dX3_digits_14 : decode cX3_digits 14 = .ok (.aload_n 0, 1) := dk_42 (dk_at dksX3_digits_0 14 rfl rfl)
theorem dX3_digits_15 : decode cX3_digits 15 = .ok (.getfield 9, 3) := dk_180 0 9 (dk_at dksX3_digits_0 15 rfl rfl)
theorem dX3_digits_18 : decode cX3_digits 18 = .ok (.isub, 1) := dk_100 (dk_at dksX3_digits_0 18 rfl rfl)
theorem dX3_digits_19 : decode cX3_digits 19 = .ok (.ireturn, 1) := dk_172 (dk_at dksX3_digits_0 19 rfl rfl)
abbrev cX3_isAhead : ByteArray := prog_8_method_5_code
def yX3_isAhead : MethodName := ⟨RX3, "isAhead", "(II)Z"⟩
def dkwX3_isAhead_1 : List UInt8 := [160, 0, 12, 27, 28, 162, 0, 7, 4, 167, 0, 4, 3, 172]
abbrev dktX3_isAhead_1 : List UInt8 := dkwX3_isAhead_1 ++ []
def dkwX3_isAhead_0 : List UInt8 := [42, 27, 182, 0, 26, 62, 42, 28, 182, 0, 26, 54, 4, 29, 21, 4, 161, 0, 14, 29, 21, 4]
abbrev dktX3_isAhead_0 : List UInt8 := dkwX3_isAhead_0 ++ dktX3_isAhead_1
theorem dksX3_isAhead_0 : cX3_isAhead.data.toList.drop 0 = dktX3_isAhead_0 := by decide +kernel
theorem dksX3_isAhead_1 : cX3_isAhead.data.toList.drop 22 = dktX3_isAhead_1 := dk_seg dksX3_isAhead_0 22 rfl rfl
theorem dX3_isAhead_0 : decode cX3_isAhead 0 = .ok (.aload_n 0, 1) := dk_42 (dk_at dksX3_isAhead_0 0 rfl rfl)
theorem dX3_isAhead_1 : decode cX3_isAhead 1 = .ok (.iload_n 1, 1) := dk_27 (dk_at dksX3_isAhead_0 1 rfl rfl)
theorem dX3_isAhead_2 : decode cX3_isAhead 2 = .ok (.invokevirtual 26, 3) := dk_182 0 26 (dk_at dksX3_isAhead_0 2 rfl rfl)
theorem dX3_isAhead_5 : decode cX3_isAhead 5 = .ok (.istore_n 3, 1) := dk_62 (dk_at dksX3_isAhead_0 5 rfl rfl)
theorem dX3_isAhead_6 : decode cX3_isAhead 6 = .ok (.aload_n 0, 1) := dk_42 (dk_at dksX3_isAhead_0 6 rfl rfl)
theorem dX3_isAhead_7 : decode cX3_isAhead 7 = .ok (.iload_n 2, 1) := dk_28 (dk_at dksX3_isAhead_0 7 rfl rfl)
theorem dX3_isAhead_8 : decode cX3_isAhead 8 = .ok (.invokevirtual 26, 3) := dk_182 0 26 (dk_at dksX3_isAhead_0 8 rfl rfl)
theorem dX3_isAhead_11 : decode cX3_isAhead 11 = .ok (.istore 4, 2) := dk_54 4 (dk_at dksX3_isAhead_0 11 rfl rfl)
theorem dX3_isAhead_13 : decode cX3_isAhead 13 = .ok (.iload_n 3, 1) := dk_29 (dk_at dksX3_isAhead_0 13 rfl rfl)
theorem dX3_isAhead_14 : decode cX3_isAhead 14 = .ok (.iload 4, 2) := dk_21 4 (dk_at dksX3_isAhead_0 14 rfl rfl)
theorem dX3_isAhead_16 : decode cX3_isAhead 16 = .ok (.if_icmp .lt 14, 3) := dk_161 0 14 (dk_at dksX3_isAhead_0 16 rfl rfl)
theorem dX3_isAhead_19 : decode cX3_isAhead 19 = .ok (.iload_n 3, 1) := dk_29 (dk_at dksX3_isAhead_0 19 rfl rfl)
theorem dX3_isAhead_20 : decode cX3_isAhead 20 = .ok (.iload 4, 2) := dk_21 4 (dk_at dksX3_isAhead_0 20 rfl rfl)
theorem dX3_isAhead_22 : decode cX3_isAhead 22 = .ok (.if_icmp .ne 12, 3) := dk_160 0 12 (dk_at dksX3_isAhead_1 0 rfl rfl)
theorem dX3_isAhead_25 : decode cX3_isAhead 25 = .ok (.iload_n 1, 1) := dk_27 (dk_at dksX3_isAhead_1 3 rfl rfl)
theorem dX3_isAhead_26 : decode cX3_isAhead 26 = .ok (.iload_n 2, 1) := dk_28 (dk_at dksX3_isAhead_1 4 rfl rfl)
theorem dX3_isAhead_27 : decode cX3_isAhead 27 = .ok (.if_icmp .ge 7, 3) := dk_162 0 7 (dk_at dksX3_isAhead_1 5 rfl rfl)
theorem dX3_isAhead_30 : decode cX3_isAhead 30 = .ok (.iconst 1, 1) := dk_4 (dk_at dksX3_isAhead_1 8 rfl rfl)
theorem dX3_isAhead_31 : decode cX3_isAhead 31 = .ok (.goto 4, 3) := dk_167 0 4 (dk_at dksX3_isAhead_1 9 rfl rfl)
theorem dX3_isAhead_34 : decode cX3_isAhead 34 = .ok (.iconst 0, 1) := dk_3 (dk_at dksX3_isAhead_1 12 rfl rfl)
theorem dX3_isAhead_35 : decode cX3_isAhead 35 = .ok (.ireturn, 1) := dk_172 (dk_at dksX3_isAhead_1 13 rfl rfl)
abbrev cX3_turned : ByteArray := prog_8_method_4_code
def yX3_turned : MethodName := ⟨RX3, "turned", "(I)I"⟩
def dkwX3_turned_1 : List UInt8 := [96, 62, 28, 5, 108, 61, 132, 4, 1, 167, 255, 234, 29, 172]
abbrev dktX3_turned_1 : List UInt8 := dkwX3_turned_1 ++ []
def dkwX3_turned_0 : List UInt8 := [42, 27, 182, 0, 22, 61, 3, 62, 3, 54, 4, 21, 4, 16, 10, 162, 0, 21, 5, 29, 104, 28, 5, 112]
abbrev dktX3_turned_0 : List UInt8 := dkwX3_turned_0 ++ dktX3_turned_1
theorem dksX3_turned_0 : cX3_turned.data.toList.drop 0 = dktX3_turned_0 := by decide +kernel
theorem dksX3_turned_1 : cX3_turned.data.toList.drop 24 = dktX3_turned_1 := dk_seg dksX3_turned_0 24 rfl rfl
theorem dX3_turned_0 : decode cX3_turned 0 = .ok (.aload_n 0, 1) := dk_42 (dk_at dksX3_turned_0 0 rfl rfl)
theorem dX3_turned_1 : decode cX3_turned 1 = .ok (.iload_n 1, 1) := dk_27 (dk_at dksX3_turned_0 1 rfl rfl)
theorem dX3_turned_2 : decode cX3_turned 2 = .ok (.invokevirtual 22, 3) := dk_182 0 22 (dk_at dksX3_turned_0 2 rfl rfl)
theorem dX3_turned_5 : decode cX3_turned 5 = .ok (.istore_n 2, 1) := dk_61 (dk_at dksX3_turned_0 5 rfl rfl)
theorem dX3_turned_6 : decode cX3_turned 6 = .ok (.iconst 0, 1) := dk_3 (dk_at dksX3_turned_0 6 rfl rfl)
theorem dX3_turned_7 : decode cX3_turned 7 = .ok (.istore_n 3, 1) := dk_62 (dk_at dksX3_turned_0 7 rfl rfl)
theorem dX3_turned_8 : decode cX3_turned 8 = .ok (.iconst 0, 1) := dk_3 (dk_at dksX3_turned_0 8 rfl rfl)
theorem dX3_turned_9 : decode cX3_turned 9 = .ok (.istore 4, 2) := dk_54 4 (dk_at dksX3_turned_0 9 rfl rfl)
theorem dX3_turned_11 : decode cX3_turned 11 = .ok (.iload 4, 2) := dk_21 4 (dk_at dksX3_turned_0 11 rfl rfl)
theorem dX3_turned_13 : decode cX3_turned 13 = .ok (.bipush 10, 2) := dk_16 10 (dk_at dksX3_turned_0 13 rfl rfl)
theorem dX3_turned_15 : decode cX3_turned 15 = .ok (.if_icmp .ge 21, 3) := dk_162 0 21 (dk_at dksX3_turned_0 15 rfl rfl)
theorem dX3_turned_18 : decode cX3_turned 18 = .ok (.iconst 2, 1) := dk_5 (dk_at dksX3_turned_0 18 rfl rfl)
theorem dX3_turned_19 : decode cX3_turned 19 = .ok (.iload_n 3, 1) := dk_29 (dk_at dksX3_turned_0 19 rfl rfl)
theorem dX3_turned_20 : decode cX3_turned 20 = .ok (.imul, 1) := dk_104 (dk_at dksX3_turned_0 20 rfl rfl)
theorem dX3_turned_21 : decode cX3_turned 21 = .ok (.iload_n 2, 1) := dk_28 (dk_at dksX3_turned_0 21 rfl rfl)
theorem dX3_turned_22 : decode cX3_turned 22 = .ok (.iconst 2, 1) := dk_5 (dk_at dksX3_turned_0 22 rfl rfl)
theorem dX3_turned_23 : decode cX3_turned 23 = .ok (.irem, 1) := dk_112 (dk_at dksX3_turned_0 23 rfl rfl)
theorem dX3_turned_24 : decode cX3_turned 24 = .ok (.iadd, 1) := dk_96 (dk_at dksX3_turned_1 0 rfl rfl)
theorem dX3_turned_25 : decode cX3_turned 25 = .ok (.istore_n 3, 1) := dk_62 (dk_at dksX3_turned_1 1 rfl rfl)
theorem dX3_turned_26 : decode cX3_turned 26 = .ok (.iload_n 2, 1) := dk_28 (dk_at dksX3_turned_1 2 rfl rfl)
theorem dX3_turned_27 : decode cX3_turned 27 = .ok (.iconst 2, 1) := dk_5 (dk_at dksX3_turned_1 3 rfl rfl)
theorem dX3_turned_28 : decode cX3_turned 28 = .ok (.idiv, 1) := dk_108 (dk_at dksX3_turned_1 4 rfl rfl)
theorem dX3_turned_29 : decode cX3_turned 29 = .ok (.istore_n 2, 1) := dk_61 (dk_at dksX3_turned_1 5 rfl rfl)
theorem dX3_turned_30 : decode cX3_turned 30 = .ok (.iinc 4 1, 3) := dk_132 4 1 (dk_at dksX3_turned_1 6 rfl rfl)
theorem dX3_turned_33 : decode cX3_turned 33 = .ok (.goto (-22), 3) := dk_167 255 234 (dk_at dksX3_turned_1 9 rfl rfl)
theorem dX3_turned_36 : decode cX3_turned 36 = .ok (.iload_n 3, 1) := dk_29 (dk_at dksX3_turned_1 12 rfl rfl)
theorem dX3_turned_37 : decode cX3_turned 37 = .ok (.ireturn, 1) := dk_172 (dk_at dksX3_turned_1 13 rfl rfl)
theorem q66 : (Jvm.Cond.initialized "Splitpointer$Hashing") ∈ lw_all := lw_g (lw_at lw_m1 3 rfl) rfl
theorem q119 : (Jvm.Cond.instantiable "Splitpointer$Hashing" (2 : Nat)) ∈ lw_all := lw_g (lw_at lw_m1 56 rfl) rfl
theorem q121 : (Jvm.Cond.instanceMethod ({ cls := "Splitpointer$Hashing", name := "<init>", desc := "(II)V" } : Jvm.MethodName)) ∈ lw_all := lw_g (lw_at lw_m1 58 rfl) rfl
theorem q122 : (Jvm.Cond.code ({ cls := "Splitpointer$Hashing", name := "<init>", desc := "(II)V" } : Jvm.MethodName) prog_8_method_1_code (3 : Nat) (Option.none : Option Jvm.ClassFile.FieldType)) ∈ lw_all := lw_g (lw_at lw_m1 59 rfl) rfl
theorem q123 : (Jvm.Cond.methodLink "Splitpointer$Hashing" (3 : Nat) ({ cls := "java/lang/Object", name := "<init>", desc := "()V" } : Jvm.MethodName)) ∈ lw_all := lw_g (lw_at lw_m1 60 rfl) rfl
theorem q124 : (Jvm.Cond.fieldLink "Splitpointer$Hashing" (9 : Nat) "Splitpointer$Hashing" "choice" "I") ∈ lw_all := lw_g (lw_at lw_m1 61 rfl) rfl
theorem q126 : (Jvm.Cond.fieldLink "Splitpointer$Hashing" (15 : Nat) "Splitpointer$Hashing" "seed" "I") ∈ lw_all := lw_g (lw_at lw_m1 63 rfl) rfl
theorem q128 : (Jvm.Cond.laysFinal "Splitpointer$Hashing" "Splitpointer$Hashing" "choice" "I") ∈ lw_all := lw_g (lw_at lw_m1 65 rfl) rfl
theorem q129 : (Jvm.Cond.soleField "Splitpointer$Hashing" "choice") ∈ lw_all := lw_g (lw_at lw_m1 66 rfl) rfl
theorem q130 : (Jvm.Cond.laysFinal "Splitpointer$Hashing" "Splitpointer$Hashing" "seed" "I") ∈ lw_all := lw_g (lw_at lw_m1 67 rfl) rfl
theorem q131 : (Jvm.Cond.soleField "Splitpointer$Hashing" "seed") ∈ lw_all := lw_g (lw_at lw_m1 68 rfl) rfl
theorem q132 : (Jvm.Cond.superclass "Splitpointer$Hashing" "java/lang/Object") ∈ lw_all := lw_g (lw_at lw_m1 69 rfl) rfl
theorem q256 : (Jvm.Cond.selects "Splitpointer$Hashing" ({ cls := "java/lang/Object", name := "getClass", desc := "()Ljava/lang/Class;" } : Jvm.MethodName) ({ cls := "java/lang/Object", name := "getClass", desc := "()Ljava/lang/Class;" } : Jvm.MethodName)) ∈ lw_all := lw_g (lw_at lw_m1 193 rfl) rfl
theorem q493 : (Jvm.Cond.instanceMethod ({ cls := "Splitpointer$Hashing", name := "of", desc := "(I)I" } : Jvm.MethodName)) ∈ lw_all := lw_g (lw_at lw_m2 190 rfl) rfl
theorem q494 : (Jvm.Cond.selects "Splitpointer$Hashing" ({ cls := "Splitpointer$Hashing", name := "of", desc := "(I)I" } : Jvm.MethodName) ({ cls := "Splitpointer$Hashing", name := "of", desc := "(I)I" } : Jvm.MethodName)) ∈ lw_all := lw_g (lw_at lw_m2 191 rfl) rfl
theorem q495 : (Jvm.Cond.code ({ cls := "Splitpointer$Hashing", name := "of", desc := "(I)I" } : Jvm.MethodName) prog_8_method_2_code (6 : Nat) (Option.some Jvm.ClassFile.FieldType.int)) ∈ lw_all := lw_g (lw_at lw_m2 192 rfl) rfl
theorem q496 : (Jvm.Cond.methodLinkNest "Splitpointer$Hashing" (18 : Nat) ({ cls := "Splitpointer", name := "has", desc := "(II)Z" } : Jvm.MethodName) "Splitpointer") ∈ lw_tbl := lw_at lw_m2 193 rfl
theorem q1026 : (Jvm.Cond.instanceMethod ({ cls := "Splitpointer$Hashing", name := "digits", desc := "(Z)I" } : Jvm.MethodName)) ∈ lw_all := lw_g (lw_at lw_m5 3 rfl) rfl
theorem q1027 : (Jvm.Cond.selects "Splitpointer$Hashing" ({ cls := "Splitpointer$Hashing", name := "digits", desc := "(Z)I" } : Jvm.MethodName) ({ cls := "Splitpointer$Hashing", name := "digits", desc := "(Z)I" } : Jvm.MethodName)) ∈ lw_all := lw_g (lw_at lw_m5 4 rfl) rfl
theorem q1028 : (Jvm.Cond.code ({ cls := "Splitpointer$Hashing", name := "digits", desc := "(Z)I" } : Jvm.MethodName) prog_8_method_3_code (2 : Nat) (Option.some Jvm.ClassFile.FieldType.int)) ∈ lw_all := lw_g (lw_at lw_m5 5 rfl) rfl
theorem q1257 : (Jvm.Cond.instanceMethod ({ cls := "Splitpointer$Hashing", name := "isAhead", desc := "(II)Z" } : Jvm.MethodName)) ∈ lw_all := lw_g (lw_at lw_m5 234 rfl) rfl
theorem q1258 : (Jvm.Cond.selects "Splitpointer$Hashing" ({ cls := "Splitpointer$Hashing", name := "isAhead", desc := "(II)Z" } : Jvm.MethodName) ({ cls := "Splitpointer$Hashing", name := "isAhead", desc := "(II)Z" } : Jvm.MethodName)) ∈ lw_all := lw_g (lw_at lw_m5 235 rfl) rfl
theorem q1259 : (Jvm.Cond.code ({ cls := "Splitpointer$Hashing", name := "isAhead", desc := "(II)Z" } : Jvm.MethodName) prog_8_method_5_code (5 : Nat) (Option.some Jvm.ClassFile.FieldType.boolean)) ∈ lw_all := lw_g (lw_at lw_m5 236 rfl) rfl
theorem q1260 : (Jvm.Cond.methodLink "Splitpointer$Hashing" (26 : Nat) ({ cls := "Splitpointer$Hashing", name := "turned", desc := "(I)I" } : Jvm.MethodName)) ∈ lw_all := lw_g (lw_at lw_m5 237 rfl) rfl
theorem q1261 : (Jvm.Cond.instanceMethod ({ cls := "Splitpointer$Hashing", name := "turned", desc := "(I)I" } : Jvm.MethodName)) ∈ lw_all := lw_g (lw_at lw_m5 238 rfl) rfl
theorem q1262 : (Jvm.Cond.selects "Splitpointer$Hashing" ({ cls := "Splitpointer$Hashing", name := "turned", desc := "(I)I" } : Jvm.MethodName) ({ cls := "Splitpointer$Hashing", name := "turned", desc := "(I)I" } : Jvm.MethodName)) ∈ lw_all := lw_g (lw_at lw_m5 239 rfl) rfl
theorem q1263 : (Jvm.Cond.code ({ cls := "Splitpointer$Hashing", name := "turned", desc := "(I)I" } : Jvm.MethodName) prog_8_method_4_code (5 : Nat) (Option.some Jvm.ClassFile.FieldType.int)) ∈ lw_all := lw_g (lw_at lw_m6 0 rfl) rfl
theorem q1264 : (Jvm.Cond.methodLink "Splitpointer$Hashing" (22 : Nat) ({ cls := "Splitpointer$Hashing", name := "of", desc := "(I)I" } : Jvm.MethodName)) ∈ lw_all := lw_g (lw_at lw_m6 1 rfl) rfl
theorem q1532 : (Jvm.Cond.selects "Splitpointer$Hashing" ({ cls := "java/lang/Object", name := "equals", desc := "(Ljava/lang/Object;)Z" } : Jvm.MethodName) ({ cls := "java/lang/Object", name := "equals", desc := "(Ljava/lang/Object;)Z" } : Jvm.MethodName)) ∈ lw_all := lw_g (lw_at lw_m7 29 rfl) rfl
theorem q2065 : (Jvm.Cond.castable "Splitpointer$Hashing" "java/lang/Object") ∈ lw_tbl := lw_at lw_m9 82 rfl
theorem in_X3 : ∀ w ∈ wsX30, w ∈ lw_all := lw_in wsX30 [128, 130] (by decide +kernel) (by decide +kernel)
/-! Splitpointer$Bucket -/
set_option maxRecDepth 100000
def RX4 : String := "Splitpointer$Bucket"
def TX4 : u_T := fun k => match k with
  | 0 => ("Splitpointer$Bucket", "chain", "Ljava/util/ArrayList;", true)
  | _ => ("Splitpointer$Bucket", "filter", "I", false)
def tyX4 : Nat → FieldType := fun k => match k with
  | 0 => .object "java/util/ArrayList"
  | _ => .int
abbrev wsX40 : List Cond := u_ws RX4 TX4 2
theorem nmX4 : ∀ a, a < 2 → ∀ b, b < 2 → a ≠ b → (TX4 a).2.1 ≠ (TX4 b).2.1 := by decide +kernel
theorem tyX4_ok : ∀ k, k < 2 → parseFieldDescriptor (TX4 k).2.2.1 = some (tyX4 k) := by decide +kernel
abbrev cX4_init : ByteArray := prog_4_method_1_code
def yX4_init : MethodName := ⟨RX4, "<init>", "()V"⟩
def dkwX4_init_0 : List UInt8 := [42, 183, 0, 3, 42, 187, 0, 9, 89, 183, 0, 11, 181, 0, 12, 177]
abbrev dktX4_init_0 : List UInt8 := dkwX4_init_0 ++ []
theorem dksX4_init_0 : cX4_init.data.toList.drop 0 = dktX4_init_0 := by decide +kernel
theorem dX4_init_0 : decode cX4_init 0 = .ok (.aload_n 0, 1) := dk_42 (dk_at dksX4_init_0 0 rfl rfl)
theorem dX4_init_1 : decode cX4_init 1 = .ok (.invokespecial 3, 3) := dk_183 0 3 (dk_at dksX4_init_0 1 rfl rfl)
theorem dX4_init_4 : decode cX4_init 4 = .ok (.aload_n 0, 1) := dk_42 (dk_at dksX4_init_0 4 rfl rfl)
theorem dX4_init_5 : decode cX4_init 5 = .ok (.new 9, 3) := dk_187 0 9 (dk_at dksX4_init_0 5 rfl rfl)
theorem dX4_init_8 : decode cX4_init 8 = .ok (.dup, 1) := dk_89 (dk_at dksX4_init_0 8 rfl rfl)
theorem dX4_init_9 : decode cX4_init 9 = .ok (.invokespecial 11, 3) := dk_183 0 11 (dk_at dksX4_init_0 9 rfl rfl)
theorem dX4_init_12 : decode cX4_init 12 = .ok (.putfield 12, 3) := dk_181 0 12 (dk_at dksX4_init_0 12 rfl rfl)
theorem dX4_init_15 : decode cX4_init 15 = .ok (.return_, 1) := dk_177 (dk_at dksX4_init_0 15 rfl rfl)
abbrev cX4_pageOf : ByteArray := prog_4_method_5_code
def yX4_pageOf : MethodName := ⟨RX4, "pageOf", "(I)LSplitpointer$Page;"⟩
def dkwX4_pageOf_2 : List UInt8 := [167, 255, 211, 1, 176]
abbrev dktX4_pageOf_2 : List UInt8 := dkwX4_pageOf_2 ++ []
def dkwX4_pageOf_1 : List UInt8 := [27, 184, 0, 35, 2, 159, 0, 15, 42, 180, 0, 12, 28, 182, 0, 22, 192, 0, 26, 176, 132, 2, 1]
abbrev dktX4_pageOf_1 : List UInt8 := dkwX4_pageOf_1 ++ dktX4_pageOf_2
def dkwX4_pageOf_0 : List UInt8 := [3, 61, 28, 42, 180, 0, 12, 182, 0, 18, 162, 0, 40, 42, 180, 0, 12, 28, 182, 0, 22, 192, 0, 26]
abbrev dktX4_pageOf_0 : List UInt8 := dkwX4_pageOf_0 ++ dktX4_pageOf_1
theorem dksX4_pageOf_0 : cX4_pageOf.data.toList.drop 0 = dktX4_pageOf_0 := by decide +kernel
theorem dksX4_pageOf_1 : cX4_pageOf.data.toList.drop 24 = dktX4_pageOf_1 := dk_seg dksX4_pageOf_0 24 rfl rfl
theorem dksX4_pageOf_2 : cX4_pageOf.data.toList.drop 47 = dktX4_pageOf_2 := dk_seg dksX4_pageOf_1 23 rfl rfl
theorem dX4_pageOf_0 : decode cX4_pageOf 0 = .ok (.iconst 0, 1) := dk_3 (dk_at dksX4_pageOf_0 0 rfl rfl)
theorem dX4_pageOf_1 : decode cX4_pageOf 1 = .ok (.istore_n 2, 1) := dk_61 (dk_at dksX4_pageOf_0 1 rfl rfl)
theorem dX4_pageOf_2 : decode cX4_pageOf 2 = .ok (.iload_n 2, 1) := dk_28 (dk_at dksX4_pageOf_0 2 rfl rfl)
theorem dX4_pageOf_3 : decode cX4_pageOf 3 = .ok (.aload_n 0, 1) := dk_42 (dk_at dksX4_pageOf_0 3 rfl rfl)
theorem dX4_pageOf_4 : decode cX4_pageOf 4 = .ok (.getfield 12, 3) := dk_180 0 12 (dk_at dksX4_pageOf_0 4 rfl rfl)
theorem dX4_pageOf_7 : decode cX4_pageOf 7 = .ok (.invokevirtual 18, 3) := dk_182 0 18 (dk_at dksX4_pageOf_0 7 rfl rfl)
theorem dX4_pageOf_10 : decode cX4_pageOf 10 = .ok (.if_icmp .ge 40, 3) := dk_162 0 40 (dk_at dksX4_pageOf_0 10 rfl rfl)
theorem dX4_pageOf_13 : decode cX4_pageOf 13 = .ok (.aload_n 0, 1) := dk_42 (dk_at dksX4_pageOf_0 13 rfl rfl)
theorem dX4_pageOf_14 : decode cX4_pageOf 14 = .ok (.getfield 12, 3) := dk_180 0 12 (dk_at dksX4_pageOf_0 14 rfl rfl)
theorem dX4_pageOf_17 : decode cX4_pageOf 17 = .ok (.iload_n 2, 1) := dk_28 (dk_at dksX4_pageOf_0 17 rfl rfl)
theorem dX4_pageOf_18 : decode cX4_pageOf 18 = .ok (.invokevirtual 22, 3) := dk_182 0 22 (dk_at dksX4_pageOf_0 18 rfl rfl)
theorem dX4_pageOf_21 : decode cX4_pageOf 21 = .ok (.checkcast 26, 3) := dk_192 0 26 (dk_at dksX4_pageOf_0 21 rfl rfl)
theorem dX4_pageOf_24 : decode cX4_pageOf 24 = .ok (.iload_n 1, 1) := dk_27 (dk_at dksX4_pageOf_1 0 rfl rfl)
theorem dX4_pageOf_25 : decode cX4_pageOf 25 = .ok (.invokestatic 35, 3) := dk_184 0 35 (dk_at dksX4_pageOf_1 1 rfl rfl)
theorem dX4_pageOf_28 : decode cX4_pageOf 28 = .ok (.iconst (-1), 1) := dk_2 (dk_at dksX4_pageOf_1 4 rfl rfl)
theorem dX4_pageOf_29 : decode cX4_pageOf 29 = .ok (.if_icmp .eq 15, 3) := dk_159 0 15 (dk_at dksX4_pageOf_1 5 rfl rfl)
theorem dX4_pageOf_32 : decode cX4_pageOf 32 = .ok (.aload_n 0, 1) := dk_42 (dk_at dksX4_pageOf_1 8 rfl rfl)
theorem dX4_pageOf_33 : decode cX4_pageOf 33 = .ok (.getfield 12, 3) := dk_180 0 12 (dk_at dksX4_pageOf_1 9 rfl rfl)
theorem dX4_pageOf_36 : decode cX4_pageOf 36 = .ok (.iload_n 2, 1) := dk_28 (dk_at dksX4_pageOf_1 12 rfl rfl)
theorem dX4_pageOf_37 : decode cX4_pageOf 37 = .ok (.invokevirtual 22, 3) := dk_182 0 22 (dk_at dksX4_pageOf_1 13 rfl rfl)
theorem dX4_pageOf_40 : decode cX4_pageOf 40 = .ok (.checkcast 26, 3) := dk_192 0 26 (dk_at dksX4_pageOf_1 16 rfl rfl)
theorem dX4_pageOf_43 : decode cX4_pageOf 43 = .ok (.areturn, 1) := dk_176 (dk_at dksX4_pageOf_1 19 rfl rfl)
theorem dX4_pageOf_44 : decode cX4_pageOf 44 = .ok (.iinc 2 1, 3) := dk_132 2 1 (dk_at dksX4_pageOf_1 20 rfl rfl)
theorem dX4_pageOf_47 : decode cX4_pageOf 47 = .ok (.goto (-45), 3) := dk_167 255 211 (dk_at dksX4_pageOf_2 0 rfl rfl)
theorem dX4_pageOf_50 : decode cX4_pageOf 50 = .ok (.aconst_null, 1) := dk_1 (dk_at dksX4_pageOf_2 3 rfl rfl)
theorem dX4_pageOf_51 : decode cX4_pageOf 51 = .ok (.areturn, 1) := dk_176 (dk_at dksX4_pageOf_2 4 rfl rfl)
abbrev cX4_last : ByteArray := prog_4_method_2_code
def yX4_last : MethodName := ⟨RX4, "last", "()LSplitpointer$Page;"⟩
def dkwX4_last_0 : List UInt8 := [42, 180, 0, 12, 42, 180, 0, 12, 182, 0, 18, 4, 100, 182, 0, 22, 192, 0, 26, 176]
abbrev dktX4_last_0 : List UInt8 := dkwX4_last_0 ++ []
theorem dksX4_last_0 : cX4_last.data.toList.drop 0 = dktX4_last_0 := by decide +kernel
theorem dX4_last_0 : decode cX4_last 0 = .ok (.aload_n 0, 1) := dk_42 (dk_at dksX4_last_0 0 rfl rfl)
theorem dX4_last_1 : decode cX4_last 1 = .ok (.getfield 12, 3) := dk_180 0 12 (dk_at dksX4_last_0 1 rfl rfl)
theorem dX4_last_4 : decode cX4_last 4 = .ok (.aload_n 0, 1) := dk_42 (dk_at dksX4_last_0 4 rfl rfl)
theorem dX4_last_5 : decode cX4_last 5 = .ok (.getfield 12, 3) := dk_180 0 12 (dk_at dksX4_last_0 5 rfl rfl)
theorem dX4_last_8 : decode cX4_last 8 = .ok (.invokevirtual 18, 3) := dk_182 0 18 (dk_at dksX4_last_0 8 rfl rfl)
theorem dX4_last_11 : decode cX4_last 11 = .ok (.iconst 1, 1) := dk_4 (dk_at dksX4_last_0 11 rfl rfl)
theorem dX4_last_12 : decode cX4_last 12 = .ok (.isub, 1) := dk_100 (dk_at dksX4_last_0 12 rfl rfl)
theorem dX4_last_13 : decode cX4_last 13 = .ok (.invokevirtual 22, 3) := dk_182 0 22 (dk_at dksX4_last_0 13 rfl rfl)
theorem dX4_last_16 : decode cX4_last 16 = .ok (.checkcast 26, 3) := dk_192 0 26 (dk_at dksX4_last_0 16 rfl rfl)
theorem dX4_last_19 : decode cX4_last 19 = .ok (.areturn, 1) := dk_176 (dk_at dksX4_last_0 19 rfl rfl)
abbrev cX4_all : ByteArray := prog_4_method_4_code
def yX4_all : MethodName := ⟨RX4, "all", "()Ljava/util/ArrayList;"⟩
def dkwX4_all_2 : List UInt8 := [176]
abbrev dktX4_all_2 : List UInt8 := dkwX4_all_2 ++ []
def dkwX4_all_1 : List UInt8 := [180, 0, 12, 28, 182, 0, 22, 192, 0, 26, 180, 0, 28, 182, 0, 31, 87, 132, 2, 1, 167, 255, 223, 43]
abbrev dktX4_all_1 : List UInt8 := dkwX4_all_1 ++ dktX4_all_2
def dkwX4_all_0 : List UInt8 := [187, 0, 9, 89, 183, 0, 11, 76, 3, 61, 28, 42, 180, 0, 12, 182, 0, 18, 162, 0, 28, 43, 42]
abbrev dktX4_all_0 : List UInt8 := dkwX4_all_0 ++ dktX4_all_1
theorem dksX4_all_0 : cX4_all.data.toList.drop 0 = dktX4_all_0 := by decide +kernel
theorem dksX4_all_1 : cX4_all.data.toList.drop 23 = dktX4_all_1 := dk_seg dksX4_all_0 23 rfl rfl
theorem dksX4_all_2 : cX4_all.data.toList.drop 47 = dktX4_all_2 := dk_seg dksX4_all_1 24 rfl rfl
theorem dX4_all_0 : decode cX4_all 0 = .ok (.new 9, 3) := dk_187 0 9 (dk_at dksX4_all_0 0 rfl rfl)
theorem dX4_all_3 : decode cX4_all 3 = .ok (.dup, 1) := dk_89 (dk_at dksX4_all_0 3 rfl rfl)
theorem dX4_all_4 : decode cX4_all 4 = .ok (.invokespecial 11, 3) := dk_183 0 11 (dk_at dksX4_all_0 4 rfl rfl)
theorem dX4_all_7 : decode cX4_all 7 = .ok (.astore_n 1, 1) := dk_76 (dk_at dksX4_all_0 7 rfl rfl)
theorem dX4_all_8 : decode cX4_all 8 = .ok (.iconst 0, 1) := dk_3 (dk_at dksX4_all_0 8 rfl rfl)
theorem dX4_all_9 : decode cX4_all 9 = .ok (.istore_n 2, 1) := dk_61 (dk_at dksX4_all_0 9 rfl rfl)
theorem dX4_all_10 : decode cX4_all 10 = .ok (.iload_n 2, 1) := dk_28 (dk_at dksX4_all_0 10 rfl rfl)
theorem dX4_all_11 : decode cX4_all 11 = .ok (.aload_n 0, 1) := dk_42 (dk_at dksX4_all_0 11 rfl rfl)
theorem dX4_all_12 : decode cX4_all 12 = .ok (.getfield 12, 3) := dk_180 0 12 (dk_at dksX4_all_0 12 rfl rfl)
theorem dX4_all_15 : decode cX4_all 15 = .ok (.invokevirtual 18, 3) := dk_182 0 18 (dk_at dksX4_all_0 15 rfl rfl)
theorem dX4_all_18 : decode cX4_all 18 = .ok (.if_icmp .ge 28, 3) := dk_162 0 28 (dk_at dksX4_all_0 18 rfl rfl)
theorem dX4_all_21 : decode cX4_all 21 = .ok (.aload_n 1, 1) := dk_43 (dk_at dksX4_all_0 21 rfl rfl)
theorem dX4_all_22 : decode cX4_all 22 = .ok (.aload_n 0, 1) := dk_42 (dk_at dksX4_all_0 22 rfl rfl)
theorem dX4_all_23 : decode cX4_all 23 = .ok (.getfield 12, 3) := dk_180 0 12 (dk_at dksX4_all_1 0 rfl rfl)
theorem dX4_all_26 : decode cX4_all 26 = .ok (.iload_n 2, 1) := dk_28 (dk_at dksX4_all_1 3 rfl rfl)
theorem dX4_all_27 : decode cX4_all 27 = .ok (.invokevirtual 22, 3) := dk_182 0 22 (dk_at dksX4_all_1 4 rfl rfl)
theorem dX4_all_30 : decode cX4_all 30 = .ok (.checkcast 26, 3) := dk_192 0 26 (dk_at dksX4_all_1 7 rfl rfl)
theorem dX4_all_33 : decode cX4_all 33 = .ok (.getfield 28, 3) := dk_180 0 28 (dk_at dksX4_all_1 10 rfl rfl)
theorem dX4_all_36 : decode cX4_all 36 = .ok (.invokevirtual 31, 3) := dk_182 0 31 (dk_at dksX4_all_1 13 rfl rfl)
theorem dX4_all_39 : decode cX4_all 39 = .ok (.pop, 1) := dk_87 (dk_at dksX4_all_1 16 rfl rfl)
theorem dX4_all_40 : decode cX4_all 40 = .ok (.iinc 2 1, 3) := dk_132 2 1 (dk_at dksX4_all_1 17 rfl rfl)
theorem dX4_all_43 : decode cX4_all 43 = .ok (.goto (-33), 3) := dk_167 255 223 (dk_at dksX4_all_1 20 rfl rfl)
theorem dX4_all_46 : decode cX4_all 46 = .ok (.aload_n 1, 1) := dk_43 (dk_at dksX4_all_1 23 rfl rfl)
theorem dX4_all_47 : decode cX4_all 47 = .ok (.areturn, 1) := dk_176 (dk_at dksX4_all_2 0 rfl rfl)
abbrev cX4_lets : ByteArray := prog_4_method_6_code
def yX4_lets : MethodName := ⟨RX4, "lets", "(I)Z"⟩
def dkwX4_lets_0 : List UInt8 := [42, 180, 0, 39, 27, 184, 0, 43, 126, 27, 184, 0, 43, 160, 0, 7, 4, 167, 0, 4, 3, 172]
abbrev dktX4_lets_0 : List UInt8 := dkwX4_lets_0 ++ []
theorem dksX4_lets_0 : cX4_lets.data.toList.drop 0 = dktX4_lets_0 := by decide +kernel
theorem dX4_lets_0 : decode cX4_lets 0 = .ok (.aload_n 0, 1) := dk_42 (dk_at dksX4_lets_0 0 rfl rfl)
theorem dX4_lets_1 : decode cX4_lets 1 = .ok (.getfield 39, 3) := dk_180 0 39 (dk_at dksX4_lets_0 1 rfl rfl)
theorem dX4_lets_4 : decode cX4_lets 4 = .ok (.iload_n 1, 1) := dk_27 (dk_at dksX4_lets_0 4 rfl rfl)
theorem dX4_lets_5 : decode cX4_lets 5 = .ok (.invokestatic 43, 3) := dk_184 0 43 (dk_at dksX4_lets_0 5 rfl rfl)
theorem dX4_lets_8 : decode cX4_lets 8 = .ok (.iand, 1) := dk_126 (dk_at dksX4_lets_0 8 rfl rfl)
theorem dX4_lets_9 : decode cX4_lets 9 = .ok (.iload_n 1, 1) := dk_27 (dk_at dksX4_lets_0 9 rfl rfl)
theorem dX4_lets_10 : decode cX4_lets 10 = .ok (.invokestatic 43, 3) := dk_184 0 43 (dk_at dksX4_lets_0 10 rfl rfl)
theorem dX4_lets_13 : decode cX4_lets 13 = .ok (.if_icmp .ne 7, 3) := dk_160 0 7 (dk_at dksX4_lets_0 13 rfl rfl)
theorem dX4_lets_16 : decode cX4_lets 16 = .ok (.iconst 1, 1) := dk_4 (dk_at dksX4_lets_0 16 rfl rfl)
theorem dX4_lets_17 : decode cX4_lets 17 = .ok (.goto 4, 3) := dk_167 0 4 (dk_at dksX4_lets_0 17 rfl rfl)
theorem dX4_lets_20 : decode cX4_lets 20 = .ok (.iconst 0, 1) := dk_3 (dk_at dksX4_lets_0 20 rfl rfl)
theorem dX4_lets_21 : decode cX4_lets 21 = .ok (.ireturn, 1) := dk_172 (dk_at dksX4_lets_0 21 rfl rfl)
abbrev cX4_size : ByteArray := prog_4_method_3_code
def yX4_size : MethodName := ⟨RX4, "size", "()I"⟩
def dkwX4_size_1 : List UInt8 := [192, 0, 26, 180, 0, 28, 182, 0, 18, 96, 60, 132, 2, 1, 167, 255, 222, 27, 172]
abbrev dktX4_size_1 : List UInt8 := dkwX4_size_1 ++ []
def dkwX4_size_0 : List UInt8 := [3, 60, 3, 61, 28, 42, 180, 0, 12, 182, 0, 18, 162, 0, 29, 27, 42, 180, 0, 12, 28, 182, 0, 22]
abbrev dktX4_size_0 : List UInt8 := dkwX4_size_0 ++ dktX4_size_1
theorem dksX4_size_0 : cX4_size.data.toList.drop 0 = dktX4_size_0 := by decide +kernel
theorem dksX4_size_1 : cX4_size.data.toList.drop 24 = dktX4_size_1 := dk_seg dksX4_size_0 24 rfl rfl
theorem dX4_size_0 : decode cX4_size 0 = .ok (.iconst 0, 1) := dk_3 (dk_at dksX4_size_0 0 rfl rfl)
theorem dX4_size_1 : decode cX4_size 1 = .ok (.istore_n 1, 1) := dk_60 (dk_at dksX4_size_0 1 rfl rfl)
theorem dX4_size_2 : decode cX4_size 2 = .ok (.iconst 0, 1) := dk_3 (dk_at dksX4_size_0 2 rfl rfl)
theorem dX4_size_3 : decode cX4_size 3 = .ok (.istore_n 2, 1) := dk_61 (dk_at dksX4_size_0 3 rfl rfl)
theorem dX4_size_4 : decode cX4_size 4 = .ok (.iload_n 2, 1) := dk_28 (dk_at dksX4_size_0 4 rfl rfl)
theorem dX4_size_5 : decode cX4_size 5 = .ok (.aload_n 0, 1) := dk_42 (dk_at dksX4_size_0 5 rfl rfl)
theorem dX4_size_6 : decode cX4_size 6 = .ok (.getfield 12, 3) := dk_180 0 12 (dk_at dksX4_size_0 6 rfl rfl)
theorem dX4_size_9 : decode cX4_size 9 = .ok (.invokevirtual 18, 3) := dk_182 0 18 (dk_at dksX4_size_0 9 rfl rfl)
theorem dX4_size_12 : decode cX4_size 12 = .ok (.if_icmp .ge 29, 3) := dk_162 0 29 (dk_at dksX4_size_0 12 rfl rfl)
theorem dX4_size_15 : decode cX4_size 15 = .ok (.iload_n 1, 1) := dk_27 (dk_at dksX4_size_0 15 rfl rfl)
theorem dX4_size_16 : decode cX4_size 16 = .ok (.aload_n 0, 1) := dk_42 (dk_at dksX4_size_0 16 rfl rfl)
theorem dX4_size_17 : decode cX4_size 17 = .ok (.getfield 12, 3) := dk_180 0 12 (dk_at dksX4_size_0 17 rfl rfl)
theorem dX4_size_20 : decode cX4_size 20 = .ok (.iload_n 2, 1) := dk_28 (dk_at dksX4_size_0 20 rfl rfl)
theorem dX4_size_21 : decode cX4_size 21 = .ok (.invokevirtual 22, 3) := dk_182 0 22 (dk_at dksX4_size_0 21 rfl rfl)
theorem dX4_size_24 : decode cX4_size 24 = .ok (.checkcast 26, 3) := dk_192 0 26 (dk_at dksX4_size_1 0 rfl rfl)
theorem dX4_size_27 : decode cX4_size 27 = .ok (.getfield 28, 3) := dk_180 0 28 (dk_at dksX4_size_1 3 rfl rfl)
theorem dX4_size_30 : decode cX4_size 30 = .ok (.invokevirtual 18, 3) := dk_182 0 18 (dk_at dksX4_size_1 6 rfl rfl)
theorem dX4_size_33 : decode cX4_size 33 = .ok (.iadd, 1) := dk_96 (dk_at dksX4_size_1 9 rfl rfl)
theorem dX4_size_34 : decode cX4_size 34 = .ok (.istore_n 1, 1) := dk_60 (dk_at dksX4_size_1 10 rfl rfl)
theorem dX4_size_35 : decode cX4_size 35 = .ok (.iinc 2 1, 3) := dk_132 2 1 (dk_at dksX4_size_1 11 rfl rfl)
theorem dX4_size_38 : decode cX4_size 38 = .ok (.goto (-34), 3) := dk_167 255 222 (dk_at dksX4_size_1 14 rfl rfl)
theorem dX4_size_41 : decode cX4_size 41 = .ok (.iload_n 1, 1) := dk_27 (dk_at dksX4_size_1 17 rfl rfl)
theorem dX4_size_42 : decode cX4_size 42 = .ok (.ireturn, 1) := dk_172 (dk_at dksX4_size_1 18 rfl rfl)
theorem q70 : (Jvm.Cond.initialized "Splitpointer$Bucket") ∈ lw_all := lw_g (lw_at lw_m1 7 rfl) rfl
theorem q175 : (Jvm.Cond.instantiable "Splitpointer$Bucket" (2 : Nat)) ∈ lw_all := lw_g (lw_at lw_m1 112 rfl) rfl
theorem q177 : (Jvm.Cond.instanceMethod ({ cls := "Splitpointer$Bucket", name := "<init>", desc := "()V" } : Jvm.MethodName)) ∈ lw_all := lw_g (lw_at lw_m1 114 rfl) rfl
theorem q178 : (Jvm.Cond.code ({ cls := "Splitpointer$Bucket", name := "<init>", desc := "()V" } : Jvm.MethodName) prog_4_method_1_code (1 : Nat) (Option.none : Option Jvm.ClassFile.FieldType)) ∈ lw_all := lw_g (lw_at lw_m1 115 rfl) rfl
theorem q179 : (Jvm.Cond.methodLink "Splitpointer$Bucket" (3 : Nat) ({ cls := "java/lang/Object", name := "<init>", desc := "()V" } : Jvm.MethodName)) ∈ lw_all := lw_g (lw_at lw_m1 116 rfl) rfl
theorem q180 : (Jvm.Cond.classLink "Splitpointer$Bucket" (9 : Nat) "java/util/ArrayList") ∈ lw_all := lw_g (lw_at lw_m1 117 rfl) rfl
theorem q181 : (Jvm.Cond.methodLink "Splitpointer$Bucket" (11 : Nat) ({ cls := "java/util/ArrayList", name := "<init>", desc := "()V" } : Jvm.MethodName)) ∈ lw_all := lw_g (lw_at lw_m1 118 rfl) rfl
theorem q182 : (Jvm.Cond.fieldLink "Splitpointer$Bucket" (12 : Nat) "Splitpointer$Bucket" "chain" "Ljava/util/ArrayList;") ∈ lw_all := lw_g (lw_at lw_m1 119 rfl) rfl
theorem q185 : (Jvm.Cond.fieldLink "Splitpointer$Bucket" (39 : Nat) "Splitpointer$Bucket" "filter" "I") ∈ lw_all := lw_g (lw_at lw_m1 122 rfl) rfl
theorem q188 : (Jvm.Cond.laysFinal "Splitpointer$Bucket" "Splitpointer$Bucket" "chain" "Ljava/util/ArrayList;") ∈ lw_all := lw_g (lw_at lw_m1 125 rfl) rfl
theorem q189 : (Jvm.Cond.soleField "Splitpointer$Bucket" "chain") ∈ lw_all := lw_g (lw_at lw_m1 126 rfl) rfl
theorem q190 : (Jvm.Cond.lays "Splitpointer$Bucket" "Splitpointer$Bucket" "filter" "I") ∈ lw_all := lw_g (lw_at lw_m1 127 rfl) rfl
theorem q191 : (Jvm.Cond.soleField "Splitpointer$Bucket" "filter") ∈ lw_all := lw_g (lw_at lw_m1 128 rfl) rfl
theorem q192 : (Jvm.Cond.superclass "Splitpointer$Bucket" "java/lang/Object") ∈ lw_all := lw_g (lw_at lw_m1 129 rfl) rfl
theorem q210 : (Jvm.Cond.fieldLink "Splitpointer$Bucket" (28 : Nat) "Splitpointer$Page" "rows" "Ljava/util/ArrayList;") ∈ lw_all := lw_g (lw_at lw_m1 147 rfl) rfl
theorem q252 : (Jvm.Cond.selects "Splitpointer$Bucket" ({ cls := "java/lang/Object", name := "getClass", desc := "()Ljava/lang/Class;" } : Jvm.MethodName) ({ cls := "java/lang/Object", name := "getClass", desc := "()Ljava/lang/Class;" } : Jvm.MethodName)) ∈ lw_all := lw_g (lw_at lw_m1 189 rfl) rfl
theorem q508 : (Jvm.Cond.instanceMethod ({ cls := "Splitpointer$Bucket", name := "pageOf", desc := "(I)LSplitpointer$Page;" } : Jvm.MethodName)) ∈ lw_all := lw_g (lw_at lw_m2 205 rfl) rfl
theorem q509 : (Jvm.Cond.selects "Splitpointer$Bucket" ({ cls := "Splitpointer$Bucket", name := "pageOf", desc := "(I)LSplitpointer$Page;" } : Jvm.MethodName) ({ cls := "Splitpointer$Bucket", name := "pageOf", desc := "(I)LSplitpointer$Page;" } : Jvm.MethodName)) ∈ lw_all := lw_g (lw_at lw_m2 206 rfl) rfl
theorem q510 : (Jvm.Cond.code ({ cls := "Splitpointer$Bucket", name := "pageOf", desc := "(I)LSplitpointer$Page;" } : Jvm.MethodName) prog_4_method_5_code (3 : Nat) (Option.some (Jvm.ClassFile.FieldType.object "Splitpointer$Page"))) ∈ lw_all := lw_g (lw_at lw_m2 207 rfl) rfl
theorem q511 : (Jvm.Cond.methodLink "Splitpointer$Bucket" (18 : Nat) ({ cls := "java/util/ArrayList", name := "size", desc := "()I" } : Jvm.MethodName)) ∈ lw_all := lw_g (lw_at lw_m2 208 rfl) rfl
theorem q512 : (Jvm.Cond.methodLink "Splitpointer$Bucket" (22 : Nat) ({ cls := "java/util/ArrayList", name := "get", desc := "(I)Ljava/lang/Object;" } : Jvm.MethodName)) ∈ lw_all := lw_g (lw_at lw_m2 209 rfl) rfl
theorem q513 : (Jvm.Cond.classLink "Splitpointer$Bucket" (26 : Nat) "Splitpointer$Page") ∈ lw_all := lw_g (lw_at lw_m2 210 rfl) rfl
theorem q514 : (Jvm.Cond.methodLinkNest "Splitpointer$Bucket" (35 : Nat) ({ cls := "Splitpointer", name := "placeIn", desc := "(LSplitpointer$Page;I)I" } : Jvm.MethodName) "Splitpointer") ∈ lw_tbl := lw_at lw_m2 211 rfl
theorem q519 : (Jvm.Cond.instanceMethod ({ cls := "Splitpointer$Bucket", name := "last", desc := "()LSplitpointer$Page;" } : Jvm.MethodName)) ∈ lw_all := lw_g (lw_at lw_m2 216 rfl) rfl
theorem q520 : (Jvm.Cond.selects "Splitpointer$Bucket" ({ cls := "Splitpointer$Bucket", name := "last", desc := "()LSplitpointer$Page;" } : Jvm.MethodName) ({ cls := "Splitpointer$Bucket", name := "last", desc := "()LSplitpointer$Page;" } : Jvm.MethodName)) ∈ lw_all := lw_g (lw_at lw_m2 217 rfl) rfl
theorem q521 : (Jvm.Cond.code ({ cls := "Splitpointer$Bucket", name := "last", desc := "()LSplitpointer$Page;" } : Jvm.MethodName) prog_4_method_2_code (1 : Nat) (Option.some (Jvm.ClassFile.FieldType.object "Splitpointer$Page"))) ∈ lw_all := lw_g (lw_at lw_m2 218 rfl) rfl
theorem q564 : (Jvm.Cond.instanceMethod ({ cls := "Splitpointer$Bucket", name := "all", desc := "()Ljava/util/ArrayList;" } : Jvm.MethodName)) ∈ lw_all := lw_g (lw_at lw_m3 21 rfl) rfl
theorem q565 : (Jvm.Cond.selects "Splitpointer$Bucket" ({ cls := "Splitpointer$Bucket", name := "all", desc := "()Ljava/util/ArrayList;" } : Jvm.MethodName) ({ cls := "Splitpointer$Bucket", name := "all", desc := "()Ljava/util/ArrayList;" } : Jvm.MethodName)) ∈ lw_all := lw_g (lw_at lw_m3 22 rfl) rfl
theorem q566 : (Jvm.Cond.code ({ cls := "Splitpointer$Bucket", name := "all", desc := "()Ljava/util/ArrayList;" } : Jvm.MethodName) prog_4_method_4_code (3 : Nat) (Option.some (Jvm.ClassFile.FieldType.object "java/util/ArrayList"))) ∈ lw_all := lw_g (lw_at lw_m3 23 rfl) rfl
theorem q567 : (Jvm.Cond.methodLink "Splitpointer$Bucket" (31 : Nat) ({ cls := "java/util/ArrayList", name := "addAll", desc := "(Ljava/util/Collection;)Z" } : Jvm.MethodName)) ∈ lw_all := lw_g (lw_at lw_m3 24 rfl) rfl
theorem q649 : (Jvm.Cond.instanceMethod ({ cls := "Splitpointer$Bucket", name := "lets", desc := "(I)Z" } : Jvm.MethodName)) ∈ lw_all := lw_g (lw_at lw_m3 106 rfl) rfl
theorem q650 : (Jvm.Cond.selects "Splitpointer$Bucket" ({ cls := "Splitpointer$Bucket", name := "lets", desc := "(I)Z" } : Jvm.MethodName) ({ cls := "Splitpointer$Bucket", name := "lets", desc := "(I)Z" } : Jvm.MethodName)) ∈ lw_all := lw_g (lw_at lw_m3 107 rfl) rfl
theorem q651 : (Jvm.Cond.code ({ cls := "Splitpointer$Bucket", name := "lets", desc := "(I)Z" } : Jvm.MethodName) prog_4_method_6_code (2 : Nat) (Option.some Jvm.ClassFile.FieldType.boolean)) ∈ lw_all := lw_g (lw_at lw_m3 108 rfl) rfl
theorem q652 : (Jvm.Cond.methodLinkNest "Splitpointer$Bucket" (43 : Nat) ({ cls := "Splitpointer", name := "marks", desc := "(I)I" } : Jvm.MethodName) "Splitpointer") ∈ lw_tbl := lw_at lw_m3 109 rfl
theorem q659 : (Jvm.Cond.instanceMethod ({ cls := "Splitpointer$Bucket", name := "size", desc := "()I" } : Jvm.MethodName)) ∈ lw_all := lw_g (lw_at lw_m3 116 rfl) rfl
theorem q660 : (Jvm.Cond.selects "Splitpointer$Bucket" ({ cls := "Splitpointer$Bucket", name := "size", desc := "()I" } : Jvm.MethodName) ({ cls := "Splitpointer$Bucket", name := "size", desc := "()I" } : Jvm.MethodName)) ∈ lw_all := lw_g (lw_at lw_m3 117 rfl) rfl
theorem q661 : (Jvm.Cond.code ({ cls := "Splitpointer$Bucket", name := "size", desc := "()I" } : Jvm.MethodName) prog_4_method_3_code (3 : Nat) (Option.some Jvm.ClassFile.FieldType.int)) ∈ lw_all := lw_g (lw_at lw_m3 118 rfl) rfl
theorem q1528 : (Jvm.Cond.selects "Splitpointer$Bucket" ({ cls := "java/lang/Object", name := "equals", desc := "(Ljava/lang/Object;)Z" } : Jvm.MethodName) ({ cls := "java/lang/Object", name := "equals", desc := "(Ljava/lang/Object;)Z" } : Jvm.MethodName)) ∈ lw_all := lw_g (lw_at lw_m7 25 rfl) rfl
theorem q2067 : (Jvm.Cond.castable "Splitpointer$Bucket" "java/lang/Object") ∈ lw_tbl := lw_at lw_m9 84 rfl
theorem in_X4 : ∀ w ∈ wsX40, w ∈ lw_all := lw_in wsX40 [188, 190] (by decide +kernel) (by decide +kernel)
/-! Splitpointer$Page -/
set_option maxRecDepth 100000
def RX5 : String := "Splitpointer$Page"
def TX5 : u_T := fun k => match k with
  | 0 => ("Splitpointer$Page", "number", "I", true)
  | _ => ("Splitpointer$Page", "rows", "Ljava/util/ArrayList;", true)
def tyX5 : Nat → FieldType := fun k => match k with
  | 0 => .int
  | _ => .object "java/util/ArrayList"
abbrev wsX50 : List Cond := u_ws RX5 TX5 2
theorem nmX5 : ∀ a, a < 2 → ∀ b, b < 2 → a ≠ b → (TX5 a).2.1 ≠ (TX5 b).2.1 := by decide +kernel
theorem tyX5_ok : ∀ k, k < 2 → parseFieldDescriptor (TX5 k).2.2.1 = some (tyX5 k) := by decide +kernel
abbrev cX5_init : ByteArray := prog_9_method_1_code
def yX5_init : MethodName := ⟨RX5, "<init>", "(I)V"⟩
def dkwX5_init_0 : List UInt8 := [42, 183, 0, 1, 42, 187, 0, 7, 89, 183, 0, 9, 181, 0, 10, 42, 27, 181, 0, 16, 177]
abbrev dktX5_init_0 : List UInt8 := dkwX5_init_0 ++ []
theorem dksX5_init_0 : cX5_init.data.toList.drop 0 = dktX5_init_0 := by decide +kernel
theorem dX5_init_0 : decode cX5_init 0 = .ok (.aload_n 0, 1) := dk_42 (dk_at dksX5_init_0 0 rfl rfl)
theorem dX5_init_1 : decode cX5_init 1 = .ok (.invokespecial 1, 3) := dk_183 0 1 (dk_at dksX5_init_0 1 rfl rfl)
theorem dX5_init_4 : decode cX5_init 4 = .ok (.aload_n 0, 1) := dk_42 (dk_at dksX5_init_0 4 rfl rfl)
theorem dX5_init_5 : decode cX5_init 5 = .ok (.new 7, 3) := dk_187 0 7 (dk_at dksX5_init_0 5 rfl rfl)
theorem dX5_init_8 : decode cX5_init 8 = .ok (.dup, 1) := dk_89 (dk_at dksX5_init_0 8 rfl rfl)
theorem dX5_init_9 : decode cX5_init 9 = .ok (.invokespecial 9, 3) := dk_183 0 9 (dk_at dksX5_init_0 9 rfl rfl)
theorem dX5_init_12 : decode cX5_init 12 = .ok (.putfield 10, 3) := dk_181 0 10 (dk_at dksX5_init_0 12 rfl rfl)
theorem dX5_init_15 : decode cX5_init 15 = .ok (.aload_n 0, 1) := dk_42 (dk_at dksX5_init_0 15 rfl rfl)
theorem dX5_init_16 : decode cX5_init 16 = .ok (.iload_n 1, 1) := dk_27 (dk_at dksX5_init_0 16 rfl rfl)
theorem dX5_init_17 : decode cX5_init 17 = .ok (.putfield 16, 3) := dk_181 0 16 (dk_at dksX5_init_0 17 rfl rfl)
theorem dX5_init_20 : decode cX5_init 20 = .ok (.return_, 1) := dk_177 (dk_at dksX5_init_0 20 rfl rfl)
abbrev cX5_last : ByteArray := prog_9_method_2_code
def yX5_last : MethodName := ⟨RX5, "last", "()LSplitpointer$Entry;"⟩
def dkwX5_last_0 : List UInt8 := [42, 180, 0, 10, 42, 180, 0, 10, 182, 0, 20, 4, 100, 182, 0, 24, 192, 0, 28, 176]
abbrev dktX5_last_0 : List UInt8 := dkwX5_last_0 ++ []
theorem dksX5_last_0 : cX5_last.data.toList.drop 0 = dktX5_last_0 := by decide +kernel
theorem dX5_last_0 : decode cX5_last 0 = .ok (.aload_n 0, 1) := dk_42 (dk_at dksX5_last_0 0 rfl rfl)
theorem dX5_last_1 : decode cX5_last 1 = .ok (.getfield 10, 3) := dk_180 0 10 (dk_at dksX5_last_0 1 rfl rfl)
theorem dX5_last_4 : decode cX5_last 4 = .ok (.aload_n 0, 1) := dk_42 (dk_at dksX5_last_0 4 rfl rfl)
theorem dX5_last_5 : decode cX5_last 5 = .ok (.getfield 10, 3) := dk_180 0 10 (dk_at dksX5_last_0 5 rfl rfl)
theorem dX5_last_8 : decode cX5_last 8 = .ok (.invokevirtual 20, 3) := dk_182 0 20 (dk_at dksX5_last_0 8 rfl rfl)
theorem dX5_last_11 : decode cX5_last 11 = .ok (.iconst 1, 1) := dk_4 (dk_at dksX5_last_0 11 rfl rfl)
theorem dX5_last_12 : decode cX5_last 12 = .ok (.isub, 1) := dk_100 (dk_at dksX5_last_0 12 rfl rfl)
theorem dX5_last_13 : decode cX5_last 13 = .ok (.invokevirtual 24, 3) := dk_182 0 24 (dk_at dksX5_last_0 13 rfl rfl)
theorem dX5_last_16 : decode cX5_last 16 = .ok (.checkcast 28, 3) := dk_192 0 28 (dk_at dksX5_last_0 16 rfl rfl)
theorem dX5_last_19 : decode cX5_last 19 = .ok (.areturn, 1) := dk_176 (dk_at dksX5_last_0 19 rfl rfl)
theorem q71 : (Jvm.Cond.initialized "Splitpointer$Page") ∈ lw_all := lw_g (lw_at lw_m1 8 rfl) rfl
theorem q199 : (Jvm.Cond.instantiable "Splitpointer$Page" (2 : Nat)) ∈ lw_all := lw_g (lw_at lw_m1 136 rfl) rfl
theorem q201 : (Jvm.Cond.instanceMethod ({ cls := "Splitpointer$Page", name := "<init>", desc := "(I)V" } : Jvm.MethodName)) ∈ lw_all := lw_g (lw_at lw_m1 138 rfl) rfl
theorem q202 : (Jvm.Cond.code ({ cls := "Splitpointer$Page", name := "<init>", desc := "(I)V" } : Jvm.MethodName) prog_9_method_1_code (2 : Nat) (Option.none : Option Jvm.ClassFile.FieldType)) ∈ lw_all := lw_g (lw_at lw_m1 139 rfl) rfl
theorem q203 : (Jvm.Cond.methodLink "Splitpointer$Page" (1 : Nat) ({ cls := "java/lang/Object", name := "<init>", desc := "()V" } : Jvm.MethodName)) ∈ lw_all := lw_g (lw_at lw_m1 140 rfl) rfl
theorem q204 : (Jvm.Cond.classLink "Splitpointer$Page" (7 : Nat) "java/util/ArrayList") ∈ lw_all := lw_g (lw_at lw_m1 141 rfl) rfl
theorem q205 : (Jvm.Cond.methodLink "Splitpointer$Page" (9 : Nat) ({ cls := "java/util/ArrayList", name := "<init>", desc := "()V" } : Jvm.MethodName)) ∈ lw_all := lw_g (lw_at lw_m1 142 rfl) rfl
theorem q206 : (Jvm.Cond.fieldLink "Splitpointer$Page" (16 : Nat) "Splitpointer$Page" "number" "I") ∈ lw_all := lw_g (lw_at lw_m1 143 rfl) rfl
theorem q209 : (Jvm.Cond.fieldLink "Splitpointer$Page" (10 : Nat) "Splitpointer$Page" "rows" "Ljava/util/ArrayList;") ∈ lw_all := lw_g (lw_at lw_m1 146 rfl) rfl
theorem q213 : (Jvm.Cond.laysFinal "Splitpointer$Page" "Splitpointer$Page" "number" "I") ∈ lw_all := lw_g (lw_at lw_m1 150 rfl) rfl
theorem q214 : (Jvm.Cond.soleField "Splitpointer$Page" "number") ∈ lw_all := lw_g (lw_at lw_m1 151 rfl) rfl
theorem q215 : (Jvm.Cond.laysFinal "Splitpointer$Page" "Splitpointer$Page" "rows" "Ljava/util/ArrayList;") ∈ lw_all := lw_g (lw_at lw_m1 152 rfl) rfl
theorem q216 : (Jvm.Cond.soleField "Splitpointer$Page" "rows") ∈ lw_all := lw_g (lw_at lw_m1 153 rfl) rfl
theorem q217 : (Jvm.Cond.superclass "Splitpointer$Page" "java/lang/Object") ∈ lw_all := lw_g (lw_at lw_m1 154 rfl) rfl
theorem q257 : (Jvm.Cond.selects "Splitpointer$Page" ({ cls := "java/lang/Object", name := "getClass", desc := "()Ljava/lang/Class;" } : Jvm.MethodName) ({ cls := "java/lang/Object", name := "getClass", desc := "()Ljava/lang/Class;" } : Jvm.MethodName)) ∈ lw_all := lw_g (lw_at lw_m1 194 rfl) rfl
theorem q524 : (Jvm.Cond.instanceMethod ({ cls := "Splitpointer$Page", name := "last", desc := "()LSplitpointer$Entry;" } : Jvm.MethodName)) ∈ lw_all := lw_g (lw_at lw_m2 221 rfl) rfl
theorem q525 : (Jvm.Cond.selects "Splitpointer$Page" ({ cls := "Splitpointer$Page", name := "last", desc := "()LSplitpointer$Entry;" } : Jvm.MethodName) ({ cls := "Splitpointer$Page", name := "last", desc := "()LSplitpointer$Entry;" } : Jvm.MethodName)) ∈ lw_all := lw_g (lw_at lw_m2 222 rfl) rfl
theorem q526 : (Jvm.Cond.code ({ cls := "Splitpointer$Page", name := "last", desc := "()LSplitpointer$Entry;" } : Jvm.MethodName) prog_9_method_2_code (1 : Nat) (Option.some (Jvm.ClassFile.FieldType.object "Splitpointer$Entry"))) ∈ lw_all := lw_g (lw_at lw_m2 223 rfl) rfl
theorem q527 : (Jvm.Cond.methodLink "Splitpointer$Page" (20 : Nat) ({ cls := "java/util/ArrayList", name := "size", desc := "()I" } : Jvm.MethodName)) ∈ lw_all := lw_g (lw_at lw_m2 224 rfl) rfl
theorem q528 : (Jvm.Cond.methodLink "Splitpointer$Page" (24 : Nat) ({ cls := "java/util/ArrayList", name := "get", desc := "(I)Ljava/lang/Object;" } : Jvm.MethodName)) ∈ lw_all := lw_g (lw_at lw_m2 225 rfl) rfl
theorem q529 : (Jvm.Cond.classLink "Splitpointer$Page" (28 : Nat) "Splitpointer$Entry") ∈ lw_all := lw_g (lw_at lw_m2 226 rfl) rfl
theorem q1533 : (Jvm.Cond.selects "Splitpointer$Page" ({ cls := "java/lang/Object", name := "equals", desc := "(Ljava/lang/Object;)Z" } : Jvm.MethodName) ({ cls := "java/lang/Object", name := "equals", desc := "(Ljava/lang/Object;)Z" } : Jvm.MethodName)) ∈ lw_all := lw_g (lw_at lw_m7 30 rfl) rfl
theorem q2068 : (Jvm.Cond.castable "Splitpointer$Page" "java/lang/Object") ∈ lw_tbl := lw_at lw_m9 85 rfl
theorem in_X5 : ∀ w ∈ wsX50, w ∈ lw_all := lw_in wsX50 [213, 215] (by decide +kernel) (by decide +kernel)
/-! Splitpointer$Client -/
set_option maxRecDepth 100000
def RX6 : String := "Splitpointer$Client"
def TX6 : u_T := fun k => match k with
  | 0 => ("Splitpointer$Client", "level", "I", false)
  | _ => ("Splitpointer$Client", "pointer", "I", false)
def tyX6 : Nat → FieldType := fun k => match k with
  | 0 => .int
  | _ => .int
abbrev wsX60 : List Cond := u_ws RX6 TX6 2
theorem nmX6 : ∀ a, a < 2 → ∀ b, b < 2 → a ≠ b → (TX6 a).2.1 ≠ (TX6 b).2.1 := by decide +kernel
theorem tyX6_ok : ∀ k, k < 2 → parseFieldDescriptor (TX6 k).2.2.1 = some (tyX6 k) := by decide +kernel
abbrev cX6_init : ByteArray := prog_5_method_1_code
def yX6_init : MethodName := ⟨RX6, "<init>", "()V"⟩
theorem dX6_init_0 : decode cX6_init 0 = .ok (.aload_n 0, 1) := by decide +kernel
theorem dX6_init_1 : decode cX6_init 1 = .ok (.invokespecial 1, 3) := by decide +kernel
theorem dX6_init_4 : decode cX6_init 4 = .ok (.return_, 1) := by decide +kernel
abbrev cX6_buckets : ByteArray := prog_5_method_2_code
def yX6_buckets : MethodName := ⟨RX6, "buckets", "()I"⟩
def dkwX6_buckets_0 : List UInt8 := [5, 42, 180, 0, 7, 120, 42, 180, 0, 13, 96, 172]
abbrev dktX6_buckets_0 : List UInt8 := dkwX6_buckets_0 ++ []
theorem dksX6_buckets_0 : cX6_buckets.data.toList.drop 0 = dktX6_buckets_0 := by decide +kernel
theorem dX6_buckets_0 : decode cX6_buckets 0 = .ok (.iconst 2, 1) := dk_5 (dk_at dksX6_buckets_0 0 rfl rfl)
theorem dX6_buckets_1 : decode cX6_buckets 1 = .ok (.aload_n 0, 1) := dk_42 (dk_at dksX6_buckets_0 1 rfl rfl)
theorem dX6_buckets_2 : decode cX6_buckets 2 = .ok (.getfield 7, 3) := dk_180 0 7 (dk_at dksX6_buckets_0 2 rfl rfl)
theorem dX6_buckets_5 : decode cX6_buckets 5 = .ok (.ishl, 1) := dk_120 (dk_at dksX6_buckets_0 5 rfl rfl)
theorem dX6_buckets_6 : decode cX6_buckets 6 = .ok (.aload_n 0, 1) := dk_42 (dk_at dksX6_buckets_0 6 rfl rfl)
theorem dX6_buckets_7 : decode cX6_buckets 7 = .ok (.getfield 13, 3) := dk_180 0 13 (dk_at dksX6_buckets_0 7 rfl rfl)
theorem dX6_buckets_10 : decode cX6_buckets 10 = .ok (.iadd, 1) := dk_96 (dk_at dksX6_buckets_0 10 rfl rfl)
theorem dX6_buckets_11 : decode cX6_buckets 11 = .ok (.ireturn, 1) := dk_172 (dk_at dksX6_buckets_0 11 rfl rfl)
abbrev cX6_see : ByteArray := prog_5_method_4_code
def yX6_see : MethodName := ⟨RX6, "see", "(II)V"⟩
def dkwX6_see_0 : List UInt8 := [42, 27, 181, 0, 7, 42, 28, 181, 0, 13, 177]
abbrev dktX6_see_0 : List UInt8 := dkwX6_see_0 ++ []
theorem dksX6_see_0 : cX6_see.data.toList.drop 0 = dktX6_see_0 := by decide +kernel
theorem dX6_see_0 : decode cX6_see 0 = .ok (.aload_n 0, 1) := dk_42 (dk_at dksX6_see_0 0 rfl rfl)
theorem dX6_see_1 : decode cX6_see 1 = .ok (.iload_n 1, 1) := dk_27 (dk_at dksX6_see_0 1 rfl rfl)
theorem dX6_see_2 : decode cX6_see 2 = .ok (.putfield 7, 3) := dk_181 0 7 (dk_at dksX6_see_0 2 rfl rfl)
theorem dX6_see_5 : decode cX6_see 5 = .ok (.aload_n 0, 1) := dk_42 (dk_at dksX6_see_0 5 rfl rfl)
theorem dX6_see_6 : decode cX6_see 6 = .ok (.iload_n 2, 1) := dk_28 (dk_at dksX6_see_0 6 rfl rfl)
theorem dX6_see_7 : decode cX6_see 7 = .ok (.putfield 13, 3) := dk_181 0 13 (dk_at dksX6_see_0 7 rfl rfl)
theorem dX6_see_10 : decode cX6_see 10 = .ok (.return_, 1) := dk_177 (dk_at dksX6_see_0 10 rfl rfl)
abbrev cX6_address : ByteArray := prog_5_method_3_code
def yX6_address : MethodName := ⟨RX6, "address", "(I)I"⟩
def dkwX6_address_1 : List UInt8 := [167, 0, 4, 29, 172]
abbrev dktX6_address_1 : List UInt8 := dkwX6_address_1 ++ []
def dkwX6_address_0 : List UInt8 := [5, 42, 180, 0, 7, 120, 61, 27, 28, 112, 62, 29, 42, 180, 0, 13, 162, 0, 11, 27, 5, 28, 104, 112]
abbrev dktX6_address_0 : List UInt8 := dkwX6_address_0 ++ dktX6_address_1
theorem dksX6_address_0 : cX6_address.data.toList.drop 0 = dktX6_address_0 := by decide +kernel
theorem dksX6_address_1 : cX6_address.data.toList.drop 24 = dktX6_address_1 := dk_seg dksX6_address_0 24 rfl rfl
theorem dX6_address_0 : decode cX6_address 0 = .ok (.iconst 2, 1) := dk_5 (dk_at dksX6_address_0 0 rfl rfl)
theorem dX6_address_1 : decode cX6_address 1 = .ok (.aload_n 0, 1) := dk_42 (dk_at dksX6_address_0 1 rfl rfl)
theorem dX6_address_2 : decode cX6_address 2 = .ok (.getfield 7, 3) := dk_180 0 7 (dk_at dksX6_address_0 2 rfl rfl)
theorem dX6_address_5 : decode cX6_address 5 = .ok (.ishl, 1) := dk_120 (dk_at dksX6_address_0 5 rfl rfl)
theorem dX6_address_6 : decode cX6_address 6 = .ok (.istore_n 2, 1) := dk_61 (dk_at dksX6_address_0 6 rfl rfl)
theorem dX6_address_7 : decode cX6_address 7 = .ok (.iload_n 1, 1) := dk_27 (dk_at dksX6_address_0 7 rfl rfl)
theorem dX6_address_8 : decode cX6_address 8 = .ok (.iload_n 2, 1) := dk_28 (dk_at dksX6_address_0 8 rfl rfl)
theorem dX6_address_9 : decode cX6_address 9 = .ok (.irem, 1) := dk_112 (dk_at dksX6_address_0 9 rfl rfl)
theorem dX6_address_10 : decode cX6_address 10 = .ok (.istore_n 3, 1) := dk_62 (dk_at dksX6_address_0 10 rfl rfl)
theorem dX6_address_11 : decode cX6_address 11 = .ok (.iload_n 3, 1) := dk_29 (dk_at dksX6_address_0 11 rfl rfl)
theorem dX6_address_12 : decode cX6_address 12 = .ok (.aload_n 0, 1) := dk_42 (dk_at dksX6_address_0 12 rfl rfl)
theorem dX6_address_13 : decode cX6_address 13 = .ok (.getfield 13, 3) := dk_180 0 13 (dk_at dksX6_address_0 13 rfl rfl)
theorem dX6_address_16 : decode cX6_address 16 = .ok (.if_icmp .ge 11, 3) := dk_162 0 11 (dk_at dksX6_address_0 16 rfl rfl)
theorem dX6_address_19 : decode cX6_address 19 = .ok (.iload_n 1, 1) := dk_27 (dk_at dksX6_address_0 19 rfl rfl)
theorem dX6_address_20 : decode cX6_address 20 = .ok (.iconst 2, 1) := dk_5 (dk_at dksX6_address_0 20 rfl rfl)
theorem dX6_address_21 : decode cX6_address 21 = .ok (.iload_n 2, 1) := dk_28 (dk_at dksX6_address_0 21 rfl rfl)
theorem dX6_address_22 : decode cX6_address 22 = .ok (.imul, 1) := dk_104 (dk_at dksX6_address_0 22 rfl rfl)
theorem dX6_address_23 : decode cX6_address 23 = .ok (.irem, 1) := dk_112 (dk_at dksX6_address_0 23 rfl rfl)
theorem dX6_address_24 : decode cX6_address 24 = .ok (.goto 4, 3) := dk_167 0 4 (dk_at dksX6_address_1 0 rfl rfl)
theorem dX6_address_27 : decode cX6_address 27 = .ok (.iload_n 3, 1) := dk_29 (dk_at dksX6_address_1 3 rfl rfl)
theorem dX6_address_28 : decode cX6_address 28 = .ok (.ireturn, 1) := dk_172 (dk_at dksX6_address_1 4 rfl rfl)
abbrev cX6_learn : ByteArray := prog_5_method_5_code
def yX6_learn : MethodName := ⟨RX6, "learn", "(II)V"⟩
def dkwX6_learn_1 : List UInt8 := [161, 0, 13, 42, 28, 181, 0, 7, 42, 3, 181, 0, 13, 177]
abbrev dktX6_learn_1 : List UInt8 := dkwX6_learn_1 ++ []
def dkwX6_learn_0 : List UInt8 := [42, 28, 4, 100, 181, 0, 7, 42, 27, 4, 96, 181, 0, 13, 42, 180, 0, 13, 5, 42, 180, 0, 7, 120]
abbrev dktX6_learn_0 : List UInt8 := dkwX6_learn_0 ++ dktX6_learn_1
theorem dksX6_learn_0 : cX6_learn.data.toList.drop 0 = dktX6_learn_0 := by decide +kernel
theorem dksX6_learn_1 : cX6_learn.data.toList.drop 24 = dktX6_learn_1 := dk_seg dksX6_learn_0 24 rfl rfl
theorem dX6_learn_0 : decode cX6_learn 0 = .ok (.aload_n 0, 1) := dk_42 (dk_at dksX6_learn_0 0 rfl rfl)
theorem dX6_learn_1 : decode cX6_learn 1 = .ok (.iload_n 2, 1) := dk_28 (dk_at dksX6_learn_0 1 rfl rfl)
theorem dX6_learn_2 : decode cX6_learn 2 = .ok (.iconst 1, 1) := dk_4 (dk_at dksX6_learn_0 2 rfl rfl)
theorem dX6_learn_3 : decode cX6_learn 3 = .ok (.isub, 1) := dk_100 (dk_at dksX6_learn_0 3 rfl rfl)
theorem dX6_learn_4 : decode cX6_learn 4 = .ok (.putfield 7, 3) := dk_181 0 7 (dk_at dksX6_learn_0 4 rfl rfl)
theorem dX6_learn_7 : decode cX6_learn 7 = .ok (.aload_n 0, 1) := dk_42 (dk_at dksX6_learn_0 7 rfl rfl)
theorem dX6_learn_8 : decode cX6_learn 8 = .ok (.iload_n 1, 1) := dk_27 (dk_at dksX6_learn_0 8 rfl rfl)
theorem dX6_learn_9 : decode cX6_learn 9 = .ok (.iconst 1, 1) := dk_4 (dk_at dksX6_learn_0 9 rfl rfl)
theorem dX6_learn_10 : decode cX6_learn 10 = .ok (.iadd, 1) := dk_96 (dk_at dksX6_learn_0 10 rfl rfl)
theorem dX6_learn_11 : decode cX6_learn 11 = .ok (.putfield 13, 3) := dk_181 0 13 (dk_at dksX6_learn_0 11 rfl rfl)
theorem dX6_learn_14 : decode cX6_learn 14 = .ok (.aload_n 0, 1) := dk_42 (dk_at dksX6_learn_0 14 rfl rfl)
theorem dX6_learn_15 : decode cX6_learn 15 = .ok (.getfield 13, 3) := dk_180 0 13 (dk_at dksX6_learn_0 15 rfl rfl)
theorem dX6_learn_18 : decode cX6_learn 18 = .ok (.iconst 2, 1) := dk_5 (dk_at dksX6_learn_0 18 rfl rfl)
theorem dX6_learn_19 : decode cX6_learn 19 = .ok (.aload_n 0, 1) := dk_42 (dk_at dksX6_learn_0 19 rfl rfl)
theorem dX6_learn_20 : decode cX6_learn 20 = .ok (.getfield 7, 3) := dk_180 0 7 (dk_at dksX6_learn_0 20 rfl rfl)
theorem dX6_learn_23 : decode cX6_learn 23 = .ok (.ishl, 1) := dk_120 (dk_at dksX6_learn_0 23 rfl rfl)
theorem dX6_learn_24 : decode cX6_learn 24 = .ok (.if_icmp .lt 13, 3) := dk_161 0 13 (dk_at dksX6_learn_1 0 rfl rfl)
theorem dX6_learn_27 : decode cX6_learn 27 = .ok (.aload_n 0, 1) := dk_42 (dk_at dksX6_learn_1 3 rfl rfl)
theorem dX6_learn_28 : decode cX6_learn 28 = .ok (.iload_n 2, 1) := dk_28 (dk_at dksX6_learn_1 4 rfl rfl)
theorem dX6_learn_29 : decode cX6_learn 29 = .ok (.putfield 7, 3) := dk_181 0 7 (dk_at dksX6_learn_1 5 rfl rfl)
theorem dX6_learn_32 : decode cX6_learn 32 = .ok (.aload_n 0, 1) := dk_42 (dk_at dksX6_learn_1 8 rfl rfl)
theorem dX6_learn_33 : decode cX6_learn 33 = .ok (.iconst 0, 1) := dk_3 (dk_at dksX6_learn_1 9 rfl rfl)
theorem dX6_learn_34 : decode cX6_learn 34 = .ok (.putfield 13, 3) := dk_181 0 13 (dk_at dksX6_learn_1 10 rfl rfl)
theorem dX6_learn_37 : decode cX6_learn 37 = .ok (.return_, 1) := dk_177 (dk_at dksX6_learn_1 13 rfl rfl)
theorem q76 : (Jvm.Cond.initialized "Splitpointer$Client") ∈ lw_all := lw_g (lw_at lw_m1 13 rfl) rfl
theorem q253 : (Jvm.Cond.selects "Splitpointer$Client" ({ cls := "java/lang/Object", name := "getClass", desc := "()Ljava/lang/Class;" } : Jvm.MethodName) ({ cls := "java/lang/Object", name := "getClass", desc := "()Ljava/lang/Class;" } : Jvm.MethodName)) ∈ lw_all := lw_g (lw_at lw_m1 190 rfl) rfl
theorem q339 : (Jvm.Cond.instantiable "Splitpointer$Client" (2 : Nat)) ∈ lw_all := lw_g (lw_at lw_m2 36 rfl) rfl
theorem q341 : (Jvm.Cond.instanceMethod ({ cls := "Splitpointer$Client", name := "<init>", desc := "()V" } : Jvm.MethodName)) ∈ lw_all := lw_g (lw_at lw_m2 38 rfl) rfl
theorem q342 : (Jvm.Cond.code ({ cls := "Splitpointer$Client", name := "<init>", desc := "()V" } : Jvm.MethodName) prog_5_method_1_code (1 : Nat) (Option.none : Option Jvm.ClassFile.FieldType)) ∈ lw_all := lw_g (lw_at lw_m2 39 rfl) rfl
theorem q343 : (Jvm.Cond.methodLink "Splitpointer$Client" (1 : Nat) ({ cls := "java/lang/Object", name := "<init>", desc := "()V" } : Jvm.MethodName)) ∈ lw_all := lw_g (lw_at lw_m2 40 rfl) rfl
theorem q344 : (Jvm.Cond.fieldLink "Splitpointer$Client" (7 : Nat) "Splitpointer$Client" "level" "I") ∈ lw_all := lw_g (lw_at lw_m2 41 rfl) rfl
theorem q346 : (Jvm.Cond.fieldLink "Splitpointer$Client" (13 : Nat) "Splitpointer$Client" "pointer" "I") ∈ lw_all := lw_g (lw_at lw_m2 43 rfl) rfl
theorem q348 : (Jvm.Cond.lays "Splitpointer$Client" "Splitpointer$Client" "level" "I") ∈ lw_all := lw_g (lw_at lw_m2 45 rfl) rfl
theorem q349 : (Jvm.Cond.soleField "Splitpointer$Client" "level") ∈ lw_all := lw_g (lw_at lw_m2 46 rfl) rfl
theorem q350 : (Jvm.Cond.lays "Splitpointer$Client" "Splitpointer$Client" "pointer" "I") ∈ lw_all := lw_g (lw_at lw_m2 47 rfl) rfl
theorem q351 : (Jvm.Cond.soleField "Splitpointer$Client" "pointer") ∈ lw_all := lw_g (lw_at lw_m2 48 rfl) rfl
theorem q352 : (Jvm.Cond.superclass "Splitpointer$Client" "java/lang/Object") ∈ lw_all := lw_g (lw_at lw_m2 49 rfl) rfl
theorem q1018 : (Jvm.Cond.instanceMethod ({ cls := "Splitpointer$Client", name := "buckets", desc := "()I" } : Jvm.MethodName)) ∈ lw_all := lw_g (lw_at lw_m4 235 rfl) rfl
theorem q1019 : (Jvm.Cond.selects "Splitpointer$Client" ({ cls := "Splitpointer$Client", name := "buckets", desc := "()I" } : Jvm.MethodName) ({ cls := "Splitpointer$Client", name := "buckets", desc := "()I" } : Jvm.MethodName)) ∈ lw_all := lw_g (lw_at lw_m4 236 rfl) rfl
theorem q1020 : (Jvm.Cond.code ({ cls := "Splitpointer$Client", name := "buckets", desc := "()I" } : Jvm.MethodName) prog_5_method_2_code (1 : Nat) (Option.some Jvm.ClassFile.FieldType.int)) ∈ lw_all := lw_g (lw_at lw_m4 237 rfl) rfl
theorem q1075 : (Jvm.Cond.instanceMethod ({ cls := "Splitpointer$Client", name := "see", desc := "(II)V" } : Jvm.MethodName)) ∈ lw_all := lw_g (lw_at lw_m5 52 rfl) rfl
theorem q1076 : (Jvm.Cond.selects "Splitpointer$Client" ({ cls := "Splitpointer$Client", name := "see", desc := "(II)V" } : Jvm.MethodName) ({ cls := "Splitpointer$Client", name := "see", desc := "(II)V" } : Jvm.MethodName)) ∈ lw_all := lw_g (lw_at lw_m5 53 rfl) rfl
theorem q1077 : (Jvm.Cond.code ({ cls := "Splitpointer$Client", name := "see", desc := "(II)V" } : Jvm.MethodName) prog_5_method_4_code (3 : Nat) (Option.none : Option Jvm.ClassFile.FieldType)) ∈ lw_all := lw_g (lw_at lw_m5 54 rfl) rfl
theorem q1277 : (Jvm.Cond.instanceMethod ({ cls := "Splitpointer$Client", name := "address", desc := "(I)I" } : Jvm.MethodName)) ∈ lw_all := lw_g (lw_at lw_m6 14 rfl) rfl
theorem q1278 : (Jvm.Cond.selects "Splitpointer$Client" ({ cls := "Splitpointer$Client", name := "address", desc := "(I)I" } : Jvm.MethodName) ({ cls := "Splitpointer$Client", name := "address", desc := "(I)I" } : Jvm.MethodName)) ∈ lw_all := lw_g (lw_at lw_m6 15 rfl) rfl
theorem q1279 : (Jvm.Cond.code ({ cls := "Splitpointer$Client", name := "address", desc := "(I)I" } : Jvm.MethodName) prog_5_method_3_code (4 : Nat) (Option.some Jvm.ClassFile.FieldType.int)) ∈ lw_all := lw_g (lw_at lw_m6 16 rfl) rfl
theorem q1285 : (Jvm.Cond.instanceMethod ({ cls := "Splitpointer$Client", name := "learn", desc := "(II)V" } : Jvm.MethodName)) ∈ lw_all := lw_g (lw_at lw_m6 22 rfl) rfl
theorem q1286 : (Jvm.Cond.selects "Splitpointer$Client" ({ cls := "Splitpointer$Client", name := "learn", desc := "(II)V" } : Jvm.MethodName) ({ cls := "Splitpointer$Client", name := "learn", desc := "(II)V" } : Jvm.MethodName)) ∈ lw_all := lw_g (lw_at lw_m6 23 rfl) rfl
theorem q1287 : (Jvm.Cond.code ({ cls := "Splitpointer$Client", name := "learn", desc := "(II)V" } : Jvm.MethodName) prog_5_method_5_code (3 : Nat) (Option.none : Option Jvm.ClassFile.FieldType)) ∈ lw_all := lw_g (lw_at lw_m6 24 rfl) rfl
theorem q1529 : (Jvm.Cond.selects "Splitpointer$Client" ({ cls := "java/lang/Object", name := "equals", desc := "(Ljava/lang/Object;)Z" } : Jvm.MethodName) ({ cls := "java/lang/Object", name := "equals", desc := "(Ljava/lang/Object;)Z" } : Jvm.MethodName)) ∈ lw_all := lw_g (lw_at lw_m7 26 rfl) rfl
theorem q2062 : (Jvm.Cond.castable "Splitpointer$Client" "java/lang/Object") ∈ lw_tbl := lw_at lw_m9 79 rfl
theorem in_X6 : ∀ w ∈ wsX60, w ∈ lw_all := lw_in wsX60 [348, 350] (by decide +kernel) (by decide +kernel)
/-! SplitpointerModel$Bucket -/
set_option maxRecDepth 100000
def RX9 : String := "SplitpointerModel$Bucket"
def TX9 : u_T := fun k => match k with
  | 0 => ("SplitpointerModel$Bucket", "rows", "Ljava/util/ArrayList;", true)
  | 1 => ("SplitpointerModel$Bucket", "pages", "Ljava/util/ArrayList;", true)
  | _ => ("SplitpointerModel$Bucket", "filter", "I", false)
def tyX9 : Nat → FieldType := fun k => match k with
  | 0 => .object "java/util/ArrayList"
  | 1 => .object "java/util/ArrayList"
  | _ => .int
abbrev wsX90 : List Cond := u_ws RX9 TX9 3
theorem nmX9 : ∀ a, a < 3 → ∀ b, b < 3 → a ≠ b → (TX9 a).2.1 ≠ (TX9 b).2.1 := by decide +kernel
theorem tyX9_ok : ∀ k, k < 3 → parseFieldDescriptor (TX9 k).2.2.1 = some (tyX9 k) := by decide +kernel
abbrev cX9_init : ByteArray := prog_16_method_1_code
def yX9_init : MethodName := ⟨RX9, "<init>", "()V"⟩
def dkwX9_init_1 : List UInt8 := [181, 0, 18, 177]
abbrev dktX9_init_1 : List UInt8 := dkwX9_init_1 ++ []
def dkwX9_init_0 : List UInt8 := [42, 183, 0, 3, 42, 187, 0, 9, 89, 183, 0, 11, 181, 0, 12, 42, 187, 0, 9, 89, 183, 0, 11]
abbrev dktX9_init_0 : List UInt8 := dkwX9_init_0 ++ dktX9_init_1
theorem dksX9_init_0 : cX9_init.data.toList.drop 0 = dktX9_init_0 := by decide +kernel
theorem dksX9_init_1 : cX9_init.data.toList.drop 23 = dktX9_init_1 := dk_seg dksX9_init_0 23 rfl rfl
theorem dX9_init_0 : decode cX9_init 0 = .ok (.aload_n 0, 1) := dk_42 (dk_at dksX9_init_0 0 rfl rfl)
theorem dX9_init_1 : decode cX9_init 1 = .ok (.invokespecial 3, 3) := dk_183 0 3 (dk_at dksX9_init_0 1 rfl rfl)
theorem dX9_init_4 : decode cX9_init 4 = .ok (.aload_n 0, 1) := dk_42 (dk_at dksX9_init_0 4 rfl rfl)
theorem dX9_init_5 : decode cX9_init 5 = .ok (.new 9, 3) := dk_187 0 9 (dk_at dksX9_init_0 5 rfl rfl)
theorem dX9_init_8 : decode cX9_init 8 = .ok (.dup, 1) := dk_89 (dk_at dksX9_init_0 8 rfl rfl)
theorem dX9_init_9 : decode cX9_init 9 = .ok (.invokespecial 11, 3) := dk_183 0 11 (dk_at dksX9_init_0 9 rfl rfl)
theorem dX9_init_12 : decode cX9_init 12 = .ok (.putfield 12, 3) := dk_181 0 12 (dk_at dksX9_init_0 12 rfl rfl)
theorem dX9_init_15 : decode cX9_init 15 = .ok (.aload_n 0, 1) := dk_42 (dk_at dksX9_init_0 15 rfl rfl)
theorem dX9_init_16 : decode cX9_init 16 = .ok (.new 9, 3) := dk_187 0 9 (dk_at dksX9_init_0 16 rfl rfl)
theorem dX9_init_19 : decode cX9_init 19 = .ok (.dup, 1) := dk_89 (dk_at dksX9_init_0 19 rfl rfl)
theorem dX9_init_20 : decode cX9_init 20 = .ok (.invokespecial 11, 3) := dk_183 0 11 (dk_at dksX9_init_0 20 rfl rfl)
theorem dX9_init_23 : decode cX9_init 23 = .ok (.putfield 18, 3) := dk_181 0 18 (dk_at dksX9_init_1 0 rfl rfl)
theorem dX9_init_26 : decode cX9_init 26 = .ok (.return_, 1) := dk_177 (dk_at dksX9_init_1 3 rfl rfl)
abbrev cX9_copy : ByteArray := prog_16_method_2_code
def yX9_copy : MethodName := ⟨RX9, "copy", "()LSplitpointerModel$Bucket;"⟩
def dkwX9_copy_3 : List UInt8 := [181, 0, 49, 43, 176]
abbrev dktX9_copy_3 : List UInt8 := dkwX9_copy_3 ++ []
def dkwX9_copy_2 : List UInt8 := [182, 0, 41, 87, 167, 255, 222, 43, 180, 0, 18, 42, 180, 0, 18, 182, 0, 45, 87, 43, 42, 180, 0, 49]
abbrev dktX9_copy_2 : List UInt8 := dkwX9_copy_2 ++ dktX9_copy_3
def dkwX9_copy_1 : List UInt8 := [153, 0, 31, 44, 185, 0, 32, 1, 0, 192, 0, 36, 78, 43, 180, 0, 12, 45, 182, 0, 38, 192, 0, 36]
abbrev dktX9_copy_1 : List UInt8 := dkwX9_copy_1 ++ dktX9_copy_2
def dkwX9_copy_0 : List UInt8 := [187, 0, 13, 89, 183, 0, 21, 76, 42, 180, 0, 12, 182, 0, 22, 77, 44, 185, 0, 26, 1, 0]
abbrev dktX9_copy_0 : List UInt8 := dkwX9_copy_0 ++ dktX9_copy_1
theorem dksX9_copy_0 : cX9_copy.data.toList.drop 0 = dktX9_copy_0 := by decide +kernel
theorem dksX9_copy_1 : cX9_copy.data.toList.drop 22 = dktX9_copy_1 := dk_seg dksX9_copy_0 22 rfl rfl
theorem dksX9_copy_2 : cX9_copy.data.toList.drop 46 = dktX9_copy_2 := dk_seg dksX9_copy_1 24 rfl rfl
theorem dksX9_copy_3 : cX9_copy.data.toList.drop 70 = dktX9_copy_3 := dk_seg dksX9_copy_2 24 rfl rfl
theorem dX9_copy_0 : decode cX9_copy 0 = .ok (.new 13, 3) := dk_187 0 13 (dk_at dksX9_copy_0 0 rfl rfl)
theorem dX9_copy_3 : decode cX9_copy 3 = .ok (.dup, 1) := dk_89 (dk_at dksX9_copy_0 3 rfl rfl)
theorem dX9_copy_4 : decode cX9_copy 4 = .ok (.invokespecial 21, 3) := dk_183 0 21 (dk_at dksX9_copy_0 4 rfl rfl)
theorem dX9_copy_7 : decode cX9_copy 7 = .ok (.astore_n 1, 1) := dk_76 (dk_at dksX9_copy_0 7 rfl rfl)
theorem dX9_copy_8 : decode cX9_copy 8 = .ok (.aload_n 0, 1) := dk_42 (dk_at dksX9_copy_0 8 rfl rfl)
theorem dX9_copy_9 : decode cX9_copy 9 = .ok (.getfield 12, 3) := dk_180 0 12 (dk_at dksX9_copy_0 9 rfl rfl)
theorem dX9_copy_12 : decode cX9_copy 12 = .ok (.invokevirtual 22, 3) := dk_182 0 22 (dk_at dksX9_copy_0 12 rfl rfl)
theorem dX9_copy_15 : decode cX9_copy 15 = .ok (.astore_n 2, 1) := dk_77 (dk_at dksX9_copy_0 15 rfl rfl)
theorem dX9_copy_16 : decode cX9_copy 16 = .ok (.aload_n 2, 1) := dk_44 (dk_at dksX9_copy_0 16 rfl rfl)
theorem dX9_copy_17 : decode cX9_copy 17 = .ok (.invokeinterface 26 1, 5) := by decide +kernel
theorem dX9_copy_22 : decode cX9_copy 22 = .ok (.ifCond .eq 31, 3) := dk_153 0 31 (dk_at dksX9_copy_1 0 rfl rfl)
theorem dX9_copy_25 : decode cX9_copy 25 = .ok (.aload_n 2, 1) := dk_44 (dk_at dksX9_copy_1 3 rfl rfl)
theorem dX9_copy_26 : decode cX9_copy 26 = .ok (.invokeinterface 32 1, 5) := by decide +kernel
theorem dX9_copy_31 : decode cX9_copy 31 = .ok (.checkcast 36, 3) := dk_192 0 36 (dk_at dksX9_copy_1 9 rfl rfl)
theorem dX9_copy_34 : decode cX9_copy 34 = .ok (.astore_n 3, 1) := dk_78 (dk_at dksX9_copy_1 12 rfl rfl)
theorem dX9_copy_35 : decode cX9_copy 35 = .ok (.aload_n 1, 1) := dk_43 (dk_at dksX9_copy_1 13 rfl rfl)
theorem dX9_copy_36 : decode cX9_copy 36 = .ok (.getfield 12, 3) := dk_180 0 12 (dk_at dksX9_copy_1 14 rfl rfl)
theorem dX9_copy_39 : decode cX9_copy 39 = .ok (.aload_n 3, 1) := dk_45 (dk_at dksX9_copy_1 17 rfl rfl)
theorem dX9_copy_40 : decode cX9_copy 40 = .ok (.invokevirtual 38, 3) := dk_182 0 38 (dk_at dksX9_copy_1 18 rfl rfl)
theorem dX9_copy_43 : decode cX9_copy 43 = .ok (.checkcast 36, 3) := dk_192 0 36 (dk_at dksX9_copy_1 21 rfl rfl)
theorem dX9_copy_46 : decode cX9_copy 46 = .ok (.invokevirtual 41, 3) := dk_182 0 41 (dk_at dksX9_copy_2 0 rfl rfl)
theorem dX9_copy_49 : decode cX9_copy 49 = .ok (.pop, 1) := dk_87 (dk_at dksX9_copy_2 3 rfl rfl)
theorem dX9_copy_50 : decode cX9_copy 50 = .ok (.goto (-34), 3) := dk_167 255 222 (dk_at dksX9_copy_2 4 rfl rfl)
theorem dX9_copy_53 : decode cX9_copy 53 = .ok (.aload_n 1, 1) := dk_43 (dk_at dksX9_copy_2 7 rfl rfl)
theorem dX9_copy_54 : decode cX9_copy 54 = .ok (.getfield 18, 3) := dk_180 0 18 (dk_at dksX9_copy_2 8 rfl rfl)
theorem dX9_copy_57 : decode cX9_copy 57 = .ok (.aload_n 0, 1) := dk_42 (dk_at dksX9_copy_2 11 rfl rfl)
theorem dX9_copy_58 : decode cX9_copy 58 = .ok (.getfield 18, 3) := dk_180 0 18 (dk_at dksX9_copy_2 12 rfl rfl)
theorem dX9_copy_61 : decode cX9_copy 61 = .ok (.invokevirtual 45, 3) := dk_182 0 45 (dk_at dksX9_copy_2 15 rfl rfl)
theorem dX9_copy_64 : decode cX9_copy 64 = .ok (.pop, 1) := dk_87 (dk_at dksX9_copy_2 18 rfl rfl)
theorem dX9_copy_65 : decode cX9_copy 65 = .ok (.aload_n 1, 1) := dk_43 (dk_at dksX9_copy_2 19 rfl rfl)
theorem dX9_copy_66 : decode cX9_copy 66 = .ok (.aload_n 0, 1) := dk_42 (dk_at dksX9_copy_2 20 rfl rfl)
theorem dX9_copy_67 : decode cX9_copy 67 = .ok (.getfield 49, 3) := dk_180 0 49 (dk_at dksX9_copy_2 21 rfl rfl)
theorem dX9_copy_70 : decode cX9_copy 70 = .ok (.putfield 49, 3) := dk_181 0 49 (dk_at dksX9_copy_3 0 rfl rfl)
theorem dX9_copy_73 : decode cX9_copy 73 = .ok (.aload_n 1, 1) := dk_43 (dk_at dksX9_copy_3 3 rfl rfl)
theorem dX9_copy_74 : decode cX9_copy 74 = .ok (.areturn, 1) := dk_176 (dk_at dksX9_copy_3 4 rfl rfl)
abbrev cX9_at : ByteArray := prog_16_method_3_code
def yX9_at : MethodName := ⟨RX9, "at", "(I)I"⟩
def dkwX9_at_1 : List UInt8 := [3, 46, 27, 160, 0, 5, 28, 172, 132, 2, 1, 167, 255, 223, 2, 172]
abbrev dktX9_at_1 : List UInt8 := dkwX9_at_1 ++ []
def dkwX9_at_0 : List UInt8 := [3, 61, 28, 42, 180, 0, 12, 182, 0, 53, 162, 0, 28, 42, 180, 0, 12, 28, 182, 0, 57, 192, 0, 36]
abbrev dktX9_at_0 : List UInt8 := dkwX9_at_0 ++ dktX9_at_1
theorem dksX9_at_0 : cX9_at.data.toList.drop 0 = dktX9_at_0 := by decide +kernel
theorem dksX9_at_1 : cX9_at.data.toList.drop 24 = dktX9_at_1 := dk_seg dksX9_at_0 24 rfl rfl
theorem dX9_at_0 : decode cX9_at 0 = .ok (.iconst 0, 1) := dk_3 (dk_at dksX9_at_0 0 rfl rfl)
theorem dX9_at_1 : decode cX9_at 1 = .ok (.istore_n 2, 1) := dk_61 (dk_at dksX9_at_0 1 rfl rfl)
theorem dX9_at_2 : decode cX9_at 2 = .ok (.iload_n 2, 1) := dk_28 (dk_at dksX9_at_0 2 rfl rfl)
theorem dX9_at_3 : decode cX9_at 3 = .ok (.aload_n 0, 1) := dk_42 (dk_at dksX9_at_0 3 rfl rfl)
theorem dX9_at_4 : decode cX9_at 4 = .ok (.getfield 12, 3) := dk_180 0 12 (dk_at dksX9_at_0 4 rfl rfl)
theorem dX9_at_7 : decode cX9_at 7 = .ok (.invokevirtual 53, 3) := dk_182 0 53 (dk_at dksX9_at_0 7 rfl rfl)
theorem dX9_at_10 : decode cX9_at 10 = .ok (.if_icmp .ge 28, 3) := dk_162 0 28 (dk_at dksX9_at_0 10 rfl rfl)
theorem dX9_at_13 : decode cX9_at 13 = .ok (.aload_n 0, 1) := dk_42 (dk_at dksX9_at_0 13 rfl rfl)
theorem dX9_at_14 : decode cX9_at 14 = .ok (.getfield 12, 3) := dk_180 0 12 (dk_at dksX9_at_0 14 rfl rfl)
theorem dX9_at_17 : decode cX9_at 17 = .ok (.iload_n 2, 1) := dk_28 (dk_at dksX9_at_0 17 rfl rfl)
theorem dX9_at_18 : decode cX9_at 18 = .ok (.invokevirtual 57, 3) := dk_182 0 57 (dk_at dksX9_at_0 18 rfl rfl)
theorem dX9_at_21 : decode cX9_at 21 = .ok (.checkcast 36, 3) := dk_192 0 36 (dk_at dksX9_at_0 21 rfl rfl)
theorem dX9_at_24 : decode cX9_at 24 = .ok (.iconst 0, 1) := dk_3 (dk_at dksX9_at_1 0 rfl rfl)
theorem dX9_at_25 : decode cX9_at 25 = .ok (.iaload, 1) := dk_46 (dk_at dksX9_at_1 1 rfl rfl)
theorem dX9_at_26 : decode cX9_at 26 = .ok (.iload_n 1, 1) := dk_27 (dk_at dksX9_at_1 2 rfl rfl)
theorem dX9_at_27 : decode cX9_at 27 = .ok (.if_icmp .ne 5, 3) := dk_160 0 5 (dk_at dksX9_at_1 3 rfl rfl)
theorem dX9_at_30 : decode cX9_at 30 = .ok (.iload_n 2, 1) := dk_28 (dk_at dksX9_at_1 6 rfl rfl)
theorem dX9_at_31 : decode cX9_at 31 = .ok (.ireturn, 1) := dk_172 (dk_at dksX9_at_1 7 rfl rfl)
theorem dX9_at_32 : decode cX9_at 32 = .ok (.iinc 2 1, 3) := dk_132 2 1 (dk_at dksX9_at_1 8 rfl rfl)
theorem dX9_at_35 : decode cX9_at 35 = .ok (.goto (-33), 3) := dk_167 255 223 (dk_at dksX9_at_1 11 rfl rfl)
theorem dX9_at_38 : decode cX9_at 38 = .ok (.iconst (-1), 1) := dk_2 (dk_at dksX9_at_1 14 rfl rfl)
theorem dX9_at_39 : decode cX9_at 39 = .ok (.ireturn, 1) := dk_172 (dk_at dksX9_at_1 15 rfl rfl)
theorem q79 : (Jvm.Cond.initialized "SplitpointerModel$Bucket") ∈ lw_all := lw_g (lw_at lw_m1 16 rfl) rfl
theorem q263 : (Jvm.Cond.selects "SplitpointerModel$Bucket" ({ cls := "java/lang/Object", name := "getClass", desc := "()Ljava/lang/Class;" } : Jvm.MethodName) ({ cls := "java/lang/Object", name := "getClass", desc := "()Ljava/lang/Class;" } : Jvm.MethodName)) ∈ lw_all := lw_g (lw_at lw_m1 200 rfl) rfl
theorem q1417 : (Jvm.Cond.instantiable "SplitpointerModel$Bucket" (3 : Nat)) ∈ lw_all := lw_g (lw_at lw_m6 154 rfl) rfl
theorem q1419 : (Jvm.Cond.instanceMethod ({ cls := "SplitpointerModel$Bucket", name := "<init>", desc := "()V" } : Jvm.MethodName)) ∈ lw_all := lw_g (lw_at lw_m6 156 rfl) rfl
theorem q1420 : (Jvm.Cond.code ({ cls := "SplitpointerModel$Bucket", name := "<init>", desc := "()V" } : Jvm.MethodName) prog_16_method_1_code (1 : Nat) (Option.none : Option Jvm.ClassFile.FieldType)) ∈ lw_all := lw_g (lw_at lw_m6 157 rfl) rfl
theorem q1421 : (Jvm.Cond.methodLink "SplitpointerModel$Bucket" (3 : Nat) ({ cls := "java/lang/Object", name := "<init>", desc := "()V" } : Jvm.MethodName)) ∈ lw_all := lw_g (lw_at lw_m6 158 rfl) rfl
theorem q1422 : (Jvm.Cond.classLink "SplitpointerModel$Bucket" (9 : Nat) "java/util/ArrayList") ∈ lw_all := lw_g (lw_at lw_m6 159 rfl) rfl
theorem q1423 : (Jvm.Cond.methodLink "SplitpointerModel$Bucket" (11 : Nat) ({ cls := "java/util/ArrayList", name := "<init>", desc := "()V" } : Jvm.MethodName)) ∈ lw_all := lw_g (lw_at lw_m6 160 rfl) rfl
theorem q1424 : (Jvm.Cond.fieldLink "SplitpointerModel$Bucket" (12 : Nat) "SplitpointerModel$Bucket" "rows" "Ljava/util/ArrayList;") ∈ lw_all := lw_g (lw_at lw_m6 161 rfl) rfl
theorem q1427 : (Jvm.Cond.fieldLink "SplitpointerModel$Bucket" (18 : Nat) "SplitpointerModel$Bucket" "pages" "Ljava/util/ArrayList;") ∈ lw_all := lw_g (lw_at lw_m6 164 rfl) rfl
theorem q1430 : (Jvm.Cond.fieldLink "SplitpointerModel$Bucket" (49 : Nat) "SplitpointerModel$Bucket" "filter" "I") ∈ lw_all := lw_g (lw_at lw_m6 167 rfl) rfl
theorem q1433 : (Jvm.Cond.laysFinal "SplitpointerModel$Bucket" "SplitpointerModel$Bucket" "rows" "Ljava/util/ArrayList;") ∈ lw_all := lw_g (lw_at lw_m6 170 rfl) rfl
theorem q1434 : (Jvm.Cond.soleField "SplitpointerModel$Bucket" "rows") ∈ lw_all := lw_g (lw_at lw_m6 171 rfl) rfl
theorem q1435 : (Jvm.Cond.laysFinal "SplitpointerModel$Bucket" "SplitpointerModel$Bucket" "pages" "Ljava/util/ArrayList;") ∈ lw_all := lw_g (lw_at lw_m6 172 rfl) rfl
theorem q1436 : (Jvm.Cond.soleField "SplitpointerModel$Bucket" "pages") ∈ lw_all := lw_g (lw_at lw_m6 173 rfl) rfl
theorem q1437 : (Jvm.Cond.lays "SplitpointerModel$Bucket" "SplitpointerModel$Bucket" "filter" "I") ∈ lw_all := lw_g (lw_at lw_m6 174 rfl) rfl
theorem q1438 : (Jvm.Cond.soleField "SplitpointerModel$Bucket" "filter") ∈ lw_all := lw_g (lw_at lw_m6 175 rfl) rfl
theorem q1439 : (Jvm.Cond.superclass "SplitpointerModel$Bucket" "java/lang/Object") ∈ lw_all := lw_g (lw_at lw_m6 176 rfl) rfl
theorem q1539 : (Jvm.Cond.selects "SplitpointerModel$Bucket" ({ cls := "java/lang/Object", name := "equals", desc := "(Ljava/lang/Object;)Z" } : Jvm.MethodName) ({ cls := "java/lang/Object", name := "equals", desc := "(Ljava/lang/Object;)Z" } : Jvm.MethodName)) ∈ lw_all := lw_g (lw_at lw_m7 36 rfl) rfl
theorem q1673 : (Jvm.Cond.instanceMethod ({ cls := "SplitpointerModel$Bucket", name := "copy", desc := "()LSplitpointerModel$Bucket;" } : Jvm.MethodName)) ∈ lw_all := lw_g (lw_at lw_m7 170 rfl) rfl
theorem q1674 : (Jvm.Cond.selects "SplitpointerModel$Bucket" ({ cls := "SplitpointerModel$Bucket", name := "copy", desc := "()LSplitpointerModel$Bucket;" } : Jvm.MethodName) ({ cls := "SplitpointerModel$Bucket", name := "copy", desc := "()LSplitpointerModel$Bucket;" } : Jvm.MethodName)) ∈ lw_all := lw_g (lw_at lw_m7 171 rfl) rfl
theorem q1675 : (Jvm.Cond.code ({ cls := "SplitpointerModel$Bucket", name := "copy", desc := "()LSplitpointerModel$Bucket;" } : Jvm.MethodName) prog_16_method_2_code (4 : Nat) (Option.some (Jvm.ClassFile.FieldType.object "SplitpointerModel$Bucket"))) ∈ lw_all := lw_g (lw_at lw_m7 172 rfl) rfl
theorem q1676 : (Jvm.Cond.classLink "SplitpointerModel$Bucket" (13 : Nat) "SplitpointerModel$Bucket") ∈ lw_all := lw_g (lw_at lw_m7 173 rfl) rfl
theorem q1677 : (Jvm.Cond.methodLink "SplitpointerModel$Bucket" (21 : Nat) ({ cls := "SplitpointerModel$Bucket", name := "<init>", desc := "()V" } : Jvm.MethodName)) ∈ lw_all := lw_g (lw_at lw_m7 174 rfl) rfl
theorem q1678 : (Jvm.Cond.methodLink "SplitpointerModel$Bucket" (22 : Nat) ({ cls := "java/util/ArrayList", name := "iterator", desc := "()Ljava/util/Iterator;" } : Jvm.MethodName)) ∈ lw_all := lw_g (lw_at lw_m7 175 rfl) rfl
theorem q1679 : (Jvm.Cond.interfaceEntry "SplitpointerModel$Bucket" (26 : Nat)) ∈ lw_tbl := lw_at lw_m7 176 rfl
theorem q1680 : (Jvm.Cond.methodLink "SplitpointerModel$Bucket" (26 : Nat) ({ cls := "java/util/Iterator", name := "hasNext", desc := "()Z" } : Jvm.MethodName)) ∈ lw_all := lw_g (lw_at lw_m7 177 rfl) rfl
theorem q1681 : (Jvm.Cond.interfaceEntry "SplitpointerModel$Bucket" (32 : Nat)) ∈ lw_tbl := lw_at lw_m7 178 rfl
theorem q1682 : (Jvm.Cond.methodLink "SplitpointerModel$Bucket" (32 : Nat) ({ cls := "java/util/Iterator", name := "next", desc := "()Ljava/lang/Object;" } : Jvm.MethodName)) ∈ lw_all := lw_g (lw_at lw_m7 179 rfl) rfl
theorem q1683 : (Jvm.Cond.classLink "SplitpointerModel$Bucket" (36 : Nat) "[I") ∈ lw_all := lw_g (lw_at lw_m7 180 rfl) rfl
theorem q1684 : (Jvm.Cond.methodLink "SplitpointerModel$Bucket" (38 : Nat) ({ cls := "[I", name := "clone", desc := "()Ljava/lang/Object;" } : Jvm.MethodName)) ∈ lw_all := lw_g (lw_at lw_m7 181 rfl) rfl
theorem q1688 : (Jvm.Cond.methodLink "SplitpointerModel$Bucket" (41 : Nat) ({ cls := "java/util/ArrayList", name := "add", desc := "(Ljava/lang/Object;)Z" } : Jvm.MethodName)) ∈ lw_all := lw_g (lw_at lw_m7 185 rfl) rfl
theorem q1689 : (Jvm.Cond.methodLink "SplitpointerModel$Bucket" (45 : Nat) ({ cls := "java/util/ArrayList", name := "addAll", desc := "(Ljava/util/Collection;)Z" } : Jvm.MethodName)) ∈ lw_all := lw_g (lw_at lw_m7 186 rfl) rfl
theorem q1740 : (Jvm.Cond.instanceMethod ({ cls := "SplitpointerModel$Bucket", name := "at", desc := "(I)I" } : Jvm.MethodName)) ∈ lw_all := lw_g (lw_at lw_m7 237 rfl) rfl
theorem q1741 : (Jvm.Cond.selects "SplitpointerModel$Bucket" ({ cls := "SplitpointerModel$Bucket", name := "at", desc := "(I)I" } : Jvm.MethodName) ({ cls := "SplitpointerModel$Bucket", name := "at", desc := "(I)I" } : Jvm.MethodName)) ∈ lw_all := lw_g (lw_at lw_m7 238 rfl) rfl
theorem q1742 : (Jvm.Cond.code ({ cls := "SplitpointerModel$Bucket", name := "at", desc := "(I)I" } : Jvm.MethodName) prog_16_method_3_code (3 : Nat) (Option.some Jvm.ClassFile.FieldType.int)) ∈ lw_all := lw_g (lw_at lw_m7 239 rfl) rfl
theorem q1743 : (Jvm.Cond.methodLink "SplitpointerModel$Bucket" (53 : Nat) ({ cls := "java/util/ArrayList", name := "size", desc := "()I" } : Jvm.MethodName)) ∈ lw_all := lw_g (lw_at lw_m8 0 rfl) rfl
theorem q1744 : (Jvm.Cond.methodLink "SplitpointerModel$Bucket" (57 : Nat) ({ cls := "java/util/ArrayList", name := "get", desc := "(I)Ljava/lang/Object;" } : Jvm.MethodName)) ∈ lw_all := lw_g (lw_at lw_m8 1 rfl) rfl
theorem q2071 : (Jvm.Cond.castable "SplitpointerModel$Bucket" "java/lang/Object") ∈ lw_tbl := lw_at lw_m9 88 rfl
theorem in_X9 : ∀ w ∈ wsX90, w ∈ lw_all := lw_in wsX90 [1433, 1435, 1437] (by decide +kernel) (by decide +kernel)
/-! SplitpointerLaw$Out -/
set_option maxRecDepth 100000
def RX10 : String := "SplitpointerLaw$Out"
def TX10 : u_T := fun k => match k with
  | 0 => ("SplitpointerLaw$Out", "n", "J", false)
  | _ => ("SplitpointerLaw$Out", "s", "Ljava/lang/String;", false)
def tyX10 : Nat → FieldType := fun k => match k with
  | 0 => .long
  | _ => .object "java/lang/String"
abbrev wsX100 : List Cond := u_ws RX10 TX10 2
theorem nmX10 : ∀ a, a < 2 → ∀ b, b < 2 → a ≠ b → (TX10 a).2.1 ≠ (TX10 b).2.1 := by decide +kernel
theorem tyX10_ok : ∀ k, k < 2 → parseFieldDescriptor (TX10 k).2.2.1 = some (tyX10 k) := by decide +kernel
abbrev cX10_init : ByteArray := prog_14_method_1_code
def yX10_init : MethodName := ⟨RX10, "<init>", "()V"⟩
theorem dX10_init_0 : decode cX10_init 0 = .ok (.aload_n 0, 1) := by decide +kernel
theorem dX10_init_1 : decode cX10_init 1 = .ok (.invokespecial 1, 3) := by decide +kernel
theorem dX10_init_4 : decode cX10_init 4 = .ok (.return_, 1) := by decide +kernel
theorem q86 : (Jvm.Cond.initialized "SplitpointerLaw$Out") ∈ lw_all := lw_g (lw_at lw_m1 23 rfl) rfl
theorem q261 : (Jvm.Cond.selects "SplitpointerLaw$Out" ({ cls := "java/lang/Object", name := "getClass", desc := "()Ljava/lang/Class;" } : Jvm.MethodName) ({ cls := "java/lang/Object", name := "getClass", desc := "()Ljava/lang/Class;" } : Jvm.MethodName)) ∈ lw_all := lw_g (lw_at lw_m1 198 rfl) rfl
theorem q1037 : (Jvm.Cond.instantiable "SplitpointerLaw$Out" (2 : Nat)) ∈ lw_all := lw_g (lw_at lw_m5 14 rfl) rfl
theorem q1039 : (Jvm.Cond.instanceMethod ({ cls := "SplitpointerLaw$Out", name := "<init>", desc := "()V" } : Jvm.MethodName)) ∈ lw_all := lw_g (lw_at lw_m5 16 rfl) rfl
theorem q1040 : (Jvm.Cond.code ({ cls := "SplitpointerLaw$Out", name := "<init>", desc := "()V" } : Jvm.MethodName) prog_14_method_1_code (1 : Nat) (Option.none : Option Jvm.ClassFile.FieldType)) ∈ lw_all := lw_g (lw_at lw_m5 17 rfl) rfl
theorem q1041 : (Jvm.Cond.methodLink "SplitpointerLaw$Out" (1 : Nat) ({ cls := "java/lang/Object", name := "<init>", desc := "()V" } : Jvm.MethodName)) ∈ lw_all := lw_g (lw_at lw_m5 18 rfl) rfl
theorem q1044 : (Jvm.Cond.lays "SplitpointerLaw$Out" "SplitpointerLaw$Out" "n" "J") ∈ lw_all := lw_g (lw_at lw_m5 21 rfl) rfl
theorem q1045 : (Jvm.Cond.soleField "SplitpointerLaw$Out" "n") ∈ lw_all := lw_g (lw_at lw_m5 22 rfl) rfl
theorem q1046 : (Jvm.Cond.lays "SplitpointerLaw$Out" "SplitpointerLaw$Out" "s" "Ljava/lang/String;") ∈ lw_all := lw_g (lw_at lw_m5 23 rfl) rfl
theorem q1047 : (Jvm.Cond.soleField "SplitpointerLaw$Out" "s") ∈ lw_all := lw_g (lw_at lw_m5 24 rfl) rfl
theorem q1048 : (Jvm.Cond.superclass "SplitpointerLaw$Out" "java/lang/Object") ∈ lw_all := lw_g (lw_at lw_m5 25 rfl) rfl
theorem q1537 : (Jvm.Cond.selects "SplitpointerLaw$Out" ({ cls := "java/lang/Object", name := "equals", desc := "(Ljava/lang/Object;)Z" } : Jvm.MethodName) ({ cls := "java/lang/Object", name := "equals", desc := "(Ljava/lang/Object;)Z" } : Jvm.MethodName)) ∈ lw_all := lw_g (lw_at lw_m7 34 rfl) rfl
theorem q2074 : (Jvm.Cond.castable "SplitpointerLaw$Out" "java/lang/Object") ∈ lw_tbl := lw_at lw_m9 91 rfl
theorem in_X10 : ∀ w ∈ wsX100, w ∈ lw_all := lw_in wsX100 [1044, 1046] (by decide +kernel) (by decide +kernel)
/-! Splitpointer$Entry -/
set_option maxRecDepth 100000
def RX11 : String := "Splitpointer$Entry"
def TX11 : u_T := fun k => match k with
  | 0 => ("Splitpointer$Entry", "key", "I", true)
  | _ => ("Splitpointer$Entry", "value", "I", false)
def tyX11 : Nat → FieldType := fun k => match k with
  | 0 => .int
  | _ => .int
abbrev wsX110 : List Cond := u_ws RX11 TX11 2
theorem nmX11 : ∀ a, a < 2 → ∀ b, b < 2 → a ≠ b → (TX11 a).2.1 ≠ (TX11 b).2.1 := by decide +kernel
theorem tyX11_ok : ∀ k, k < 2 → parseFieldDescriptor (TX11 k).2.2.1 = some (tyX11 k) := by decide +kernel
abbrev cX11_copy : ByteArray := prog_7_method_3_code
def yX11_copy : MethodName := ⟨RX11, "copy", "()LSplitpointer$Entry;"⟩
def dkwX11_copy_0 : List UInt8 := [187, 0, 10, 89, 42, 180, 0, 9, 42, 180, 0, 15, 183, 0, 18, 176]
abbrev dktX11_copy_0 : List UInt8 := dkwX11_copy_0 ++ []
theorem dksX11_copy_0 : cX11_copy.data.toList.drop 0 = dktX11_copy_0 := by decide +kernel
theorem dX11_copy_0 : decode cX11_copy 0 = .ok (.new 10, 3) := dk_187 0 10 (dk_at dksX11_copy_0 0 rfl rfl)
theorem dX11_copy_3 : decode cX11_copy 3 = .ok (.dup, 1) := dk_89 (dk_at dksX11_copy_0 3 rfl rfl)
theorem dX11_copy_4 : decode cX11_copy 4 = .ok (.aload_n 0, 1) := dk_42 (dk_at dksX11_copy_0 4 rfl rfl)
theorem dX11_copy_5 : decode cX11_copy 5 = .ok (.getfield 9, 3) := dk_180 0 9 (dk_at dksX11_copy_0 5 rfl rfl)
theorem dX11_copy_8 : decode cX11_copy 8 = .ok (.aload_n 0, 1) := dk_42 (dk_at dksX11_copy_0 8 rfl rfl)
theorem dX11_copy_9 : decode cX11_copy 9 = .ok (.getfield 15, 3) := dk_180 0 15 (dk_at dksX11_copy_0 9 rfl rfl)
theorem dX11_copy_12 : decode cX11_copy 12 = .ok (.invokespecial 18, 3) := dk_183 0 18 (dk_at dksX11_copy_0 12 rfl rfl)
theorem dX11_copy_15 : decode cX11_copy 15 = .ok (.areturn, 1) := dk_176 (dk_at dksX11_copy_0 15 rfl rfl)
abbrev cX11_init : ByteArray := prog_7_method_1_code
def yX11_init : MethodName := ⟨RX11, "<init>", "(II)V"⟩
def dkwX11_init_0 : List UInt8 := [42, 183, 0, 3, 42, 27, 181, 0, 9, 42, 28, 181, 0, 15, 177]
abbrev dktX11_init_0 : List UInt8 := dkwX11_init_0 ++ []
theorem dksX11_init_0 : cX11_init.data.toList.drop 0 = dktX11_init_0 := by decide +kernel
theorem dX11_init_0 : decode cX11_init 0 = .ok (.aload_n 0, 1) := dk_42 (dk_at dksX11_init_0 0 rfl rfl)
theorem dX11_init_1 : decode cX11_init 1 = .ok (.invokespecial 3, 3) := dk_183 0 3 (dk_at dksX11_init_0 1 rfl rfl)
theorem dX11_init_4 : decode cX11_init 4 = .ok (.aload_n 0, 1) := dk_42 (dk_at dksX11_init_0 4 rfl rfl)
theorem dX11_init_5 : decode cX11_init 5 = .ok (.iload_n 1, 1) := dk_27 (dk_at dksX11_init_0 5 rfl rfl)
theorem dX11_init_6 : decode cX11_init 6 = .ok (.putfield 9, 3) := dk_181 0 9 (dk_at dksX11_init_0 6 rfl rfl)
theorem dX11_init_9 : decode cX11_init 9 = .ok (.aload_n 0, 1) := dk_42 (dk_at dksX11_init_0 9 rfl rfl)
theorem dX11_init_10 : decode cX11_init 10 = .ok (.iload_n 2, 1) := dk_28 (dk_at dksX11_init_0 10 rfl rfl)
theorem dX11_init_11 : decode cX11_init 11 = .ok (.putfield 15, 3) := dk_181 0 15 (dk_at dksX11_init_0 11 rfl rfl)
theorem dX11_init_14 : decode cX11_init 14 = .ok (.return_, 1) := dk_177 (dk_at dksX11_init_0 14 rfl rfl)
abbrev cX11_isOf : ByteArray := prog_7_method_2_code
def yX11_isOf : MethodName := ⟨RX11, "isOf", "(ZI)Z"⟩
def dkwX11_isOf_1 : List UInt8 := [160, 0, 7, 4, 167, 0, 4, 3, 172]
abbrev dktX11_isOf_1 : List UInt8 := dkwX11_isOf_1 ++ []
def dkwX11_isOf_0 : List UInt8 := [27, 153, 0, 13, 42, 180, 0, 9, 16, 100, 108, 167, 0, 10, 42, 180, 0, 9, 16, 100, 112, 28]
abbrev dktX11_isOf_0 : List UInt8 := dkwX11_isOf_0 ++ dktX11_isOf_1
theorem dksX11_isOf_0 : cX11_isOf.data.toList.drop 0 = dktX11_isOf_0 := by decide +kernel
theorem dksX11_isOf_1 : cX11_isOf.data.toList.drop 22 = dktX11_isOf_1 := dk_seg dksX11_isOf_0 22 rfl rfl
theorem dX11_isOf_0 : decode cX11_isOf 0 = .ok (.iload_n 1, 1) := dk_27 (dk_at dksX11_isOf_0 0 rfl rfl)
theorem dX11_isOf_1 : decode cX11_isOf 1 = .ok (.ifCond .eq 13, 3) := dk_153 0 13 (dk_at dksX11_isOf_0 1 rfl rfl)
theorem dX11_isOf_4 : decode cX11_isOf 4 = .ok (.aload_n 0, 1) := dk_42 (dk_at dksX11_isOf_0 4 rfl rfl)
theorem dX11_isOf_5 : decode cX11_isOf 5 = .ok (.getfield 9, 3) := dk_180 0 9 (dk_at dksX11_isOf_0 5 rfl rfl)
theorem dX11_isOf_8 : decode cX11_isOf 8 = .ok (.bipush 100, 2) := dk_16 100 (dk_at dksX11_isOf_0 8 rfl rfl)
theorem dX11_isOf_10 : decode cX11_isOf 10 = .ok (.idiv, 1) := dk_108 (dk_at dksX11_isOf_0 10 rfl rfl)
theorem dX11_isOf_11 : decode cX11_isOf 11 = .ok (.goto 10, 3) := dk_167 0 10 (dk_at dksX11_isOf_0 11 rfl rfl)
theorem dX11_isOf_14 : decode cX11_isOf 14 = .ok (.aload_n 0, 1) := dk_42 (dk_at dksX11_isOf_0 14 rfl rfl)
theorem dX11_isOf_15 : decode cX11_isOf 15 = .ok (.getfield 9, 3) := dk_180 0 9 (dk_at dksX11_isOf_0 15 rfl rfl)
theorem dX11_isOf_18 : decode cX11_isOf 18 = .ok (.bipush 100, 2) := dk_16 100 (dk_at dksX11_isOf_0 18 rfl rfl)
theorem dX11_isOf_20 : decode cX11_isOf 20 = .ok (.irem, 1) := dk_112 (dk_at dksX11_isOf_0 20 rfl rfl)
theorem dX11_isOf_21 : decode cX11_isOf 21 = .ok (.iload_n 2, 1) := dk_28 (dk_at dksX11_isOf_0 21 rfl rfl)
theorem dX11_isOf_22 : decode cX11_isOf 22 = .ok (.if_icmp .ne 7, 3) := dk_160 0 7 (dk_at dksX11_isOf_1 0 rfl rfl)
theorem dX11_isOf_25 : decode cX11_isOf 25 = .ok (.iconst 1, 1) := dk_4 (dk_at dksX11_isOf_1 3 rfl rfl)
theorem dX11_isOf_26 : decode cX11_isOf 26 = .ok (.goto 4, 3) := dk_167 0 4 (dk_at dksX11_isOf_1 4 rfl rfl)
theorem dX11_isOf_29 : decode cX11_isOf 29 = .ok (.iconst 0, 1) := dk_3 (dk_at dksX11_isOf_1 7 rfl rfl)
theorem dX11_isOf_30 : decode cX11_isOf 30 = .ok (.ireturn, 1) := dk_172 (dk_at dksX11_isOf_1 8 rfl rfl)
theorem q93 : (Jvm.Cond.initialized "Splitpointer$Entry") ∈ lw_all := lw_g (lw_at lw_m1 30 rfl) rfl
theorem q255 : (Jvm.Cond.selects "Splitpointer$Entry" ({ cls := "java/lang/Object", name := "getClass", desc := "()Ljava/lang/Class;" } : Jvm.MethodName) ({ cls := "java/lang/Object", name := "getClass", desc := "()Ljava/lang/Class;" } : Jvm.MethodName)) ∈ lw_all := lw_g (lw_at lw_m1 192 rfl) rfl
theorem q437 : (Jvm.Cond.instanceMethod ({ cls := "Splitpointer$Entry", name := "copy", desc := "()LSplitpointer$Entry;" } : Jvm.MethodName)) ∈ lw_all := lw_g (lw_at lw_m2 134 rfl) rfl
theorem q438 : (Jvm.Cond.selects "Splitpointer$Entry" ({ cls := "Splitpointer$Entry", name := "copy", desc := "()LSplitpointer$Entry;" } : Jvm.MethodName) ({ cls := "Splitpointer$Entry", name := "copy", desc := "()LSplitpointer$Entry;" } : Jvm.MethodName)) ∈ lw_all := lw_g (lw_at lw_m2 135 rfl) rfl
theorem q439 : (Jvm.Cond.code ({ cls := "Splitpointer$Entry", name := "copy", desc := "()LSplitpointer$Entry;" } : Jvm.MethodName) prog_7_method_3_code (1 : Nat) (Option.some (Jvm.ClassFile.FieldType.object "Splitpointer$Entry"))) ∈ lw_all := lw_g (lw_at lw_m2 136 rfl) rfl
theorem q440 : (Jvm.Cond.classLink "Splitpointer$Entry" (10 : Nat) "Splitpointer$Entry") ∈ lw_all := lw_g (lw_at lw_m2 137 rfl) rfl
theorem q441 : (Jvm.Cond.instantiable "Splitpointer$Entry" (2 : Nat)) ∈ lw_all := lw_g (lw_at lw_m2 138 rfl) rfl
theorem q442 : (Jvm.Cond.methodLink "Splitpointer$Entry" (18 : Nat) ({ cls := "Splitpointer$Entry", name := "<init>", desc := "(II)V" } : Jvm.MethodName)) ∈ lw_all := lw_g (lw_at lw_m2 139 rfl) rfl
theorem q443 : (Jvm.Cond.instanceMethod ({ cls := "Splitpointer$Entry", name := "<init>", desc := "(II)V" } : Jvm.MethodName)) ∈ lw_all := lw_g (lw_at lw_m2 140 rfl) rfl
theorem q444 : (Jvm.Cond.code ({ cls := "Splitpointer$Entry", name := "<init>", desc := "(II)V" } : Jvm.MethodName) prog_7_method_1_code (3 : Nat) (Option.none : Option Jvm.ClassFile.FieldType)) ∈ lw_all := lw_g (lw_at lw_m2 141 rfl) rfl
theorem q445 : (Jvm.Cond.methodLink "Splitpointer$Entry" (3 : Nat) ({ cls := "java/lang/Object", name := "<init>", desc := "()V" } : Jvm.MethodName)) ∈ lw_all := lw_g (lw_at lw_m2 142 rfl) rfl
theorem q446 : (Jvm.Cond.fieldLink "Splitpointer$Entry" (9 : Nat) "Splitpointer$Entry" "key" "I") ∈ lw_all := lw_g (lw_at lw_m2 143 rfl) rfl
theorem q449 : (Jvm.Cond.fieldLink "Splitpointer$Entry" (15 : Nat) "Splitpointer$Entry" "value" "I") ∈ lw_all := lw_g (lw_at lw_m2 146 rfl) rfl
theorem q452 : (Jvm.Cond.laysFinal "Splitpointer$Entry" "Splitpointer$Entry" "key" "I") ∈ lw_all := lw_g (lw_at lw_m2 149 rfl) rfl
theorem q453 : (Jvm.Cond.soleField "Splitpointer$Entry" "key") ∈ lw_all := lw_g (lw_at lw_m2 150 rfl) rfl
theorem q454 : (Jvm.Cond.lays "Splitpointer$Entry" "Splitpointer$Entry" "value" "I") ∈ lw_all := lw_g (lw_at lw_m2 151 rfl) rfl
theorem q455 : (Jvm.Cond.soleField "Splitpointer$Entry" "value") ∈ lw_all := lw_g (lw_at lw_m2 152 rfl) rfl
theorem q456 : (Jvm.Cond.superclass "Splitpointer$Entry" "java/lang/Object") ∈ lw_all := lw_g (lw_at lw_m2 153 rfl) rfl
theorem q1373 : (Jvm.Cond.instanceMethod ({ cls := "Splitpointer$Entry", name := "isOf", desc := "(ZI)Z" } : Jvm.MethodName)) ∈ lw_all := lw_g (lw_at lw_m6 110 rfl) rfl
theorem q1374 : (Jvm.Cond.selects "Splitpointer$Entry" ({ cls := "Splitpointer$Entry", name := "isOf", desc := "(ZI)Z" } : Jvm.MethodName) ({ cls := "Splitpointer$Entry", name := "isOf", desc := "(ZI)Z" } : Jvm.MethodName)) ∈ lw_all := lw_g (lw_at lw_m6 111 rfl) rfl
theorem q1375 : (Jvm.Cond.code ({ cls := "Splitpointer$Entry", name := "isOf", desc := "(ZI)Z" } : Jvm.MethodName) prog_7_method_2_code (3 : Nat) (Option.some Jvm.ClassFile.FieldType.boolean)) ∈ lw_all := lw_g (lw_at lw_m6 112 rfl) rfl
theorem q1531 : (Jvm.Cond.selects "Splitpointer$Entry" ({ cls := "java/lang/Object", name := "equals", desc := "(Ljava/lang/Object;)Z" } : Jvm.MethodName) ({ cls := "java/lang/Object", name := "equals", desc := "(Ljava/lang/Object;)Z" } : Jvm.MethodName)) ∈ lw_all := lw_g (lw_at lw_m7 28 rfl) rfl
theorem q2076 : (Jvm.Cond.castable "Splitpointer$Entry" "java/lang/Object") ∈ lw_tbl := lw_at lw_m9 93 rfl
theorem in_X11 : ∀ w ∈ wsX110, w ∈ lw_all := lw_in wsX110 [452, 454] (by decide +kernel) (by decide +kernel)
/-! Splitpointer$Bounds -/
set_option maxRecDepth 100000
def RX12 : String := "Splitpointer$Bounds"
def TX12 : u_T := fun k => match k with
  | 0 => ("Splitpointer$Bounds", "lower", "I", true)
  | _ => ("Splitpointer$Bounds", "upper", "I", true)
def tyX12 : Nat → FieldType := fun k => match k with
  | 0 => .int
  | _ => .int
abbrev wsX120 : List Cond := u_ws RX12 TX12 2
theorem nmX12 : ∀ a, a < 2 → ∀ b, b < 2 → a ≠ b → (TX12 a).2.1 ≠ (TX12 b).2.1 := by decide +kernel
theorem tyX12_ok : ∀ k, k < 2 → parseFieldDescriptor (TX12 k).2.2.1 = some (tyX12 k) := by decide +kernel
abbrev cX12_on : ByteArray := prog_3_method_2_code
def yX12_on : MethodName := ⟨RX12, "on", "(LSplitpointer$Store;)V"⟩
def dkwX12_on_0 : List UInt8 := [43, 42, 180, 0, 7, 181, 0, 16, 43, 42, 180, 0, 13, 181, 0, 19, 177]
abbrev dktX12_on_0 : List UInt8 := dkwX12_on_0 ++ []
theorem dksX12_on_0 : cX12_on.data.toList.drop 0 = dktX12_on_0 := by decide +kernel
theorem dX12_on_0 : decode cX12_on 0 = .ok (.aload_n 1, 1) := dk_43 (dk_at dksX12_on_0 0 rfl rfl)
theorem dX12_on_1 : decode cX12_on 1 = .ok (.aload_n 0, 1) := dk_42 (dk_at dksX12_on_0 1 rfl rfl)
theorem dX12_on_2 : decode cX12_on 2 = .ok (.getfield 7, 3) := dk_180 0 7 (dk_at dksX12_on_0 2 rfl rfl)
theorem dX12_on_5 : decode cX12_on 5 = .ok (.putfield 16, 3) := dk_181 0 16 (dk_at dksX12_on_0 5 rfl rfl)
theorem dX12_on_8 : decode cX12_on 8 = .ok (.aload_n 1, 1) := dk_43 (dk_at dksX12_on_0 8 rfl rfl)
theorem dX12_on_9 : decode cX12_on 9 = .ok (.aload_n 0, 1) := dk_42 (dk_at dksX12_on_0 9 rfl rfl)
theorem dX12_on_10 : decode cX12_on 10 = .ok (.getfield 13, 3) := dk_180 0 13 (dk_at dksX12_on_0 10 rfl rfl)
theorem dX12_on_13 : decode cX12_on 13 = .ok (.putfield 19, 3) := dk_181 0 19 (dk_at dksX12_on_0 13 rfl rfl)
theorem dX12_on_16 : decode cX12_on 16 = .ok (.return_, 1) := dk_177 (dk_at dksX12_on_0 16 rfl rfl)
abbrev cX12_init : ByteArray := prog_3_method_1_code
def yX12_init : MethodName := ⟨RX12, "<init>", "(II)V"⟩
def dkwX12_init_0 : List UInt8 := [42, 183, 0, 1, 42, 27, 181, 0, 7, 42, 28, 181, 0, 13, 177]
abbrev dktX12_init_0 : List UInt8 := dkwX12_init_0 ++ []
theorem dksX12_init_0 : cX12_init.data.toList.drop 0 = dktX12_init_0 := by decide +kernel
theorem dX12_init_0 : decode cX12_init 0 = .ok (.aload_n 0, 1) := dk_42 (dk_at dksX12_init_0 0 rfl rfl)
theorem dX12_init_1 : decode cX12_init 1 = .ok (.invokespecial 1, 3) := dk_183 0 1 (dk_at dksX12_init_0 1 rfl rfl)
theorem dX12_init_4 : decode cX12_init 4 = .ok (.aload_n 0, 1) := dk_42 (dk_at dksX12_init_0 4 rfl rfl)
theorem dX12_init_5 : decode cX12_init 5 = .ok (.iload_n 1, 1) := dk_27 (dk_at dksX12_init_0 5 rfl rfl)
theorem dX12_init_6 : decode cX12_init 6 = .ok (.putfield 7, 3) := dk_181 0 7 (dk_at dksX12_init_0 6 rfl rfl)
theorem dX12_init_9 : decode cX12_init 9 = .ok (.aload_n 0, 1) := dk_42 (dk_at dksX12_init_0 9 rfl rfl)
theorem dX12_init_10 : decode cX12_init 10 = .ok (.iload_n 2, 1) := dk_28 (dk_at dksX12_init_0 10 rfl rfl)
theorem dX12_init_11 : decode cX12_init 11 = .ok (.putfield 13, 3) := dk_181 0 13 (dk_at dksX12_init_0 11 rfl rfl)
theorem dX12_init_14 : decode cX12_init 14 = .ok (.return_, 1) := dk_177 (dk_at dksX12_init_0 14 rfl rfl)
theorem q94 : (Jvm.Cond.initialized "Splitpointer$Bounds") ∈ lw_all := lw_g (lw_at lw_m1 31 rfl) rfl
theorem q251 : (Jvm.Cond.selects "Splitpointer$Bounds" ({ cls := "java/lang/Object", name := "getClass", desc := "()Ljava/lang/Class;" } : Jvm.MethodName) ({ cls := "java/lang/Object", name := "getClass", desc := "()Ljava/lang/Class;" } : Jvm.MethodName)) ∈ lw_all := lw_g (lw_at lw_m1 188 rfl) rfl
theorem q292 : (Jvm.Cond.fieldLink "Splitpointer$Bounds" (16 : Nat) "Splitpointer$Store" "lower" "I") ∈ lw_all := lw_g (lw_at lw_m1 229 rfl) rfl
theorem q295 : (Jvm.Cond.fieldLink "Splitpointer$Bounds" (19 : Nat) "Splitpointer$Store" "upper" "I") ∈ lw_all := lw_g (lw_at lw_m1 232 rfl) rfl
theorem q472 : (Jvm.Cond.castable "Splitpointer$Bounds" "Splitpointer$Act") ∈ lw_tbl := lw_at lw_m2 169 rfl
theorem q473 : (Jvm.Cond.selects "Splitpointer$Bounds" ({ cls := "Splitpointer$Act", name := "on", desc := "(LSplitpointer$Store;)V" } : Jvm.MethodName) ({ cls := "Splitpointer$Bounds", name := "on", desc := "(LSplitpointer$Store;)V" } : Jvm.MethodName)) ∈ lw_all := lw_g (lw_at lw_m2 170 rfl) rfl
theorem q474 : (Jvm.Cond.unhidden "Splitpointer$Bounds" "on" "(LSplitpointer$Store;)V") ∈ lw_tbl := lw_at lw_m2 171 rfl
theorem q475 : (Jvm.Cond.instanceMethod ({ cls := "Splitpointer$Bounds", name := "on", desc := "(LSplitpointer$Store;)V" } : Jvm.MethodName)) ∈ lw_all := lw_g (lw_at lw_m2 172 rfl) rfl
theorem q476 : (Jvm.Cond.publicMethod ({ cls := "Splitpointer$Bounds", name := "on", desc := "(LSplitpointer$Store;)V" } : Jvm.MethodName)) ∈ lw_tbl := lw_at lw_m2 173 rfl
theorem q477 : (Jvm.Cond.code ({ cls := "Splitpointer$Bounds", name := "on", desc := "(LSplitpointer$Store;)V" } : Jvm.MethodName) prog_3_method_2_code (2 : Nat) (Option.none : Option Jvm.ClassFile.FieldType)) ∈ lw_all := lw_g (lw_at lw_m2 174 rfl) rfl
theorem q1090 : (Jvm.Cond.instantiable "Splitpointer$Bounds" (2 : Nat)) ∈ lw_all := lw_g (lw_at lw_m5 67 rfl) rfl
theorem q1092 : (Jvm.Cond.instanceMethod ({ cls := "Splitpointer$Bounds", name := "<init>", desc := "(II)V" } : Jvm.MethodName)) ∈ lw_all := lw_g (lw_at lw_m5 69 rfl) rfl
theorem q1093 : (Jvm.Cond.code ({ cls := "Splitpointer$Bounds", name := "<init>", desc := "(II)V" } : Jvm.MethodName) prog_3_method_1_code (3 : Nat) (Option.none : Option Jvm.ClassFile.FieldType)) ∈ lw_all := lw_g (lw_at lw_m5 70 rfl) rfl
theorem q1094 : (Jvm.Cond.methodLink "Splitpointer$Bounds" (1 : Nat) ({ cls := "java/lang/Object", name := "<init>", desc := "()V" } : Jvm.MethodName)) ∈ lw_all := lw_g (lw_at lw_m5 71 rfl) rfl
theorem q1095 : (Jvm.Cond.fieldLink "Splitpointer$Bounds" (7 : Nat) "Splitpointer$Bounds" "lower" "I") ∈ lw_all := lw_g (lw_at lw_m5 72 rfl) rfl
theorem q1096 : (Jvm.Cond.fieldLink "Splitpointer$Bounds" (13 : Nat) "Splitpointer$Bounds" "upper" "I") ∈ lw_all := lw_g (lw_at lw_m5 73 rfl) rfl
theorem q1097 : (Jvm.Cond.laysFinal "Splitpointer$Bounds" "Splitpointer$Bounds" "lower" "I") ∈ lw_all := lw_g (lw_at lw_m5 74 rfl) rfl
theorem q1098 : (Jvm.Cond.soleField "Splitpointer$Bounds" "lower") ∈ lw_all := lw_g (lw_at lw_m5 75 rfl) rfl
theorem q1099 : (Jvm.Cond.laysFinal "Splitpointer$Bounds" "Splitpointer$Bounds" "upper" "I") ∈ lw_all := lw_g (lw_at lw_m5 76 rfl) rfl
theorem q1100 : (Jvm.Cond.soleField "Splitpointer$Bounds" "upper") ∈ lw_all := lw_g (lw_at lw_m5 77 rfl) rfl
theorem q1101 : (Jvm.Cond.superclass "Splitpointer$Bounds" "java/lang/Object") ∈ lw_all := lw_g (lw_at lw_m5 78 rfl) rfl
theorem q1527 : (Jvm.Cond.selects "Splitpointer$Bounds" ({ cls := "java/lang/Object", name := "equals", desc := "(Ljava/lang/Object;)Z" } : Jvm.MethodName) ({ cls := "java/lang/Object", name := "equals", desc := "(Ljava/lang/Object;)Z" } : Jvm.MethodName)) ∈ lw_all := lw_g (lw_at lw_m7 24 rfl) rfl
theorem q2077 : (Jvm.Cond.castable "Splitpointer$Bounds" "java/lang/Object") ∈ lw_tbl := lw_at lw_m9 94 rfl
theorem in_X12 : ∀ w ∈ wsX120, w ∈ lw_all := lw_in wsX120 [1097, 1099] (by decide +kernel) (by decide +kernel)
/-! Splitpointer$Put -/
set_option maxRecDepth 100000
def RX13 : String := "Splitpointer$Put"
def TX13 : u_T := fun k => match k with
  | 0 => ("Splitpointer$Put", "key", "I", true)
  | _ => ("Splitpointer$Put", "value", "I", true)
def tyX13 : Nat → FieldType := fun k => match k with
  | 0 => .int
  | _ => .int
abbrev wsX130 : List Cond := u_ws RX13 TX13 2
theorem nmX13 : ∀ a, a < 2 → ∀ b, b < 2 → a ≠ b → (TX13 a).2.1 ≠ (TX13 b).2.1 := by decide +kernel
theorem tyX13_ok : ∀ k, k < 2 → parseFieldDescriptor (TX13 k).2.2.1 = some (tyX13 k) := by decide +kernel
abbrev cX13_on : ByteArray := prog_10_method_2_code
def yX13_on : MethodName := ⟨RX13, "on", "(LSplitpointer$Store;)V"⟩
def dkwX13_on_0 : List UInt8 := [43, 42, 180, 0, 7, 42, 180, 0, 13, 182, 0, 16, 87, 177]
abbrev dktX13_on_0 : List UInt8 := dkwX13_on_0 ++ []
theorem dksX13_on_0 : cX13_on.data.toList.drop 0 = dktX13_on_0 := by decide +kernel
theorem dX13_on_0 : decode cX13_on 0 = .ok (.aload_n 1, 1) := dk_43 (dk_at dksX13_on_0 0 rfl rfl)
theorem dX13_on_1 : decode cX13_on 1 = .ok (.aload_n 0, 1) := dk_42 (dk_at dksX13_on_0 1 rfl rfl)
theorem dX13_on_2 : decode cX13_on 2 = .ok (.getfield 7, 3) := dk_180 0 7 (dk_at dksX13_on_0 2 rfl rfl)
theorem dX13_on_5 : decode cX13_on 5 = .ok (.aload_n 0, 1) := dk_42 (dk_at dksX13_on_0 5 rfl rfl)
theorem dX13_on_6 : decode cX13_on 6 = .ok (.getfield 13, 3) := dk_180 0 13 (dk_at dksX13_on_0 6 rfl rfl)
theorem dX13_on_9 : decode cX13_on 9 = .ok (.invokevirtual 16, 3) := dk_182 0 16 (dk_at dksX13_on_0 9 rfl rfl)
theorem dX13_on_12 : decode cX13_on 12 = .ok (.pop, 1) := dk_87 (dk_at dksX13_on_0 12 rfl rfl)
theorem dX13_on_13 : decode cX13_on 13 = .ok (.return_, 1) := dk_177 (dk_at dksX13_on_0 13 rfl rfl)
abbrev cX13_init : ByteArray := prog_10_method_1_code
def yX13_init : MethodName := ⟨RX13, "<init>", "(II)V"⟩
def dkwX13_init_0 : List UInt8 := [42, 183, 0, 1, 42, 27, 181, 0, 7, 42, 28, 181, 0, 13, 177]
abbrev dktX13_init_0 : List UInt8 := dkwX13_init_0 ++ []
theorem dksX13_init_0 : cX13_init.data.toList.drop 0 = dktX13_init_0 := by decide +kernel
theorem dX13_init_0 : decode cX13_init 0 = .ok (.aload_n 0, 1) := dk_42 (dk_at dksX13_init_0 0 rfl rfl)
theorem dX13_init_1 : decode cX13_init 1 = .ok (.invokespecial 1, 3) := dk_183 0 1 (dk_at dksX13_init_0 1 rfl rfl)
theorem dX13_init_4 : decode cX13_init 4 = .ok (.aload_n 0, 1) := dk_42 (dk_at dksX13_init_0 4 rfl rfl)
theorem dX13_init_5 : decode cX13_init 5 = .ok (.iload_n 1, 1) := dk_27 (dk_at dksX13_init_0 5 rfl rfl)
theorem dX13_init_6 : decode cX13_init 6 = .ok (.putfield 7, 3) := dk_181 0 7 (dk_at dksX13_init_0 6 rfl rfl)
theorem dX13_init_9 : decode cX13_init 9 = .ok (.aload_n 0, 1) := dk_42 (dk_at dksX13_init_0 9 rfl rfl)
theorem dX13_init_10 : decode cX13_init 10 = .ok (.iload_n 2, 1) := dk_28 (dk_at dksX13_init_0 10 rfl rfl)
theorem dX13_init_11 : decode cX13_init 11 = .ok (.putfield 13, 3) := dk_181 0 13 (dk_at dksX13_init_0 11 rfl rfl)
theorem dX13_init_14 : decode cX13_init 14 = .ok (.return_, 1) := dk_177 (dk_at dksX13_init_0 14 rfl rfl)
theorem q96 : (Jvm.Cond.initialized "Splitpointer$Put") ∈ lw_all := lw_g (lw_at lw_m1 33 rfl) rfl
theorem q258 : (Jvm.Cond.selects "Splitpointer$Put" ({ cls := "java/lang/Object", name := "getClass", desc := "()Ljava/lang/Class;" } : Jvm.MethodName) ({ cls := "java/lang/Object", name := "getClass", desc := "()Ljava/lang/Class;" } : Jvm.MethodName)) ∈ lw_all := lw_g (lw_at lw_m1 195 rfl) rfl
theorem q592 : (Jvm.Cond.castable "Splitpointer$Put" "Splitpointer$Act") ∈ lw_tbl := lw_at lw_m3 49 rfl
theorem q593 : (Jvm.Cond.selects "Splitpointer$Put" ({ cls := "Splitpointer$Act", name := "on", desc := "(LSplitpointer$Store;)V" } : Jvm.MethodName) ({ cls := "Splitpointer$Put", name := "on", desc := "(LSplitpointer$Store;)V" } : Jvm.MethodName)) ∈ lw_all := lw_g (lw_at lw_m3 50 rfl) rfl
theorem q594 : (Jvm.Cond.unhidden "Splitpointer$Put" "on" "(LSplitpointer$Store;)V") ∈ lw_tbl := lw_at lw_m3 51 rfl
theorem q595 : (Jvm.Cond.instanceMethod ({ cls := "Splitpointer$Put", name := "on", desc := "(LSplitpointer$Store;)V" } : Jvm.MethodName)) ∈ lw_all := lw_g (lw_at lw_m3 52 rfl) rfl
theorem q596 : (Jvm.Cond.publicMethod ({ cls := "Splitpointer$Put", name := "on", desc := "(LSplitpointer$Store;)V" } : Jvm.MethodName)) ∈ lw_tbl := lw_at lw_m3 53 rfl
theorem q597 : (Jvm.Cond.code ({ cls := "Splitpointer$Put", name := "on", desc := "(LSplitpointer$Store;)V" } : Jvm.MethodName) prog_10_method_2_code (2 : Nat) (Option.none : Option Jvm.ClassFile.FieldType)) ∈ lw_all := lw_g (lw_at lw_m3 54 rfl) rfl
theorem q598 : (Jvm.Cond.methodLink "Splitpointer$Put" (16 : Nat) ({ cls := "Splitpointer$Store", name := "put", desc := "(II)I" } : Jvm.MethodName)) ∈ lw_all := lw_g (lw_at lw_m3 55 rfl) rfl
theorem q1134 : (Jvm.Cond.instantiable "Splitpointer$Put" (2 : Nat)) ∈ lw_all := lw_g (lw_at lw_m5 111 rfl) rfl
theorem q1136 : (Jvm.Cond.instanceMethod ({ cls := "Splitpointer$Put", name := "<init>", desc := "(II)V" } : Jvm.MethodName)) ∈ lw_all := lw_g (lw_at lw_m5 113 rfl) rfl
theorem q1137 : (Jvm.Cond.code ({ cls := "Splitpointer$Put", name := "<init>", desc := "(II)V" } : Jvm.MethodName) prog_10_method_1_code (3 : Nat) (Option.none : Option Jvm.ClassFile.FieldType)) ∈ lw_all := lw_g (lw_at lw_m5 114 rfl) rfl
theorem q1138 : (Jvm.Cond.methodLink "Splitpointer$Put" (1 : Nat) ({ cls := "java/lang/Object", name := "<init>", desc := "()V" } : Jvm.MethodName)) ∈ lw_all := lw_g (lw_at lw_m5 115 rfl) rfl
theorem q1139 : (Jvm.Cond.fieldLink "Splitpointer$Put" (7 : Nat) "Splitpointer$Put" "key" "I") ∈ lw_all := lw_g (lw_at lw_m5 116 rfl) rfl
theorem q1140 : (Jvm.Cond.fieldLink "Splitpointer$Put" (13 : Nat) "Splitpointer$Put" "value" "I") ∈ lw_all := lw_g (lw_at lw_m5 117 rfl) rfl
theorem q1141 : (Jvm.Cond.laysFinal "Splitpointer$Put" "Splitpointer$Put" "key" "I") ∈ lw_all := lw_g (lw_at lw_m5 118 rfl) rfl
theorem q1142 : (Jvm.Cond.soleField "Splitpointer$Put" "key") ∈ lw_all := lw_g (lw_at lw_m5 119 rfl) rfl
theorem q1143 : (Jvm.Cond.laysFinal "Splitpointer$Put" "Splitpointer$Put" "value" "I") ∈ lw_all := lw_g (lw_at lw_m5 120 rfl) rfl
theorem q1144 : (Jvm.Cond.soleField "Splitpointer$Put" "value") ∈ lw_all := lw_g (lw_at lw_m5 121 rfl) rfl
theorem q1145 : (Jvm.Cond.superclass "Splitpointer$Put" "java/lang/Object") ∈ lw_all := lw_g (lw_at lw_m5 122 rfl) rfl
theorem q1534 : (Jvm.Cond.selects "Splitpointer$Put" ({ cls := "java/lang/Object", name := "equals", desc := "(Ljava/lang/Object;)Z" } : Jvm.MethodName) ({ cls := "java/lang/Object", name := "equals", desc := "(Ljava/lang/Object;)Z" } : Jvm.MethodName)) ∈ lw_all := lw_g (lw_at lw_m7 31 rfl) rfl
theorem q2079 : (Jvm.Cond.castable "Splitpointer$Put" "java/lang/Object") ∈ lw_tbl := lw_at lw_m9 96 rfl
theorem in_X13 : ∀ w ∈ wsX130, w ∈ lw_all := lw_in wsX130 [1141, 1143] (by decide +kernel) (by decide +kernel)
/-! Splitpointer$Drop -/
set_option maxRecDepth 100000
def RX14 : String := "Splitpointer$Drop"
def TX14 : u_T := fun k => match k with
  | _ => ("Splitpointer$Drop", "key", "I", true)
def tyX14 : Nat → FieldType := fun k => match k with
  | _ => .int
abbrev wsX140 : List Cond := u_ws RX14 TX14 1
theorem nmX14 : ∀ a, a < 1 → ∀ b, b < 1 → a ≠ b → (TX14 a).2.1 ≠ (TX14 b).2.1 := by decide +kernel
theorem tyX14_ok : ∀ k, k < 1 → parseFieldDescriptor (TX14 k).2.2.1 = some (tyX14 k) := by decide +kernel
abbrev cX14_on : ByteArray := prog_6_method_2_code
def yX14_on : MethodName := ⟨RX14, "on", "(LSplitpointer$Store;)V"⟩
def dkwX14_on_0 : List UInt8 := [43, 42, 180, 0, 7, 182, 0, 13, 177]
abbrev dktX14_on_0 : List UInt8 := dkwX14_on_0 ++ []
theorem dksX14_on_0 : cX14_on.data.toList.drop 0 = dktX14_on_0 := by decide +kernel
theorem dX14_on_0 : decode cX14_on 0 = .ok (.aload_n 1, 1) := dk_43 (dk_at dksX14_on_0 0 rfl rfl)
theorem dX14_on_1 : decode cX14_on 1 = .ok (.aload_n 0, 1) := dk_42 (dk_at dksX14_on_0 1 rfl rfl)
theorem dX14_on_2 : decode cX14_on 2 = .ok (.getfield 7, 3) := dk_180 0 7 (dk_at dksX14_on_0 2 rfl rfl)
theorem dX14_on_5 : decode cX14_on 5 = .ok (.invokevirtual 13, 3) := dk_182 0 13 (dk_at dksX14_on_0 5 rfl rfl)
theorem dX14_on_8 : decode cX14_on 8 = .ok (.return_, 1) := dk_177 (dk_at dksX14_on_0 8 rfl rfl)
abbrev cX14_init : ByteArray := prog_6_method_1_code
def yX14_init : MethodName := ⟨RX14, "<init>", "(I)V"⟩
def dkwX14_init_0 : List UInt8 := [42, 183, 0, 1, 42, 27, 181, 0, 7, 177]
abbrev dktX14_init_0 : List UInt8 := dkwX14_init_0 ++ []
theorem dksX14_init_0 : cX14_init.data.toList.drop 0 = dktX14_init_0 := by decide +kernel
theorem dX14_init_0 : decode cX14_init 0 = .ok (.aload_n 0, 1) := dk_42 (dk_at dksX14_init_0 0 rfl rfl)
theorem dX14_init_1 : decode cX14_init 1 = .ok (.invokespecial 1, 3) := dk_183 0 1 (dk_at dksX14_init_0 1 rfl rfl)
theorem dX14_init_4 : decode cX14_init 4 = .ok (.aload_n 0, 1) := dk_42 (dk_at dksX14_init_0 4 rfl rfl)
theorem dX14_init_5 : decode cX14_init 5 = .ok (.iload_n 1, 1) := dk_27 (dk_at dksX14_init_0 5 rfl rfl)
theorem dX14_init_6 : decode cX14_init 6 = .ok (.putfield 7, 3) := dk_181 0 7 (dk_at dksX14_init_0 6 rfl rfl)
theorem dX14_init_9 : decode cX14_init 9 = .ok (.return_, 1) := dk_177 (dk_at dksX14_init_0 9 rfl rfl)
theorem q97 : (Jvm.Cond.initialized "Splitpointer$Drop") ∈ lw_all := lw_g (lw_at lw_m1 34 rfl) rfl
theorem q254 : (Jvm.Cond.selects "Splitpointer$Drop" ({ cls := "java/lang/Object", name := "getClass", desc := "()Ljava/lang/Class;" } : Jvm.MethodName) ({ cls := "java/lang/Object", name := "getClass", desc := "()Ljava/lang/Class;" } : Jvm.MethodName)) ∈ lw_all := lw_g (lw_at lw_m1 191 rfl) rfl
theorem q478 : (Jvm.Cond.castable "Splitpointer$Drop" "Splitpointer$Act") ∈ lw_tbl := lw_at lw_m2 175 rfl
theorem q479 : (Jvm.Cond.selects "Splitpointer$Drop" ({ cls := "Splitpointer$Act", name := "on", desc := "(LSplitpointer$Store;)V" } : Jvm.MethodName) ({ cls := "Splitpointer$Drop", name := "on", desc := "(LSplitpointer$Store;)V" } : Jvm.MethodName)) ∈ lw_all := lw_g (lw_at lw_m2 176 rfl) rfl
theorem q480 : (Jvm.Cond.unhidden "Splitpointer$Drop" "on" "(LSplitpointer$Store;)V") ∈ lw_tbl := lw_at lw_m2 177 rfl
theorem q481 : (Jvm.Cond.instanceMethod ({ cls := "Splitpointer$Drop", name := "on", desc := "(LSplitpointer$Store;)V" } : Jvm.MethodName)) ∈ lw_all := lw_g (lw_at lw_m2 178 rfl) rfl
theorem q482 : (Jvm.Cond.publicMethod ({ cls := "Splitpointer$Drop", name := "on", desc := "(LSplitpointer$Store;)V" } : Jvm.MethodName)) ∈ lw_tbl := lw_at lw_m2 179 rfl
theorem q483 : (Jvm.Cond.code ({ cls := "Splitpointer$Drop", name := "on", desc := "(LSplitpointer$Store;)V" } : Jvm.MethodName) prog_6_method_2_code (2 : Nat) (Option.none : Option Jvm.ClassFile.FieldType)) ∈ lw_all := lw_g (lw_at lw_m2 180 rfl) rfl
theorem q484 : (Jvm.Cond.methodLink "Splitpointer$Drop" (13 : Nat) ({ cls := "Splitpointer$Store", name := "drop", desc := "(I)V" } : Jvm.MethodName)) ∈ lw_all := lw_g (lw_at lw_m2 181 rfl) rfl
theorem q1157 : (Jvm.Cond.instantiable "Splitpointer$Drop" (1 : Nat)) ∈ lw_all := lw_g (lw_at lw_m5 134 rfl) rfl
theorem q1159 : (Jvm.Cond.instanceMethod ({ cls := "Splitpointer$Drop", name := "<init>", desc := "(I)V" } : Jvm.MethodName)) ∈ lw_all := lw_g (lw_at lw_m5 136 rfl) rfl
theorem q1160 : (Jvm.Cond.code ({ cls := "Splitpointer$Drop", name := "<init>", desc := "(I)V" } : Jvm.MethodName) prog_6_method_1_code (2 : Nat) (Option.none : Option Jvm.ClassFile.FieldType)) ∈ lw_all := lw_g (lw_at lw_m5 137 rfl) rfl
theorem q1161 : (Jvm.Cond.methodLink "Splitpointer$Drop" (1 : Nat) ({ cls := "java/lang/Object", name := "<init>", desc := "()V" } : Jvm.MethodName)) ∈ lw_all := lw_g (lw_at lw_m5 138 rfl) rfl
theorem q1162 : (Jvm.Cond.fieldLink "Splitpointer$Drop" (7 : Nat) "Splitpointer$Drop" "key" "I") ∈ lw_all := lw_g (lw_at lw_m5 139 rfl) rfl
theorem q1163 : (Jvm.Cond.laysFinal "Splitpointer$Drop" "Splitpointer$Drop" "key" "I") ∈ lw_all := lw_g (lw_at lw_m5 140 rfl) rfl
theorem q1164 : (Jvm.Cond.soleField "Splitpointer$Drop" "key") ∈ lw_all := lw_g (lw_at lw_m5 141 rfl) rfl
theorem q1165 : (Jvm.Cond.superclass "Splitpointer$Drop" "java/lang/Object") ∈ lw_all := lw_g (lw_at lw_m5 142 rfl) rfl
theorem q1530 : (Jvm.Cond.selects "Splitpointer$Drop" ({ cls := "java/lang/Object", name := "equals", desc := "(Ljava/lang/Object;)Z" } : Jvm.MethodName) ({ cls := "java/lang/Object", name := "equals", desc := "(Ljava/lang/Object;)Z" } : Jvm.MethodName)) ∈ lw_all := lw_g (lw_at lw_m7 27 rfl) rfl
theorem q2080 : (Jvm.Cond.castable "Splitpointer$Drop" "java/lang/Object") ∈ lw_tbl := lw_at lw_m9 97 rfl
theorem in_X14 : ∀ w ∈ wsX140, w ∈ lw_all := lw_in wsX140 [1163] (by decide +kernel) (by decide +kernel)
/-! Splitpointer$Rehash -/
set_option maxRecDepth 100000
def RX15 : String := "Splitpointer$Rehash"
def TX15 : u_T := fun k => match k with
  | 0 => ("Splitpointer$Rehash", "choice", "I", true)
  | _ => ("Splitpointer$Rehash", "seed", "I", true)
def tyX15 : Nat → FieldType := fun k => match k with
  | 0 => .int
  | _ => .int
abbrev wsX150 : List Cond := u_ws RX15 TX15 2
theorem nmX15 : ∀ a, a < 2 → ∀ b, b < 2 → a ≠ b → (TX15 a).2.1 ≠ (TX15 b).2.1 := by decide +kernel
theorem tyX15_ok : ∀ k, k < 2 → parseFieldDescriptor (TX15 k).2.2.1 = some (tyX15 k) := by decide +kernel
abbrev cX15_on : ByteArray := prog_11_method_2_code
def yX15_on : MethodName := ⟨RX15, "on", "(LSplitpointer$Store;)V"⟩
def dkwX15_on_0 : List UInt8 := [43, 42, 180, 0, 7, 42, 180, 0, 13, 182, 0, 16, 177]
abbrev dktX15_on_0 : List UInt8 := dkwX15_on_0 ++ []
theorem dksX15_on_0 : cX15_on.data.toList.drop 0 = dktX15_on_0 := by decide +kernel
theorem dX15_on_0 : decode cX15_on 0 = .ok (.aload_n 1, 1) := dk_43 (dk_at dksX15_on_0 0 rfl rfl)
theorem dX15_on_1 : decode cX15_on 1 = .ok (.aload_n 0, 1) := dk_42 (dk_at dksX15_on_0 1 rfl rfl)
theorem dX15_on_2 : decode cX15_on 2 = .ok (.getfield 7, 3) := dk_180 0 7 (dk_at dksX15_on_0 2 rfl rfl)
theorem dX15_on_5 : decode cX15_on 5 = .ok (.aload_n 0, 1) := dk_42 (dk_at dksX15_on_0 5 rfl rfl)
theorem dX15_on_6 : decode cX15_on 6 = .ok (.getfield 13, 3) := dk_180 0 13 (dk_at dksX15_on_0 6 rfl rfl)
theorem dX15_on_9 : decode cX15_on 9 = .ok (.invokevirtual 16, 3) := dk_182 0 16 (dk_at dksX15_on_0 9 rfl rfl)
theorem dX15_on_12 : decode cX15_on 12 = .ok (.return_, 1) := dk_177 (dk_at dksX15_on_0 12 rfl rfl)
abbrev cX15_init : ByteArray := prog_11_method_1_code
def yX15_init : MethodName := ⟨RX15, "<init>", "(II)V"⟩
def dkwX15_init_0 : List UInt8 := [42, 183, 0, 1, 42, 27, 181, 0, 7, 42, 28, 181, 0, 13, 177]
abbrev dktX15_init_0 : List UInt8 := dkwX15_init_0 ++ []
theorem dksX15_init_0 : cX15_init.data.toList.drop 0 = dktX15_init_0 := by decide +kernel
theorem dX15_init_0 : decode cX15_init 0 = .ok (.aload_n 0, 1) := dk_42 (dk_at dksX15_init_0 0 rfl rfl)
theorem dX15_init_1 : decode cX15_init 1 = .ok (.invokespecial 1, 3) := dk_183 0 1 (dk_at dksX15_init_0 1 rfl rfl)
theorem dX15_init_4 : decode cX15_init 4 = .ok (.aload_n 0, 1) := dk_42 (dk_at dksX15_init_0 4 rfl rfl)
theorem dX15_init_5 : decode cX15_init 5 = .ok (.iload_n 1, 1) := dk_27 (dk_at dksX15_init_0 5 rfl rfl)
theorem dX15_init_6 : decode cX15_init 6 = .ok (.putfield 7, 3) := dk_181 0 7 (dk_at dksX15_init_0 6 rfl rfl)
theorem dX15_init_9 : decode cX15_init 9 = .ok (.aload_n 0, 1) := dk_42 (dk_at dksX15_init_0 9 rfl rfl)
theorem dX15_init_10 : decode cX15_init 10 = .ok (.iload_n 2, 1) := dk_28 (dk_at dksX15_init_0 10 rfl rfl)
theorem dX15_init_11 : decode cX15_init 11 = .ok (.putfield 13, 3) := dk_181 0 13 (dk_at dksX15_init_0 11 rfl rfl)
theorem dX15_init_14 : decode cX15_init 14 = .ok (.return_, 1) := dk_177 (dk_at dksX15_init_0 14 rfl rfl)
theorem q98 : (Jvm.Cond.initialized "Splitpointer$Rehash") ∈ lw_all := lw_g (lw_at lw_m1 35 rfl) rfl
theorem q259 : (Jvm.Cond.selects "Splitpointer$Rehash" ({ cls := "java/lang/Object", name := "getClass", desc := "()Ljava/lang/Class;" } : Jvm.MethodName) ({ cls := "java/lang/Object", name := "getClass", desc := "()Ljava/lang/Class;" } : Jvm.MethodName)) ∈ lw_all := lw_g (lw_at lw_m1 196 rfl) rfl
theorem q611 : (Jvm.Cond.castable "Splitpointer$Rehash" "Splitpointer$Act") ∈ lw_tbl := lw_at lw_m3 68 rfl
theorem q612 : (Jvm.Cond.selects "Splitpointer$Rehash" ({ cls := "Splitpointer$Act", name := "on", desc := "(LSplitpointer$Store;)V" } : Jvm.MethodName) ({ cls := "Splitpointer$Rehash", name := "on", desc := "(LSplitpointer$Store;)V" } : Jvm.MethodName)) ∈ lw_all := lw_g (lw_at lw_m3 69 rfl) rfl
theorem q613 : (Jvm.Cond.unhidden "Splitpointer$Rehash" "on" "(LSplitpointer$Store;)V") ∈ lw_tbl := lw_at lw_m3 70 rfl
theorem q614 : (Jvm.Cond.instanceMethod ({ cls := "Splitpointer$Rehash", name := "on", desc := "(LSplitpointer$Store;)V" } : Jvm.MethodName)) ∈ lw_all := lw_g (lw_at lw_m3 71 rfl) rfl
theorem q615 : (Jvm.Cond.publicMethod ({ cls := "Splitpointer$Rehash", name := "on", desc := "(LSplitpointer$Store;)V" } : Jvm.MethodName)) ∈ lw_tbl := lw_at lw_m3 72 rfl
theorem q616 : (Jvm.Cond.code ({ cls := "Splitpointer$Rehash", name := "on", desc := "(LSplitpointer$Store;)V" } : Jvm.MethodName) prog_11_method_2_code (2 : Nat) (Option.none : Option Jvm.ClassFile.FieldType)) ∈ lw_all := lw_g (lw_at lw_m3 73 rfl) rfl
theorem q617 : (Jvm.Cond.methodLink "Splitpointer$Rehash" (16 : Nat) ({ cls := "Splitpointer$Store", name := "rehash", desc := "(II)V" } : Jvm.MethodName)) ∈ lw_all := lw_g (lw_at lw_m3 74 rfl) rfl
theorem q1177 : (Jvm.Cond.instantiable "Splitpointer$Rehash" (2 : Nat)) ∈ lw_all := lw_g (lw_at lw_m5 154 rfl) rfl
theorem q1179 : (Jvm.Cond.instanceMethod ({ cls := "Splitpointer$Rehash", name := "<init>", desc := "(II)V" } : Jvm.MethodName)) ∈ lw_all := lw_g (lw_at lw_m5 156 rfl) rfl
theorem q1180 : (Jvm.Cond.code ({ cls := "Splitpointer$Rehash", name := "<init>", desc := "(II)V" } : Jvm.MethodName) prog_11_method_1_code (3 : Nat) (Option.none : Option Jvm.ClassFile.FieldType)) ∈ lw_all := lw_g (lw_at lw_m5 157 rfl) rfl
theorem q1181 : (Jvm.Cond.methodLink "Splitpointer$Rehash" (1 : Nat) ({ cls := "java/lang/Object", name := "<init>", desc := "()V" } : Jvm.MethodName)) ∈ lw_all := lw_g (lw_at lw_m5 158 rfl) rfl
theorem q1182 : (Jvm.Cond.fieldLink "Splitpointer$Rehash" (7 : Nat) "Splitpointer$Rehash" "choice" "I") ∈ lw_all := lw_g (lw_at lw_m5 159 rfl) rfl
theorem q1183 : (Jvm.Cond.fieldLink "Splitpointer$Rehash" (13 : Nat) "Splitpointer$Rehash" "seed" "I") ∈ lw_all := lw_g (lw_at lw_m5 160 rfl) rfl
theorem q1184 : (Jvm.Cond.laysFinal "Splitpointer$Rehash" "Splitpointer$Rehash" "choice" "I") ∈ lw_all := lw_g (lw_at lw_m5 161 rfl) rfl
theorem q1185 : (Jvm.Cond.soleField "Splitpointer$Rehash" "choice") ∈ lw_all := lw_g (lw_at lw_m5 162 rfl) rfl
theorem q1186 : (Jvm.Cond.laysFinal "Splitpointer$Rehash" "Splitpointer$Rehash" "seed" "I") ∈ lw_all := lw_g (lw_at lw_m5 163 rfl) rfl
theorem q1187 : (Jvm.Cond.soleField "Splitpointer$Rehash" "seed") ∈ lw_all := lw_g (lw_at lw_m5 164 rfl) rfl
theorem q1188 : (Jvm.Cond.superclass "Splitpointer$Rehash" "java/lang/Object") ∈ lw_all := lw_g (lw_at lw_m5 165 rfl) rfl
theorem q1535 : (Jvm.Cond.selects "Splitpointer$Rehash" ({ cls := "java/lang/Object", name := "equals", desc := "(Ljava/lang/Object;)Z" } : Jvm.MethodName) ({ cls := "java/lang/Object", name := "equals", desc := "(Ljava/lang/Object;)Z" } : Jvm.MethodName)) ∈ lw_all := lw_g (lw_at lw_m7 32 rfl) rfl
theorem q2081 : (Jvm.Cond.castable "Splitpointer$Rehash" "java/lang/Object") ∈ lw_tbl := lw_at lw_m9 98 rfl
theorem in_X15 : ∀ w ∈ wsX150, w ∈ lw_all := lw_in wsX150 [1184, 1186] (by decide +kernel) (by decide +kernel)
