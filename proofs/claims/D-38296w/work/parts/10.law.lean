/-! SplitpointerLaw -/
set_option maxRecDepth 100000
def RX0 : String := "SplitpointerLaw"
abbrev cX0_found : ByteArray := method_2_code
def yX0_found : MethodName := ⟨RX0, "found", "(LSplitpointer;IILSplitpointerLaw$Out;)I"⟩
def dkwX0_found_0 : List UInt8 := [45, 42, 27, 28, 182, 0, 7, 133, 181, 0, 13, 167, 0, 7, 58, 4, 4, 172, 3, 172]
abbrev dktX0_found_0 : List UInt8 := dkwX0_found_0 ++ []
theorem dksX0_found_0 : cX0_found.data.toList.drop 0 = dktX0_found_0 := by decide +kernel
theorem dX0_found_0 : decode cX0_found 0 = .ok (.aload_n 3, 1) := dk_45 (dk_at dksX0_found_0 0 rfl rfl)
theorem dX0_found_1 : decode cX0_found 1 = .ok (.aload_n 0, 1) := dk_42 (dk_at dksX0_found_0 1 rfl rfl)
theorem dX0_found_2 : decode cX0_found 2 = .ok (.iload_n 1, 1) := dk_27 (dk_at dksX0_found_0 2 rfl rfl)
theorem dX0_found_3 : decode cX0_found 3 = .ok (.iload_n 2, 1) := dk_28 (dk_at dksX0_found_0 3 rfl rfl)
theorem dX0_found_4 : decode cX0_found 4 = .ok (.invokevirtual 7, 3) := dk_182 0 7 (dk_at dksX0_found_0 4 rfl rfl)
theorem dX0_found_7 : decode cX0_found 7 = .ok (.i2l, 1) := dk_133 (dk_at dksX0_found_0 7 rfl rfl)
theorem dX0_found_8 : decode cX0_found 8 = .ok (.putfield 13, 3) := dk_181 0 13 (dk_at dksX0_found_0 8 rfl rfl)
theorem dX0_found_11 : decode cX0_found 11 = .ok (.goto 7, 3) := dk_167 0 7 (dk_at dksX0_found_0 11 rfl rfl)
theorem dX0_found_14 : decode cX0_found 14 = .ok (.astore 4, 2) := dk_58 4 (dk_at dksX0_found_0 14 rfl rfl)
theorem dX0_found_16 : decode cX0_found 16 = .ok (.iconst 1, 1) := dk_4 (dk_at dksX0_found_0 16 rfl rfl)
theorem dX0_found_17 : decode cX0_found 17 = .ok (.ireturn, 1) := dk_172 (dk_at dksX0_found_0 17 rfl rfl)
theorem dX0_found_18 : decode cX0_found 18 = .ok (.iconst 0, 1) := dk_3 (dk_at dksX0_found_0 18 rfl rfl)
theorem dX0_found_19 : decode cX0_found 19 = .ok (.ireturn, 1) := dk_172 (dk_at dksX0_found_0 19 rfl rfl)
abbrev cX0_bounds : ByteArray := method_3_code
def yX0_bounds : MethodName := ⟨RX0, "bounds", "(LSplitpointer;IILSplitpointerLaw$Out;)I"⟩
def dkwX0_bounds_0 : List UInt8 := [45, 42, 27, 28, 182, 0, 21, 133, 181, 0, 13, 167, 0, 7, 58, 4, 4, 172, 3, 172]
abbrev dktX0_bounds_0 : List UInt8 := dkwX0_bounds_0 ++ []
theorem dksX0_bounds_0 : cX0_bounds.data.toList.drop 0 = dktX0_bounds_0 := by decide +kernel
theorem dX0_bounds_0 : decode cX0_bounds 0 = .ok (.aload_n 3, 1) := dk_45 (dk_at dksX0_bounds_0 0 rfl rfl)
theorem dX0_bounds_1 : decode cX0_bounds 1 = .ok (.aload_n 0, 1) := dk_42 (dk_at dksX0_bounds_0 1 rfl rfl)
theorem dX0_bounds_2 : decode cX0_bounds 2 = .ok (.iload_n 1, 1) := dk_27 (dk_at dksX0_bounds_0 2 rfl rfl)
theorem dX0_bounds_3 : decode cX0_bounds 3 = .ok (.iload_n 2, 1) := dk_28 (dk_at dksX0_bounds_0 3 rfl rfl)
theorem dX0_bounds_4 : decode cX0_bounds 4 = .ok (.invokevirtual 21, 3) := dk_182 0 21 (dk_at dksX0_bounds_0 4 rfl rfl)
theorem dX0_bounds_7 : decode cX0_bounds 7 = .ok (.i2l, 1) := dk_133 (dk_at dksX0_bounds_0 7 rfl rfl)
theorem dX0_bounds_8 : decode cX0_bounds 8 = .ok (.putfield 13, 3) := dk_181 0 13 (dk_at dksX0_bounds_0 8 rfl rfl)
theorem dX0_bounds_11 : decode cX0_bounds 11 = .ok (.goto 7, 3) := dk_167 0 7 (dk_at dksX0_bounds_0 11 rfl rfl)
theorem dX0_bounds_14 : decode cX0_bounds 14 = .ok (.astore 4, 2) := dk_58 4 (dk_at dksX0_bounds_0 14 rfl rfl)
theorem dX0_bounds_16 : decode cX0_bounds 16 = .ok (.iconst 1, 1) := dk_4 (dk_at dksX0_bounds_0 16 rfl rfl)
theorem dX0_bounds_17 : decode cX0_bounds 17 = .ok (.ireturn, 1) := dk_172 (dk_at dksX0_bounds_0 17 rfl rfl)
theorem dX0_bounds_18 : decode cX0_bounds 18 = .ok (.iconst 0, 1) := dk_3 (dk_at dksX0_bounds_0 18 rfl rfl)
theorem dX0_bounds_19 : decode cX0_bounds 19 = .ok (.ireturn, 1) := dk_172 (dk_at dksX0_bounds_0 19 rfl rfl)
abbrev cX0_put : ByteArray := method_4_code
def yX0_put : MethodName := ⟨RX0, "put", "(LSplitpointer;IILSplitpointerLaw$Out;)I"⟩
def dkwX0_put_0 : List UInt8 := [45, 42, 27, 28, 182, 0, 24, 133, 181, 0, 13, 167, 0, 11, 58, 4, 4, 172, 58, 4, 5, 172, 3, 172]
abbrev dktX0_put_0 : List UInt8 := dkwX0_put_0 ++ []
theorem dksX0_put_0 : cX0_put.data.toList.drop 0 = dktX0_put_0 := by decide +kernel
theorem dX0_put_0 : decode cX0_put 0 = .ok (.aload_n 3, 1) := dk_45 (dk_at dksX0_put_0 0 rfl rfl)
theorem dX0_put_1 : decode cX0_put 1 = .ok (.aload_n 0, 1) := dk_42 (dk_at dksX0_put_0 1 rfl rfl)
theorem dX0_put_2 : decode cX0_put 2 = .ok (.iload_n 1, 1) := dk_27 (dk_at dksX0_put_0 2 rfl rfl)
theorem dX0_put_3 : decode cX0_put 3 = .ok (.iload_n 2, 1) := dk_28 (dk_at dksX0_put_0 3 rfl rfl)
theorem dX0_put_4 : decode cX0_put 4 = .ok (.invokevirtual 24, 3) := dk_182 0 24 (dk_at dksX0_put_0 4 rfl rfl)
theorem dX0_put_7 : decode cX0_put 7 = .ok (.i2l, 1) := dk_133 (dk_at dksX0_put_0 7 rfl rfl)
theorem dX0_put_8 : decode cX0_put 8 = .ok (.putfield 13, 3) := dk_181 0 13 (dk_at dksX0_put_0 8 rfl rfl)
theorem dX0_put_11 : decode cX0_put 11 = .ok (.goto 11, 3) := dk_167 0 11 (dk_at dksX0_put_0 11 rfl rfl)
theorem dX0_put_14 : decode cX0_put 14 = .ok (.astore 4, 2) := dk_58 4 (dk_at dksX0_put_0 14 rfl rfl)
theorem dX0_put_16 : decode cX0_put 16 = .ok (.iconst 1, 1) := dk_4 (dk_at dksX0_put_0 16 rfl rfl)
theorem dX0_put_17 : decode cX0_put 17 = .ok (.ireturn, 1) := dk_172 (dk_at dksX0_put_0 17 rfl rfl)
theorem dX0_put_18 : decode cX0_put 18 = .ok (.astore 4, 2) := dk_58 4 (dk_at dksX0_put_0 18 rfl rfl)
theorem dX0_put_20 : decode cX0_put 20 = .ok (.iconst 2, 1) := dk_5 (dk_at dksX0_put_0 20 rfl rfl)
theorem dX0_put_21 : decode cX0_put 21 = .ok (.ireturn, 1) := dk_172 (dk_at dksX0_put_0 21 rfl rfl)
theorem dX0_put_22 : decode cX0_put 22 = .ok (.iconst 0, 1) := dk_3 (dk_at dksX0_put_0 22 rfl rfl)
theorem dX0_put_23 : decode cX0_put 23 = .ok (.ireturn, 1) := dk_172 (dk_at dksX0_put_0 23 rfl rfl)
abbrev cX0_drop : ByteArray := method_5_code
def yX0_drop : MethodName := ⟨RX0, "drop", "(LSplitpointer;ILSplitpointerLaw$Out;)I"⟩
def dkwX0_drop_0 : List UInt8 := [44, 42, 27, 182, 0, 29, 133, 181, 0, 13, 167, 0, 6, 78, 4, 172, 3, 172]
abbrev dktX0_drop_0 : List UInt8 := dkwX0_drop_0 ++ []
theorem dksX0_drop_0 : cX0_drop.data.toList.drop 0 = dktX0_drop_0 := by decide +kernel
theorem dX0_drop_0 : decode cX0_drop 0 = .ok (.aload_n 2, 1) := dk_44 (dk_at dksX0_drop_0 0 rfl rfl)
theorem dX0_drop_1 : decode cX0_drop 1 = .ok (.aload_n 0, 1) := dk_42 (dk_at dksX0_drop_0 1 rfl rfl)
theorem dX0_drop_2 : decode cX0_drop 2 = .ok (.iload_n 1, 1) := dk_27 (dk_at dksX0_drop_0 2 rfl rfl)
theorem dX0_drop_3 : decode cX0_drop 3 = .ok (.invokevirtual 29, 3) := dk_182 0 29 (dk_at dksX0_drop_0 3 rfl rfl)
theorem dX0_drop_6 : decode cX0_drop 6 = .ok (.i2l, 1) := dk_133 (dk_at dksX0_drop_0 6 rfl rfl)
theorem dX0_drop_7 : decode cX0_drop 7 = .ok (.putfield 13, 3) := dk_181 0 13 (dk_at dksX0_drop_0 7 rfl rfl)
theorem dX0_drop_10 : decode cX0_drop 10 = .ok (.goto 6, 3) := dk_167 0 6 (dk_at dksX0_drop_0 10 rfl rfl)
theorem dX0_drop_13 : decode cX0_drop 13 = .ok (.astore_n 3, 1) := dk_78 (dk_at dksX0_drop_0 13 rfl rfl)
theorem dX0_drop_14 : decode cX0_drop 14 = .ok (.iconst 1, 1) := dk_4 (dk_at dksX0_drop_0 14 rfl rfl)
theorem dX0_drop_15 : decode cX0_drop 15 = .ok (.ireturn, 1) := dk_172 (dk_at dksX0_drop_0 15 rfl rfl)
theorem dX0_drop_16 : decode cX0_drop 16 = .ok (.iconst 0, 1) := dk_3 (dk_at dksX0_drop_0 16 rfl rfl)
theorem dX0_drop_17 : decode cX0_drop 17 = .ok (.ireturn, 1) := dk_172 (dk_at dksX0_drop_0 17 rfl rfl)
abbrev cX0_rehash : ByteArray := method_6_code
def yX0_rehash : MethodName := ⟨RX0, "rehash", "(LSplitpointer;IILSplitpointerLaw$Out;)I"⟩
def dkwX0_rehash_0 : List UInt8 := [45, 42, 27, 28, 182, 0, 33, 133, 181, 0, 13, 167, 0, 7, 58, 4, 4, 172, 3, 172]
abbrev dktX0_rehash_0 : List UInt8 := dkwX0_rehash_0 ++ []
theorem dksX0_rehash_0 : cX0_rehash.data.toList.drop 0 = dktX0_rehash_0 := by decide +kernel
theorem dX0_rehash_0 : decode cX0_rehash 0 = .ok (.aload_n 3, 1) := dk_45 (dk_at dksX0_rehash_0 0 rfl rfl)
theorem dX0_rehash_1 : decode cX0_rehash 1 = .ok (.aload_n 0, 1) := dk_42 (dk_at dksX0_rehash_0 1 rfl rfl)
theorem dX0_rehash_2 : decode cX0_rehash 2 = .ok (.iload_n 1, 1) := dk_27 (dk_at dksX0_rehash_0 2 rfl rfl)
theorem dX0_rehash_3 : decode cX0_rehash 3 = .ok (.iload_n 2, 1) := dk_28 (dk_at dksX0_rehash_0 3 rfl rfl)
theorem dX0_rehash_4 : decode cX0_rehash 4 = .ok (.invokevirtual 33, 3) := dk_182 0 33 (dk_at dksX0_rehash_0 4 rfl rfl)
theorem dX0_rehash_7 : decode cX0_rehash 7 = .ok (.i2l, 1) := dk_133 (dk_at dksX0_rehash_0 7 rfl rfl)
theorem dX0_rehash_8 : decode cX0_rehash 8 = .ok (.putfield 13, 3) := dk_181 0 13 (dk_at dksX0_rehash_0 8 rfl rfl)
theorem dX0_rehash_11 : decode cX0_rehash 11 = .ok (.goto 7, 3) := dk_167 0 7 (dk_at dksX0_rehash_0 11 rfl rfl)
theorem dX0_rehash_14 : decode cX0_rehash 14 = .ok (.astore 4, 2) := dk_58 4 (dk_at dksX0_rehash_0 14 rfl rfl)
theorem dX0_rehash_16 : decode cX0_rehash 16 = .ok (.iconst 1, 1) := dk_4 (dk_at dksX0_rehash_0 16 rfl rfl)
theorem dX0_rehash_17 : decode cX0_rehash 17 = .ok (.ireturn, 1) := dk_172 (dk_at dksX0_rehash_0 17 rfl rfl)
theorem dX0_rehash_18 : decode cX0_rehash 18 = .ok (.iconst 0, 1) := dk_3 (dk_at dksX0_rehash_0 18 rfl rfl)
theorem dX0_rehash_19 : decode cX0_rehash 19 = .ok (.ireturn, 1) := dk_172 (dk_at dksX0_rehash_0 19 rfl rfl)
abbrev cX0_find : ByteArray := method_7_code
def yX0_find : MethodName := ⟨RX0, "find", "(LSplitpointer;ILSplitpointerLaw$Out;)I"⟩
def dkwX0_find_0 : List UInt8 := [44, 42, 27, 182, 0, 36, 133, 181, 0, 13, 167, 0, 6, 78, 4, 172, 3, 172]
abbrev dktX0_find_0 : List UInt8 := dkwX0_find_0 ++ []
theorem dksX0_find_0 : cX0_find.data.toList.drop 0 = dktX0_find_0 := by decide +kernel
theorem dX0_find_0 : decode cX0_find 0 = .ok (.aload_n 2, 1) := dk_44 (dk_at dksX0_find_0 0 rfl rfl)
theorem dX0_find_1 : decode cX0_find 1 = .ok (.aload_n 0, 1) := dk_42 (dk_at dksX0_find_0 1 rfl rfl)
theorem dX0_find_2 : decode cX0_find 2 = .ok (.iload_n 1, 1) := dk_27 (dk_at dksX0_find_0 2 rfl rfl)
theorem dX0_find_3 : decode cX0_find 3 = .ok (.invokevirtual 36, 3) := dk_182 0 36 (dk_at dksX0_find_0 3 rfl rfl)
theorem dX0_find_6 : decode cX0_find 6 = .ok (.i2l, 1) := dk_133 (dk_at dksX0_find_0 6 rfl rfl)
theorem dX0_find_7 : decode cX0_find 7 = .ok (.putfield 13, 3) := dk_181 0 13 (dk_at dksX0_find_0 7 rfl rfl)
theorem dX0_find_10 : decode cX0_find 10 = .ok (.goto 6, 3) := dk_167 0 6 (dk_at dksX0_find_0 10 rfl rfl)
theorem dX0_find_13 : decode cX0_find 13 = .ok (.astore_n 3, 1) := dk_78 (dk_at dksX0_find_0 13 rfl rfl)
theorem dX0_find_14 : decode cX0_find 14 = .ok (.iconst 1, 1) := dk_4 (dk_at dksX0_find_0 14 rfl rfl)
theorem dX0_find_15 : decode cX0_find 15 = .ok (.ireturn, 1) := dk_172 (dk_at dksX0_find_0 15 rfl rfl)
theorem dX0_find_16 : decode cX0_find 16 = .ok (.iconst 0, 1) := dk_3 (dk_at dksX0_find_0 16 rfl rfl)
theorem dX0_find_17 : decode cX0_find 17 = .ok (.ireturn, 1) := dk_172 (dk_at dksX0_find_0 17 rfl rfl)
abbrev cX0_open : ByteArray := method_8_code
def yX0_open : MethodName := ⟨RX0, "open", "(LSplitpointer;ILSplitpointerLaw$Out;)I"⟩
def dkwX0_open_1 : List UInt8 := [172]
abbrev dktX0_open_1 : List UInt8 := dkwX0_open_1 ++ []
def dkwX0_open_0 : List UInt8 := [44, 42, 27, 182, 0, 39, 153, 0, 7, 10, 167, 0, 4, 9, 181, 0, 13, 167, 0, 6, 78, 4, 172, 3]
abbrev dktX0_open_0 : List UInt8 := dkwX0_open_0 ++ dktX0_open_1
theorem dksX0_open_0 : cX0_open.data.toList.drop 0 = dktX0_open_0 := by decide +kernel
theorem dksX0_open_1 : cX0_open.data.toList.drop 24 = dktX0_open_1 := dk_seg dksX0_open_0 24 rfl rfl
theorem dX0_open_0 : decode cX0_open 0 = .ok (.aload_n 2, 1) := dk_44 (dk_at dksX0_open_0 0 rfl rfl)
theorem dX0_open_1 : decode cX0_open 1 = .ok (.aload_n 0, 1) := dk_42 (dk_at dksX0_open_0 1 rfl rfl)
theorem dX0_open_2 : decode cX0_open 2 = .ok (.iload_n 1, 1) := dk_27 (dk_at dksX0_open_0 2 rfl rfl)
theorem dX0_open_3 : decode cX0_open 3 = .ok (.invokevirtual 39, 3) := dk_182 0 39 (dk_at dksX0_open_0 3 rfl rfl)
theorem dX0_open_6 : decode cX0_open 6 = .ok (.ifCond .eq 7, 3) := dk_153 0 7 (dk_at dksX0_open_0 6 rfl rfl)
theorem dX0_open_9 : decode cX0_open 9 = .ok (.lconst 1, 1) := dk_10 (dk_at dksX0_open_0 9 rfl rfl)
theorem dX0_open_10 : decode cX0_open 10 = .ok (.goto 4, 3) := dk_167 0 4 (dk_at dksX0_open_0 10 rfl rfl)
theorem dX0_open_13 : decode cX0_open 13 = .ok (.lconst 0, 1) := dk_9 (dk_at dksX0_open_0 13 rfl rfl)
theorem dX0_open_14 : decode cX0_open 14 = .ok (.putfield 13, 3) := dk_181 0 13 (dk_at dksX0_open_0 14 rfl rfl)
theorem dX0_open_17 : decode cX0_open 17 = .ok (.goto 6, 3) := dk_167 0 6 (dk_at dksX0_open_0 17 rfl rfl)
theorem dX0_open_20 : decode cX0_open 20 = .ok (.astore_n 3, 1) := dk_78 (dk_at dksX0_open_0 20 rfl rfl)
theorem dX0_open_21 : decode cX0_open 21 = .ok (.iconst 1, 1) := dk_4 (dk_at dksX0_open_0 21 rfl rfl)
theorem dX0_open_22 : decode cX0_open 22 = .ok (.ireturn, 1) := dk_172 (dk_at dksX0_open_0 22 rfl rfl)
theorem dX0_open_23 : decode cX0_open 23 = .ok (.iconst 0, 1) := dk_3 (dk_at dksX0_open_0 23 rfl rfl)
theorem dX0_open_24 : decode cX0_open 24 = .ok (.ireturn, 1) := dk_172 (dk_at dksX0_open_1 0 rfl rfl)
abbrev cX0_next : ByteArray := method_9_code
def yX0_next : MethodName := ⟨RX0, "next", "(LSplitpointer;ILSplitpointerLaw$Out;)I"⟩
def dkwX0_next_0 : List UInt8 := [44, 42, 27, 182, 0, 45, 133, 181, 0, 13, 167, 0, 9, 78, 4, 172, 78, 5, 172, 3, 172]
abbrev dktX0_next_0 : List UInt8 := dkwX0_next_0 ++ []
theorem dksX0_next_0 : cX0_next.data.toList.drop 0 = dktX0_next_0 := by decide +kernel
theorem dX0_next_0 : decode cX0_next 0 = .ok (.aload_n 2, 1) := dk_44 (dk_at dksX0_next_0 0 rfl rfl)
theorem dX0_next_1 : decode cX0_next 1 = .ok (.aload_n 0, 1) := dk_42 (dk_at dksX0_next_0 1 rfl rfl)
theorem dX0_next_2 : decode cX0_next 2 = .ok (.iload_n 1, 1) := dk_27 (dk_at dksX0_next_0 2 rfl rfl)
theorem dX0_next_3 : decode cX0_next 3 = .ok (.invokevirtual 45, 3) := dk_182 0 45 (dk_at dksX0_next_0 3 rfl rfl)
theorem dX0_next_6 : decode cX0_next 6 = .ok (.i2l, 1) := dk_133 (dk_at dksX0_next_0 6 rfl rfl)
theorem dX0_next_7 : decode cX0_next 7 = .ok (.putfield 13, 3) := dk_181 0 13 (dk_at dksX0_next_0 7 rfl rfl)
theorem dX0_next_10 : decode cX0_next 10 = .ok (.goto 9, 3) := dk_167 0 9 (dk_at dksX0_next_0 10 rfl rfl)
theorem dX0_next_13 : decode cX0_next 13 = .ok (.astore_n 3, 1) := dk_78 (dk_at dksX0_next_0 13 rfl rfl)
theorem dX0_next_14 : decode cX0_next 14 = .ok (.iconst 1, 1) := dk_4 (dk_at dksX0_next_0 14 rfl rfl)
theorem dX0_next_15 : decode cX0_next 15 = .ok (.ireturn, 1) := dk_172 (dk_at dksX0_next_0 15 rfl rfl)
theorem dX0_next_16 : decode cX0_next 16 = .ok (.astore_n 3, 1) := dk_78 (dk_at dksX0_next_0 16 rfl rfl)
theorem dX0_next_17 : decode cX0_next 17 = .ok (.iconst 2, 1) := dk_5 (dk_at dksX0_next_0 17 rfl rfl)
theorem dX0_next_18 : decode cX0_next 18 = .ok (.ireturn, 1) := dk_172 (dk_at dksX0_next_0 18 rfl rfl)
theorem dX0_next_19 : decode cX0_next 19 = .ok (.iconst 0, 1) := dk_3 (dk_at dksX0_next_0 19 rfl rfl)
theorem dX0_next_20 : decode cX0_next 20 = .ok (.ireturn, 1) := dk_172 (dk_at dksX0_next_0 20 rfl rfl)
abbrev cX0_ask : ByteArray := method_10_code
def yX0_ask : MethodName := ⟨RX0, "ask", "(LSplitpointer;IILSplitpointerLaw$Out;)I"⟩
def dkwX0_ask_0 : List UInt8 := [45, 42, 27, 28, 182, 0, 48, 133, 181, 0, 13, 167, 0, 11, 58, 4, 4, 172, 58, 4, 5, 172, 3, 172]
abbrev dktX0_ask_0 : List UInt8 := dkwX0_ask_0 ++ []
theorem dksX0_ask_0 : cX0_ask.data.toList.drop 0 = dktX0_ask_0 := by decide +kernel
theorem dX0_ask_0 : decode cX0_ask 0 = .ok (.aload_n 3, 1) := dk_45 (dk_at dksX0_ask_0 0 rfl rfl)
theorem dX0_ask_1 : decode cX0_ask 1 = .ok (.aload_n 0, 1) := dk_42 (dk_at dksX0_ask_0 1 rfl rfl)
theorem dX0_ask_2 : decode cX0_ask 2 = .ok (.iload_n 1, 1) := dk_27 (dk_at dksX0_ask_0 2 rfl rfl)
theorem dX0_ask_3 : decode cX0_ask 3 = .ok (.iload_n 2, 1) := dk_28 (dk_at dksX0_ask_0 3 rfl rfl)
theorem dX0_ask_4 : decode cX0_ask 4 = .ok (.invokevirtual 48, 3) := dk_182 0 48 (dk_at dksX0_ask_0 4 rfl rfl)
theorem dX0_ask_7 : decode cX0_ask 7 = .ok (.i2l, 1) := dk_133 (dk_at dksX0_ask_0 7 rfl rfl)
theorem dX0_ask_8 : decode cX0_ask 8 = .ok (.putfield 13, 3) := dk_181 0 13 (dk_at dksX0_ask_0 8 rfl rfl)
theorem dX0_ask_11 : decode cX0_ask 11 = .ok (.goto 11, 3) := dk_167 0 11 (dk_at dksX0_ask_0 11 rfl rfl)
theorem dX0_ask_14 : decode cX0_ask 14 = .ok (.astore 4, 2) := dk_58 4 (dk_at dksX0_ask_0 14 rfl rfl)
theorem dX0_ask_16 : decode cX0_ask 16 = .ok (.iconst 1, 1) := dk_4 (dk_at dksX0_ask_0 16 rfl rfl)
theorem dX0_ask_17 : decode cX0_ask 17 = .ok (.ireturn, 1) := dk_172 (dk_at dksX0_ask_0 17 rfl rfl)
theorem dX0_ask_18 : decode cX0_ask 18 = .ok (.astore 4, 2) := dk_58 4 (dk_at dksX0_ask_0 18 rfl rfl)
theorem dX0_ask_20 : decode cX0_ask 20 = .ok (.iconst 2, 1) := dk_5 (dk_at dksX0_ask_0 20 rfl rfl)
theorem dX0_ask_21 : decode cX0_ask 21 = .ok (.ireturn, 1) := dk_172 (dk_at dksX0_ask_0 21 rfl rfl)
theorem dX0_ask_22 : decode cX0_ask 22 = .ok (.iconst 0, 1) := dk_3 (dk_at dksX0_ask_0 22 rfl rfl)
theorem dX0_ask_23 : decode cX0_ask 23 = .ok (.ireturn, 1) := dk_172 (dk_at dksX0_ask_0 23 rfl rfl)
abbrev cX0_get : ByteArray := method_11_code
def yX0_get : MethodName := ⟨RX0, "get", "(LSplitpointer;ILSplitpointerLaw$Out;)I"⟩
def dkwX0_get_0 : List UInt8 := [44, 42, 27, 182, 0, 51, 133, 181, 0, 13, 167, 0, 6, 78, 4, 172, 3, 172]
abbrev dktX0_get_0 : List UInt8 := dkwX0_get_0 ++ []
theorem dksX0_get_0 : cX0_get.data.toList.drop 0 = dktX0_get_0 := by decide +kernel
theorem dX0_get_0 : decode cX0_get 0 = .ok (.aload_n 2, 1) := dk_44 (dk_at dksX0_get_0 0 rfl rfl)
theorem dX0_get_1 : decode cX0_get 1 = .ok (.aload_n 0, 1) := dk_42 (dk_at dksX0_get_0 1 rfl rfl)
theorem dX0_get_2 : decode cX0_get 2 = .ok (.iload_n 1, 1) := dk_27 (dk_at dksX0_get_0 2 rfl rfl)
theorem dX0_get_3 : decode cX0_get 3 = .ok (.invokevirtual 51, 3) := dk_182 0 51 (dk_at dksX0_get_0 3 rfl rfl)
theorem dX0_get_6 : decode cX0_get 6 = .ok (.i2l, 1) := dk_133 (dk_at dksX0_get_0 6 rfl rfl)
theorem dX0_get_7 : decode cX0_get 7 = .ok (.putfield 13, 3) := dk_181 0 13 (dk_at dksX0_get_0 7 rfl rfl)
theorem dX0_get_10 : decode cX0_get 10 = .ok (.goto 6, 3) := dk_167 0 6 (dk_at dksX0_get_0 10 rfl rfl)
theorem dX0_get_13 : decode cX0_get 13 = .ok (.astore_n 3, 1) := dk_78 (dk_at dksX0_get_0 13 rfl rfl)
theorem dX0_get_14 : decode cX0_get 14 = .ok (.iconst 1, 1) := dk_4 (dk_at dksX0_get_0 14 rfl rfl)
theorem dX0_get_15 : decode cX0_get 15 = .ok (.ireturn, 1) := dk_172 (dk_at dksX0_get_0 15 rfl rfl)
theorem dX0_get_16 : decode cX0_get 16 = .ok (.iconst 0, 1) := dk_3 (dk_at dksX0_get_0 16 rfl rfl)
theorem dX0_get_17 : decode cX0_get 17 = .ok (.ireturn, 1) := dk_172 (dk_at dksX0_get_0 17 rfl rfl)
abbrev cX0_ofKey : ByteArray := method_12_code
def yX0_ofKey : MethodName := ⟨RX0, "ofKey", "(LSplitpointer;IILSplitpointerLaw$Out;)I"⟩
def dkwX0_ofKey_0 : List UInt8 := [45, 42, 27, 28, 182, 0, 54, 133, 181, 0, 13, 167, 0, 7, 58, 4, 4, 172, 3, 172]
abbrev dktX0_ofKey_0 : List UInt8 := dkwX0_ofKey_0 ++ []
theorem dksX0_ofKey_0 : cX0_ofKey.data.toList.drop 0 = dktX0_ofKey_0 := by decide +kernel
theorem dX0_ofKey_0 : decode cX0_ofKey 0 = .ok (.aload_n 3, 1) := dk_45 (dk_at dksX0_ofKey_0 0 rfl rfl)
theorem dX0_ofKey_1 : decode cX0_ofKey 1 = .ok (.aload_n 0, 1) := dk_42 (dk_at dksX0_ofKey_0 1 rfl rfl)
theorem dX0_ofKey_2 : decode cX0_ofKey 2 = .ok (.iload_n 1, 1) := dk_27 (dk_at dksX0_ofKey_0 2 rfl rfl)
theorem dX0_ofKey_3 : decode cX0_ofKey 3 = .ok (.iload_n 2, 1) := dk_28 (dk_at dksX0_ofKey_0 3 rfl rfl)
theorem dX0_ofKey_4 : decode cX0_ofKey 4 = .ok (.invokevirtual 54, 3) := dk_182 0 54 (dk_at dksX0_ofKey_0 4 rfl rfl)
theorem dX0_ofKey_7 : decode cX0_ofKey 7 = .ok (.i2l, 1) := dk_133 (dk_at dksX0_ofKey_0 7 rfl rfl)
theorem dX0_ofKey_8 : decode cX0_ofKey 8 = .ok (.putfield 13, 3) := dk_181 0 13 (dk_at dksX0_ofKey_0 8 rfl rfl)
theorem dX0_ofKey_11 : decode cX0_ofKey 11 = .ok (.goto 7, 3) := dk_167 0 7 (dk_at dksX0_ofKey_0 11 rfl rfl)
theorem dX0_ofKey_14 : decode cX0_ofKey 14 = .ok (.astore 4, 2) := dk_58 4 (dk_at dksX0_ofKey_0 14 rfl rfl)
theorem dX0_ofKey_16 : decode cX0_ofKey 16 = .ok (.iconst 1, 1) := dk_4 (dk_at dksX0_ofKey_0 16 rfl rfl)
theorem dX0_ofKey_17 : decode cX0_ofKey 17 = .ok (.ireturn, 1) := dk_172 (dk_at dksX0_ofKey_0 17 rfl rfl)
theorem dX0_ofKey_18 : decode cX0_ofKey 18 = .ok (.iconst 0, 1) := dk_3 (dk_at dksX0_ofKey_0 18 rfl rfl)
theorem dX0_ofKey_19 : decode cX0_ofKey 19 = .ok (.ireturn, 1) := dk_172 (dk_at dksX0_ofKey_0 19 rfl rfl)
abbrev cX0_ofFile : ByteArray := method_13_code
def yX0_ofFile : MethodName := ⟨RX0, "ofFile", "(LSplitpointer;ILSplitpointerLaw$Out;)I"⟩
def dkwX0_ofFile_0 : List UInt8 := [44, 42, 27, 182, 0, 57, 133, 181, 0, 13, 167, 0, 6, 78, 4, 172, 3, 172]
abbrev dktX0_ofFile_0 : List UInt8 := dkwX0_ofFile_0 ++ []
theorem dksX0_ofFile_0 : cX0_ofFile.data.toList.drop 0 = dktX0_ofFile_0 := by decide +kernel
theorem dX0_ofFile_0 : decode cX0_ofFile 0 = .ok (.aload_n 2, 1) := dk_44 (dk_at dksX0_ofFile_0 0 rfl rfl)
theorem dX0_ofFile_1 : decode cX0_ofFile 1 = .ok (.aload_n 0, 1) := dk_42 (dk_at dksX0_ofFile_0 1 rfl rfl)
theorem dX0_ofFile_2 : decode cX0_ofFile 2 = .ok (.iload_n 1, 1) := dk_27 (dk_at dksX0_ofFile_0 2 rfl rfl)
theorem dX0_ofFile_3 : decode cX0_ofFile 3 = .ok (.invokevirtual 57, 3) := dk_182 0 57 (dk_at dksX0_ofFile_0 3 rfl rfl)
theorem dX0_ofFile_6 : decode cX0_ofFile 6 = .ok (.i2l, 1) := dk_133 (dk_at dksX0_ofFile_0 6 rfl rfl)
theorem dX0_ofFile_7 : decode cX0_ofFile 7 = .ok (.putfield 13, 3) := dk_181 0 13 (dk_at dksX0_ofFile_0 7 rfl rfl)
theorem dX0_ofFile_10 : decode cX0_ofFile 10 = .ok (.goto 6, 3) := dk_167 0 6 (dk_at dksX0_ofFile_0 10 rfl rfl)
theorem dX0_ofFile_13 : decode cX0_ofFile 13 = .ok (.astore_n 3, 1) := dk_78 (dk_at dksX0_ofFile_0 13 rfl rfl)
theorem dX0_ofFile_14 : decode cX0_ofFile 14 = .ok (.iconst 1, 1) := dk_4 (dk_at dksX0_ofFile_0 14 rfl rfl)
theorem dX0_ofFile_15 : decode cX0_ofFile 15 = .ok (.ireturn, 1) := dk_172 (dk_at dksX0_ofFile_0 15 rfl rfl)
theorem dX0_ofFile_16 : decode cX0_ofFile 16 = .ok (.iconst 0, 1) := dk_3 (dk_at dksX0_ofFile_0 16 rfl rfl)
theorem dX0_ofFile_17 : decode cX0_ofFile 17 = .ok (.ireturn, 1) := dk_172 (dk_at dksX0_ofFile_0 17 rfl rfl)
abbrev cX0_ofBucket : ByteArray := method_14_code
def yX0_ofBucket : MethodName := ⟨RX0, "ofBucket", "(LSplitpointer;IILSplitpointerLaw$Out;)I"⟩
def dkwX0_ofBucket_0 : List UInt8 := [45, 42, 27, 28, 182, 0, 60, 133, 181, 0, 13, 167, 0, 11, 58, 4, 4, 172, 58, 4, 5, 172, 3, 172]
abbrev dktX0_ofBucket_0 : List UInt8 := dkwX0_ofBucket_0 ++ []
theorem dksX0_ofBucket_0 : cX0_ofBucket.data.toList.drop 0 = dktX0_ofBucket_0 := by decide +kernel
theorem dX0_ofBucket_0 : decode cX0_ofBucket 0 = .ok (.aload_n 3, 1) := dk_45 (dk_at dksX0_ofBucket_0 0 rfl rfl)
theorem dX0_ofBucket_1 : decode cX0_ofBucket 1 = .ok (.aload_n 0, 1) := dk_42 (dk_at dksX0_ofBucket_0 1 rfl rfl)
theorem dX0_ofBucket_2 : decode cX0_ofBucket 2 = .ok (.iload_n 1, 1) := dk_27 (dk_at dksX0_ofBucket_0 2 rfl rfl)
theorem dX0_ofBucket_3 : decode cX0_ofBucket 3 = .ok (.iload_n 2, 1) := dk_28 (dk_at dksX0_ofBucket_0 3 rfl rfl)
theorem dX0_ofBucket_4 : decode cX0_ofBucket 4 = .ok (.invokevirtual 60, 3) := dk_182 0 60 (dk_at dksX0_ofBucket_0 4 rfl rfl)
theorem dX0_ofBucket_7 : decode cX0_ofBucket 7 = .ok (.i2l, 1) := dk_133 (dk_at dksX0_ofBucket_0 7 rfl rfl)
theorem dX0_ofBucket_8 : decode cX0_ofBucket 8 = .ok (.putfield 13, 3) := dk_181 0 13 (dk_at dksX0_ofBucket_0 8 rfl rfl)
theorem dX0_ofBucket_11 : decode cX0_ofBucket 11 = .ok (.goto 11, 3) := dk_167 0 11 (dk_at dksX0_ofBucket_0 11 rfl rfl)
theorem dX0_ofBucket_14 : decode cX0_ofBucket 14 = .ok (.astore 4, 2) := dk_58 4 (dk_at dksX0_ofBucket_0 14 rfl rfl)
theorem dX0_ofBucket_16 : decode cX0_ofBucket 16 = .ok (.iconst 1, 1) := dk_4 (dk_at dksX0_ofBucket_0 16 rfl rfl)
theorem dX0_ofBucket_17 : decode cX0_ofBucket 17 = .ok (.ireturn, 1) := dk_172 (dk_at dksX0_ofBucket_0 17 rfl rfl)
theorem dX0_ofBucket_18 : decode cX0_ofBucket 18 = .ok (.astore 4, 2) := dk_58 4 (dk_at dksX0_ofBucket_0 18 rfl rfl)
theorem dX0_ofBucket_20 : decode cX0_ofBucket 20 = .ok (.iconst 2, 1) := dk_5 (dk_at dksX0_ofBucket_0 20 rfl rfl)
theorem dX0_ofBucket_21 : decode cX0_ofBucket 21 = .ok (.ireturn, 1) := dk_172 (dk_at dksX0_ofBucket_0 21 rfl rfl)
theorem dX0_ofBucket_22 : decode cX0_ofBucket 22 = .ok (.iconst 0, 1) := dk_3 (dk_at dksX0_ofBucket_0 22 rfl rfl)
theorem dX0_ofBucket_23 : decode cX0_ofBucket 23 = .ok (.ireturn, 1) := dk_172 (dk_at dksX0_ofBucket_0 23 rfl rfl)
abbrev cX0_chain : ByteArray := method_15_code
def yX0_chain : MethodName := ⟨RX0, "chain", "(LSplitpointer;ILSplitpointerLaw$Out;)I"⟩
def dkwX0_chain_0 : List UInt8 := [44, 42, 27, 182, 0, 63, 181, 0, 67, 167, 0, 6, 78, 4, 172, 3, 172]
abbrev dktX0_chain_0 : List UInt8 := dkwX0_chain_0 ++ []
theorem dksX0_chain_0 : cX0_chain.data.toList.drop 0 = dktX0_chain_0 := by decide +kernel
theorem dX0_chain_0 : decode cX0_chain 0 = .ok (.aload_n 2, 1) := dk_44 (dk_at dksX0_chain_0 0 rfl rfl)
theorem dX0_chain_1 : decode cX0_chain 1 = .ok (.aload_n 0, 1) := dk_42 (dk_at dksX0_chain_0 1 rfl rfl)
theorem dX0_chain_2 : decode cX0_chain 2 = .ok (.iload_n 1, 1) := dk_27 (dk_at dksX0_chain_0 2 rfl rfl)
theorem dX0_chain_3 : decode cX0_chain 3 = .ok (.invokevirtual 63, 3) := dk_182 0 63 (dk_at dksX0_chain_0 3 rfl rfl)
theorem dX0_chain_6 : decode cX0_chain 6 = .ok (.putfield 67, 3) := dk_181 0 67 (dk_at dksX0_chain_0 6 rfl rfl)
theorem dX0_chain_9 : decode cX0_chain 9 = .ok (.goto 6, 3) := dk_167 0 6 (dk_at dksX0_chain_0 9 rfl rfl)
theorem dX0_chain_12 : decode cX0_chain 12 = .ok (.astore_n 3, 1) := dk_78 (dk_at dksX0_chain_0 12 rfl rfl)
theorem dX0_chain_13 : decode cX0_chain 13 = .ok (.iconst 1, 1) := dk_4 (dk_at dksX0_chain_0 13 rfl rfl)
theorem dX0_chain_14 : decode cX0_chain 14 = .ok (.ireturn, 1) := dk_172 (dk_at dksX0_chain_0 14 rfl rfl)
theorem dX0_chain_15 : decode cX0_chain 15 = .ok (.iconst 0, 1) := dk_3 (dk_at dksX0_chain_0 15 rfl rfl)
theorem dX0_chain_16 : decode cX0_chain 16 = .ok (.ireturn, 1) := dk_172 (dk_at dksX0_chain_0 16 rfl rfl)
abbrev cX0_ofPage : ByteArray := method_16_code
def yX0_ofPage : MethodName := ⟨RX0, "ofPage", "(LSplitpointer;IILSplitpointerLaw$Out;)I"⟩
def dkwX0_ofPage_0 : List UInt8 := [45, 42, 27, 28, 182, 0, 71, 133, 181, 0, 13, 167, 0, 11, 58, 4, 4, 172, 58, 4, 5, 172, 3, 172]
abbrev dktX0_ofPage_0 : List UInt8 := dkwX0_ofPage_0 ++ []
theorem dksX0_ofPage_0 : cX0_ofPage.data.toList.drop 0 = dktX0_ofPage_0 := by decide +kernel
theorem dX0_ofPage_0 : decode cX0_ofPage 0 = .ok (.aload_n 3, 1) := dk_45 (dk_at dksX0_ofPage_0 0 rfl rfl)
theorem dX0_ofPage_1 : decode cX0_ofPage 1 = .ok (.aload_n 0, 1) := dk_42 (dk_at dksX0_ofPage_0 1 rfl rfl)
theorem dX0_ofPage_2 : decode cX0_ofPage 2 = .ok (.iload_n 1, 1) := dk_27 (dk_at dksX0_ofPage_0 2 rfl rfl)
theorem dX0_ofPage_3 : decode cX0_ofPage 3 = .ok (.iload_n 2, 1) := dk_28 (dk_at dksX0_ofPage_0 3 rfl rfl)
theorem dX0_ofPage_4 : decode cX0_ofPage 4 = .ok (.invokevirtual 71, 3) := dk_182 0 71 (dk_at dksX0_ofPage_0 4 rfl rfl)
theorem dX0_ofPage_7 : decode cX0_ofPage 7 = .ok (.i2l, 1) := dk_133 (dk_at dksX0_ofPage_0 7 rfl rfl)
theorem dX0_ofPage_8 : decode cX0_ofPage 8 = .ok (.putfield 13, 3) := dk_181 0 13 (dk_at dksX0_ofPage_0 8 rfl rfl)
theorem dX0_ofPage_11 : decode cX0_ofPage 11 = .ok (.goto 11, 3) := dk_167 0 11 (dk_at dksX0_ofPage_0 11 rfl rfl)
theorem dX0_ofPage_14 : decode cX0_ofPage 14 = .ok (.astore 4, 2) := dk_58 4 (dk_at dksX0_ofPage_0 14 rfl rfl)
theorem dX0_ofPage_16 : decode cX0_ofPage 16 = .ok (.iconst 1, 1) := dk_4 (dk_at dksX0_ofPage_0 16 rfl rfl)
theorem dX0_ofPage_17 : decode cX0_ofPage 17 = .ok (.ireturn, 1) := dk_172 (dk_at dksX0_ofPage_0 17 rfl rfl)
theorem dX0_ofPage_18 : decode cX0_ofPage 18 = .ok (.astore 4, 2) := dk_58 4 (dk_at dksX0_ofPage_0 18 rfl rfl)
theorem dX0_ofPage_20 : decode cX0_ofPage 20 = .ok (.iconst 2, 1) := dk_5 (dk_at dksX0_ofPage_0 20 rfl rfl)
theorem dX0_ofPage_21 : decode cX0_ofPage 21 = .ok (.ireturn, 1) := dk_172 (dk_at dksX0_ofPage_0 21 rfl rfl)
theorem dX0_ofPage_22 : decode cX0_ofPage 22 = .ok (.iconst 0, 1) := dk_3 (dk_at dksX0_ofPage_0 22 rfl rfl)
theorem dX0_ofPage_23 : decode cX0_ofPage 23 = .ok (.ireturn, 1) := dk_172 (dk_at dksX0_ofPage_0 23 rfl rfl)
abbrev cX0_mark : ByteArray := method_17_code
def yX0_mark : MethodName := ⟨RX0, "mark", "(LSplitpointer;ILSplitpointerLaw$Out;)I"⟩
def dkwX0_mark_0 : List UInt8 := [44, 42, 27, 182, 0, 74, 133, 181, 0, 13, 167, 0, 6, 78, 4, 172, 3, 172]
abbrev dktX0_mark_0 : List UInt8 := dkwX0_mark_0 ++ []
theorem dksX0_mark_0 : cX0_mark.data.toList.drop 0 = dktX0_mark_0 := by decide +kernel
theorem dX0_mark_0 : decode cX0_mark 0 = .ok (.aload_n 2, 1) := dk_44 (dk_at dksX0_mark_0 0 rfl rfl)
theorem dX0_mark_1 : decode cX0_mark 1 = .ok (.aload_n 0, 1) := dk_42 (dk_at dksX0_mark_0 1 rfl rfl)
theorem dX0_mark_2 : decode cX0_mark 2 = .ok (.iload_n 1, 1) := dk_27 (dk_at dksX0_mark_0 2 rfl rfl)
theorem dX0_mark_3 : decode cX0_mark 3 = .ok (.invokevirtual 74, 3) := dk_182 0 74 (dk_at dksX0_mark_0 3 rfl rfl)
theorem dX0_mark_6 : decode cX0_mark 6 = .ok (.i2l, 1) := dk_133 (dk_at dksX0_mark_0 6 rfl rfl)
theorem dX0_mark_7 : decode cX0_mark 7 = .ok (.putfield 13, 3) := dk_181 0 13 (dk_at dksX0_mark_0 7 rfl rfl)
theorem dX0_mark_10 : decode cX0_mark 10 = .ok (.goto 6, 3) := dk_167 0 6 (dk_at dksX0_mark_0 10 rfl rfl)
theorem dX0_mark_13 : decode cX0_mark 13 = .ok (.astore_n 3, 1) := dk_78 (dk_at dksX0_mark_0 13 rfl rfl)
theorem dX0_mark_14 : decode cX0_mark 14 = .ok (.iconst 1, 1) := dk_4 (dk_at dksX0_mark_0 14 rfl rfl)
theorem dX0_mark_15 : decode cX0_mark 15 = .ok (.ireturn, 1) := dk_172 (dk_at dksX0_mark_0 15 rfl rfl)
theorem dX0_mark_16 : decode cX0_mark 16 = .ok (.iconst 0, 1) := dk_3 (dk_at dksX0_mark_0 16 rfl rfl)
theorem dX0_mark_17 : decode cX0_mark 17 = .ok (.ireturn, 1) := dk_172 (dk_at dksX0_mark_0 17 rfl rfl)
abbrev cX0_ofClient : ByteArray := method_18_code
def yX0_ofClient : MethodName := ⟨RX0, "ofClient", "(LSplitpointer;IILSplitpointerLaw$Out;)I"⟩
def dkwX0_ofClient_0 : List UInt8 := [45, 42, 27, 28, 182, 0, 77, 133, 181, 0, 13, 167, 0, 11, 58, 4, 4, 172, 58, 4, 5, 172, 3, 172]
abbrev dktX0_ofClient_0 : List UInt8 := dkwX0_ofClient_0 ++ []
theorem dksX0_ofClient_0 : cX0_ofClient.data.toList.drop 0 = dktX0_ofClient_0 := by decide +kernel
theorem dX0_ofClient_0 : decode cX0_ofClient 0 = .ok (.aload_n 3, 1) := dk_45 (dk_at dksX0_ofClient_0 0 rfl rfl)
theorem dX0_ofClient_1 : decode cX0_ofClient 1 = .ok (.aload_n 0, 1) := dk_42 (dk_at dksX0_ofClient_0 1 rfl rfl)
theorem dX0_ofClient_2 : decode cX0_ofClient 2 = .ok (.iload_n 1, 1) := dk_27 (dk_at dksX0_ofClient_0 2 rfl rfl)
theorem dX0_ofClient_3 : decode cX0_ofClient 3 = .ok (.iload_n 2, 1) := dk_28 (dk_at dksX0_ofClient_0 3 rfl rfl)
theorem dX0_ofClient_4 : decode cX0_ofClient 4 = .ok (.invokevirtual 77, 3) := dk_182 0 77 (dk_at dksX0_ofClient_0 4 rfl rfl)
theorem dX0_ofClient_7 : decode cX0_ofClient 7 = .ok (.i2l, 1) := dk_133 (dk_at dksX0_ofClient_0 7 rfl rfl)
theorem dX0_ofClient_8 : decode cX0_ofClient 8 = .ok (.putfield 13, 3) := dk_181 0 13 (dk_at dksX0_ofClient_0 8 rfl rfl)
theorem dX0_ofClient_11 : decode cX0_ofClient 11 = .ok (.goto 11, 3) := dk_167 0 11 (dk_at dksX0_ofClient_0 11 rfl rfl)
theorem dX0_ofClient_14 : decode cX0_ofClient 14 = .ok (.astore 4, 2) := dk_58 4 (dk_at dksX0_ofClient_0 14 rfl rfl)
theorem dX0_ofClient_16 : decode cX0_ofClient 16 = .ok (.iconst 1, 1) := dk_4 (dk_at dksX0_ofClient_0 16 rfl rfl)
theorem dX0_ofClient_17 : decode cX0_ofClient 17 = .ok (.ireturn, 1) := dk_172 (dk_at dksX0_ofClient_0 17 rfl rfl)
theorem dX0_ofClient_18 : decode cX0_ofClient 18 = .ok (.astore 4, 2) := dk_58 4 (dk_at dksX0_ofClient_0 18 rfl rfl)
theorem dX0_ofClient_20 : decode cX0_ofClient 20 = .ok (.iconst 2, 1) := dk_5 (dk_at dksX0_ofClient_0 20 rfl rfl)
theorem dX0_ofClient_21 : decode cX0_ofClient 21 = .ok (.ireturn, 1) := dk_172 (dk_at dksX0_ofClient_0 21 rfl rfl)
theorem dX0_ofClient_22 : decode cX0_ofClient 22 = .ok (.iconst 0, 1) := dk_3 (dk_at dksX0_ofClient_0 22 rfl rfl)
theorem dX0_ofClient_23 : decode cX0_ofClient 23 = .ok (.ireturn, 1) := dk_172 (dk_at dksX0_ofClient_0 23 rfl rfl)
abbrev cX0_seek : ByteArray := method_19_code
def yX0_seek : MethodName := ⟨RX0, "seek", "(LSplitpointer;ZIILSplitpointerLaw$Out;)I"⟩
def dkwX0_seek_0 : List UInt8 := [25, 4, 42, 27, 28, 29, 182, 0, 80, 133, 181, 0, 13, 167, 0, 7, 58, 5, 4, 172, 3, 172]
abbrev dktX0_seek_0 : List UInt8 := dkwX0_seek_0 ++ []
theorem dksX0_seek_0 : cX0_seek.data.toList.drop 0 = dktX0_seek_0 := by decide +kernel
theorem dX0_seek_0 : decode cX0_seek 0 = .ok (.aload 4, 2) := dk_25 4 (dk_at dksX0_seek_0 0 rfl rfl)
theorem dX0_seek_2 : decode cX0_seek 2 = .ok (.aload_n 0, 1) := dk_42 (dk_at dksX0_seek_0 2 rfl rfl)
theorem dX0_seek_3 : decode cX0_seek 3 = .ok (.iload_n 1, 1) := dk_27 (dk_at dksX0_seek_0 3 rfl rfl)
theorem dX0_seek_4 : decode cX0_seek 4 = .ok (.iload_n 2, 1) := dk_28 (dk_at dksX0_seek_0 4 rfl rfl)
theorem dX0_seek_5 : decode cX0_seek 5 = .ok (.iload_n 3, 1) := dk_29 (dk_at dksX0_seek_0 5 rfl rfl)
theorem dX0_seek_6 : decode cX0_seek 6 = .ok (.invokevirtual 80, 3) := dk_182 0 80 (dk_at dksX0_seek_0 6 rfl rfl)
theorem dX0_seek_9 : decode cX0_seek 9 = .ok (.i2l, 1) := dk_133 (dk_at dksX0_seek_0 9 rfl rfl)
theorem dX0_seek_10 : decode cX0_seek 10 = .ok (.putfield 13, 3) := dk_181 0 13 (dk_at dksX0_seek_0 10 rfl rfl)
theorem dX0_seek_13 : decode cX0_seek 13 = .ok (.goto 7, 3) := dk_167 0 7 (dk_at dksX0_seek_0 13 rfl rfl)
theorem dX0_seek_16 : decode cX0_seek 16 = .ok (.astore 5, 2) := dk_58 5 (dk_at dksX0_seek_0 16 rfl rfl)
theorem dX0_seek_18 : decode cX0_seek 18 = .ok (.iconst 1, 1) := dk_4 (dk_at dksX0_seek_0 18 rfl rfl)
theorem dX0_seek_19 : decode cX0_seek 19 = .ok (.ireturn, 1) := dk_172 (dk_at dksX0_seek_0 19 rfl rfl)
theorem dX0_seek_20 : decode cX0_seek 20 = .ok (.iconst 0, 1) := dk_3 (dk_at dksX0_seek_0 20 rfl rfl)
theorem dX0_seek_21 : decode cX0_seek 21 = .ok (.ireturn, 1) := dk_172 (dk_at dksX0_seek_0 21 rfl rfl)
abbrev cX0_visits : ByteArray := method_20_code
def yX0_visits : MethodName := ⟨RX0, "visits", "(LSplitpointer;ZILSplitpointerLaw$Out;)I"⟩
def dkwX0_visits_0 : List UInt8 := [45, 42, 27, 28, 182, 0, 84, 133, 181, 0, 13, 167, 0, 7, 58, 4, 4, 172, 3, 172]
abbrev dktX0_visits_0 : List UInt8 := dkwX0_visits_0 ++ []
theorem dksX0_visits_0 : cX0_visits.data.toList.drop 0 = dktX0_visits_0 := by decide +kernel
theorem dX0_visits_0 : decode cX0_visits 0 = .ok (.aload_n 3, 1) := dk_45 (dk_at dksX0_visits_0 0 rfl rfl)
theorem dX0_visits_1 : decode cX0_visits 1 = .ok (.aload_n 0, 1) := dk_42 (dk_at dksX0_visits_0 1 rfl rfl)
theorem dX0_visits_2 : decode cX0_visits 2 = .ok (.iload_n 1, 1) := dk_27 (dk_at dksX0_visits_0 2 rfl rfl)
theorem dX0_visits_3 : decode cX0_visits 3 = .ok (.iload_n 2, 1) := dk_28 (dk_at dksX0_visits_0 3 rfl rfl)
theorem dX0_visits_4 : decode cX0_visits 4 = .ok (.invokevirtual 84, 3) := dk_182 0 84 (dk_at dksX0_visits_0 4 rfl rfl)
theorem dX0_visits_7 : decode cX0_visits 7 = .ok (.i2l, 1) := dk_133 (dk_at dksX0_visits_0 7 rfl rfl)
theorem dX0_visits_8 : decode cX0_visits 8 = .ok (.putfield 13, 3) := dk_181 0 13 (dk_at dksX0_visits_0 8 rfl rfl)
theorem dX0_visits_11 : decode cX0_visits 11 = .ok (.goto 7, 3) := dk_167 0 7 (dk_at dksX0_visits_0 11 rfl rfl)
theorem dX0_visits_14 : decode cX0_visits 14 = .ok (.astore 4, 2) := dk_58 4 (dk_at dksX0_visits_0 14 rfl rfl)
theorem dX0_visits_16 : decode cX0_visits 16 = .ok (.iconst 1, 1) := dk_4 (dk_at dksX0_visits_0 16 rfl rfl)
theorem dX0_visits_17 : decode cX0_visits 17 = .ok (.ireturn, 1) := dk_172 (dk_at dksX0_visits_0 17 rfl rfl)
theorem dX0_visits_18 : decode cX0_visits 18 = .ok (.iconst 0, 1) := dk_3 (dk_at dksX0_visits_0 18 rfl rfl)
theorem dX0_visits_19 : decode cX0_visits 19 = .ok (.ireturn, 1) := dk_172 (dk_at dksX0_visits_0 19 rfl rfl)
abbrev cX0_would : ByteArray := method_21_code
def yX0_would : MethodName := ⟨RX0, "would", "(LSplitpointer;IIILSplitpointerLaw$Out;)I"⟩
def dkwX0_would_0 : List UInt8 := [25, 4, 42, 27, 28, 29, 182, 0, 88, 133, 181, 0, 13, 167, 0, 7, 58, 5, 4, 172, 3, 172]
abbrev dktX0_would_0 : List UInt8 := dkwX0_would_0 ++ []
theorem dksX0_would_0 : cX0_would.data.toList.drop 0 = dktX0_would_0 := by decide +kernel
theorem dX0_would_0 : decode cX0_would 0 = .ok (.aload 4, 2) := dk_25 4 (dk_at dksX0_would_0 0 rfl rfl)
theorem dX0_would_2 : decode cX0_would 2 = .ok (.aload_n 0, 1) := dk_42 (dk_at dksX0_would_0 2 rfl rfl)
theorem dX0_would_3 : decode cX0_would 3 = .ok (.iload_n 1, 1) := dk_27 (dk_at dksX0_would_0 3 rfl rfl)
theorem dX0_would_4 : decode cX0_would 4 = .ok (.iload_n 2, 1) := dk_28 (dk_at dksX0_would_0 4 rfl rfl)
theorem dX0_would_5 : decode cX0_would 5 = .ok (.iload_n 3, 1) := dk_29 (dk_at dksX0_would_0 5 rfl rfl)
theorem dX0_would_6 : decode cX0_would 6 = .ok (.invokevirtual 88, 3) := dk_182 0 88 (dk_at dksX0_would_0 6 rfl rfl)
theorem dX0_would_9 : decode cX0_would 9 = .ok (.i2l, 1) := dk_133 (dk_at dksX0_would_0 9 rfl rfl)
theorem dX0_would_10 : decode cX0_would 10 = .ok (.putfield 13, 3) := dk_181 0 13 (dk_at dksX0_would_0 10 rfl rfl)
theorem dX0_would_13 : decode cX0_would 13 = .ok (.goto 7, 3) := dk_167 0 7 (dk_at dksX0_would_0 13 rfl rfl)
theorem dX0_would_16 : decode cX0_would 16 = .ok (.astore 5, 2) := dk_58 5 (dk_at dksX0_would_0 16 rfl rfl)
theorem dX0_would_18 : decode cX0_would 18 = .ok (.iconst 1, 1) := dk_4 (dk_at dksX0_would_0 18 rfl rfl)
theorem dX0_would_19 : decode cX0_would 19 = .ok (.ireturn, 1) := dk_172 (dk_at dksX0_would_0 19 rfl rfl)
theorem dX0_would_20 : decode cX0_would 20 = .ok (.iconst 0, 1) := dk_3 (dk_at dksX0_would_0 20 rfl rfl)
theorem dX0_would_21 : decode cX0_would 21 = .ok (.ireturn, 1) := dk_172 (dk_at dksX0_would_0 21 rfl rfl)
abbrev cX0_crashed : ByteArray := method_22_code
def yX0_crashed : MethodName := ⟨RX0, "crashed", "(LSplitpointer;ILSplitpointerLaw$Out;)I"⟩
def dkwX0_crashed_0 : List UInt8 := [44, 42, 27, 182, 0, 92, 133, 181, 0, 13, 167, 0, 6, 78, 4, 172, 3, 172]
abbrev dktX0_crashed_0 : List UInt8 := dkwX0_crashed_0 ++ []
theorem dksX0_crashed_0 : cX0_crashed.data.toList.drop 0 = dktX0_crashed_0 := by decide +kernel
theorem dX0_crashed_0 : decode cX0_crashed 0 = .ok (.aload_n 2, 1) := dk_44 (dk_at dksX0_crashed_0 0 rfl rfl)
theorem dX0_crashed_1 : decode cX0_crashed 1 = .ok (.aload_n 0, 1) := dk_42 (dk_at dksX0_crashed_0 1 rfl rfl)
theorem dX0_crashed_2 : decode cX0_crashed 2 = .ok (.iload_n 1, 1) := dk_27 (dk_at dksX0_crashed_0 2 rfl rfl)
theorem dX0_crashed_3 : decode cX0_crashed 3 = .ok (.invokevirtual 92, 3) := dk_182 0 92 (dk_at dksX0_crashed_0 3 rfl rfl)
theorem dX0_crashed_6 : decode cX0_crashed 6 = .ok (.i2l, 1) := dk_133 (dk_at dksX0_crashed_0 6 rfl rfl)
theorem dX0_crashed_7 : decode cX0_crashed 7 = .ok (.putfield 13, 3) := dk_181 0 13 (dk_at dksX0_crashed_0 7 rfl rfl)
theorem dX0_crashed_10 : decode cX0_crashed 10 = .ok (.goto 6, 3) := dk_167 0 6 (dk_at dksX0_crashed_0 10 rfl rfl)
theorem dX0_crashed_13 : decode cX0_crashed 13 = .ok (.astore_n 3, 1) := dk_78 (dk_at dksX0_crashed_0 13 rfl rfl)
theorem dX0_crashed_14 : decode cX0_crashed 14 = .ok (.iconst 1, 1) := dk_4 (dk_at dksX0_crashed_0 14 rfl rfl)
theorem dX0_crashed_15 : decode cX0_crashed 15 = .ok (.ireturn, 1) := dk_172 (dk_at dksX0_crashed_0 15 rfl rfl)
theorem dX0_crashed_16 : decode cX0_crashed 16 = .ok (.iconst 0, 1) := dk_3 (dk_at dksX0_crashed_0 16 rfl rfl)
theorem dX0_crashed_17 : decode cX0_crashed 17 = .ok (.ireturn, 1) := dk_172 (dk_at dksX0_crashed_0 17 rfl rfl)
theorem q63 : (Jvm.Cond.initialized "SplitpointerLaw") ∈ lw_all := lw_g (lw_at lw_m1 0 rfl) rfl
theorem q104 : (Jvm.Cond.classLink "SplitpointerLaw" (8 : Nat) "Splitpointer") ∈ lw_all := lw_g (lw_at lw_m1 41 rfl) rfl
theorem q106 : (Jvm.Cond.methodLink "SplitpointerLaw" (95 : Nat) ({ cls := "Splitpointer", name := "<init>", desc := "()V" } : Jvm.MethodName)) ∈ lw_all := lw_g (lw_at lw_m1 43 rfl) rfl
theorem q394 : (Jvm.Cond.methodLink "SplitpointerLaw" (135 : Nat) ({ cls := "Splitpointer", name := "flush", desc := "()I" } : Jvm.MethodName)) ∈ lw_all := lw_g (lw_at lw_m2 91 rfl) rfl
theorem q402 : (Jvm.Cond.methodLink "SplitpointerLaw" (139 : Nat) ({ cls := "Splitpointer", name := "checkpoint", desc := "()I" } : Jvm.MethodName)) ∈ lw_all := lw_g (lw_at lw_m2 99 rfl) rfl
theorem q458 : (Jvm.Cond.methodLink "SplitpointerLaw" (143 : Nat) ({ cls := "Splitpointer", name := "crash", desc := "()I" } : Jvm.MethodName)) ∈ lw_all := lw_g (lw_at lw_m2 155 rfl) rfl
theorem q628 : (Jvm.Cond.methodLink "SplitpointerLaw" (147 : Nat) ({ cls := "Splitpointer", name := "knock", desc := "()I" } : Jvm.MethodName)) ∈ lw_all := lw_g (lw_at lw_m3 85 rfl) rfl
theorem q632 : (Jvm.Cond.methodLink "SplitpointerLaw" (196 : Nat) ({ cls := "Splitpointer", name := "isSound", desc := "()Z" } : Jvm.MethodName)) ∈ lw_all := lw_g (lw_at lw_m3 89 rfl) rfl
theorem q670 : (Jvm.Cond.methodLink "SplitpointerLaw" (201 : Nat) ({ cls := "Splitpointer", name := "digest", desc := "()J" } : Jvm.MethodName)) ∈ lw_all := lw_g (lw_at lw_m3 127 rfl) rfl
theorem q1036 : (Jvm.Cond.classLink "SplitpointerLaw" (14 : Nat) "SplitpointerLaw$Out") ∈ lw_all := lw_g (lw_at lw_m5 13 rfl) rfl
theorem q1038 : (Jvm.Cond.methodLinkNest "SplitpointerLaw" (99 : Nat) ({ cls := "SplitpointerLaw$Out", name := "<init>", desc := "()V" } : Jvm.MethodName) "SplitpointerLaw") ∈ lw_tbl := lw_at lw_m5 15 rfl
theorem q1042 : (Jvm.Cond.fieldLinkNest "SplitpointerLaw" (13 : Nat) "SplitpointerLaw$Out" "n" "J" "SplitpointerLaw") ∈ lw_tbl := lw_at lw_m5 19 rfl
theorem q1043 : (Jvm.Cond.fieldLinkNest "SplitpointerLaw" (67 : Nat) "SplitpointerLaw$Out" "s" "Ljava/lang/String;" "SplitpointerLaw") ∈ lw_tbl := lw_at lw_m5 20 rfl
theorem q1049 : (Jvm.Cond.methodLink "SplitpointerLaw" (100 : Nat) ({ cls := "SplitpointerLaw", name := "found", desc := "(LSplitpointer;IILSplitpointerLaw$Out;)I" } : Jvm.MethodName)) ∈ lw_all := lw_g (lw_at lw_m5 26 rfl) rfl
theorem q1050 : (Jvm.Cond.static ({ cls := "SplitpointerLaw", name := "found", desc := "(LSplitpointer;IILSplitpointerLaw$Out;)I" } : Jvm.MethodName)) ∈ lw_all := lw_g (lw_at lw_m5 27 rfl) rfl
theorem q1051 : (Jvm.Cond.codeWith ({ cls := "SplitpointerLaw", name := "found", desc := "(LSplitpointer;IILSplitpointerLaw$Out;)I" } : Jvm.MethodName) method_2_code (5 : Nat) (Option.some Jvm.ClassFile.FieldType.int) [((0 : Nat), (11 : Nat), (14 : Nat), (19 : Nat))]) ∈ lw_all := lw_g (lw_at lw_m5 28 rfl) rfl
theorem q1052 : (Jvm.Cond.classLink "SplitpointerLaw" (19 : Nat) "java/lang/IllegalArgumentException") ∈ lw_all := lw_g (lw_at lw_m5 29 rfl) rfl
theorem q1053 : (Jvm.Cond.methodLink "SplitpointerLaw" (7 : Nat) ({ cls := "Splitpointer", name := "found", desc := "(II)I" } : Jvm.MethodName)) ∈ lw_all := lw_g (lw_at lw_m5 30 rfl) rfl
theorem q1078 : (Jvm.Cond.methodLink "SplitpointerLaw" (110 : Nat) ({ cls := "SplitpointerLaw", name := "bounds", desc := "(LSplitpointer;IILSplitpointerLaw$Out;)I" } : Jvm.MethodName)) ∈ lw_all := lw_g (lw_at lw_m5 55 rfl) rfl
theorem q1079 : (Jvm.Cond.static ({ cls := "SplitpointerLaw", name := "bounds", desc := "(LSplitpointer;IILSplitpointerLaw$Out;)I" } : Jvm.MethodName)) ∈ lw_all := lw_g (lw_at lw_m5 56 rfl) rfl
theorem q1080 : (Jvm.Cond.codeWith ({ cls := "SplitpointerLaw", name := "bounds", desc := "(LSplitpointer;IILSplitpointerLaw$Out;)I" } : Jvm.MethodName) method_3_code (5 : Nat) (Option.some Jvm.ClassFile.FieldType.int) [((0 : Nat), (11 : Nat), (14 : Nat), (19 : Nat))]) ∈ lw_all := lw_g (lw_at lw_m5 57 rfl) rfl
theorem q1081 : (Jvm.Cond.methodLink "SplitpointerLaw" (21 : Nat) ({ cls := "Splitpointer", name := "bounds", desc := "(II)I" } : Jvm.MethodName)) ∈ lw_all := lw_g (lw_at lw_m5 58 rfl) rfl
theorem q1107 : (Jvm.Cond.methodLink "SplitpointerLaw" (113 : Nat) ({ cls := "SplitpointerLaw", name := "put", desc := "(LSplitpointer;IILSplitpointerLaw$Out;)I" } : Jvm.MethodName)) ∈ lw_all := lw_g (lw_at lw_m5 84 rfl) rfl
theorem q1108 : (Jvm.Cond.static ({ cls := "SplitpointerLaw", name := "put", desc := "(LSplitpointer;IILSplitpointerLaw$Out;)I" } : Jvm.MethodName)) ∈ lw_all := lw_g (lw_at lw_m5 85 rfl) rfl
theorem q1109 : (Jvm.Cond.codeWith ({ cls := "SplitpointerLaw", name := "put", desc := "(LSplitpointer;IILSplitpointerLaw$Out;)I" } : Jvm.MethodName) method_4_code (5 : Nat) (Option.some Jvm.ClassFile.FieldType.int) [((0 : Nat), (11 : Nat), (14 : Nat), (19 : Nat)), ((0 : Nat), (11 : Nat), (18 : Nat), (27 : Nat))]) ∈ lw_all := lw_g (lw_at lw_m5 86 rfl) rfl
theorem q1110 : (Jvm.Cond.classLink "SplitpointerLaw" (27 : Nat) "java/lang/IllegalStateException") ∈ lw_all := lw_g (lw_at lw_m5 87 rfl) rfl
theorem q1111 : (Jvm.Cond.methodLink "SplitpointerLaw" (24 : Nat) ({ cls := "Splitpointer", name := "put", desc := "(II)I" } : Jvm.MethodName)) ∈ lw_all := lw_g (lw_at lw_m5 88 rfl) rfl
theorem q1146 : (Jvm.Cond.methodLink "SplitpointerLaw" (116 : Nat) ({ cls := "SplitpointerLaw", name := "drop", desc := "(LSplitpointer;ILSplitpointerLaw$Out;)I" } : Jvm.MethodName)) ∈ lw_all := lw_g (lw_at lw_m5 123 rfl) rfl
theorem q1147 : (Jvm.Cond.static ({ cls := "SplitpointerLaw", name := "drop", desc := "(LSplitpointer;ILSplitpointerLaw$Out;)I" } : Jvm.MethodName)) ∈ lw_all := lw_g (lw_at lw_m5 124 rfl) rfl
theorem q1148 : (Jvm.Cond.codeWith ({ cls := "SplitpointerLaw", name := "drop", desc := "(LSplitpointer;ILSplitpointerLaw$Out;)I" } : Jvm.MethodName) method_5_code (4 : Nat) (Option.some Jvm.ClassFile.FieldType.int) [((0 : Nat), (10 : Nat), (13 : Nat), (19 : Nat))]) ∈ lw_all := lw_g (lw_at lw_m5 125 rfl) rfl
theorem q1149 : (Jvm.Cond.methodLink "SplitpointerLaw" (29 : Nat) ({ cls := "Splitpointer", name := "drop", desc := "(I)I" } : Jvm.MethodName)) ∈ lw_all := lw_g (lw_at lw_m5 126 rfl) rfl
theorem q1166 : (Jvm.Cond.methodLink "SplitpointerLaw" (120 : Nat) ({ cls := "SplitpointerLaw", name := "rehash", desc := "(LSplitpointer;IILSplitpointerLaw$Out;)I" } : Jvm.MethodName)) ∈ lw_all := lw_g (lw_at lw_m5 143 rfl) rfl
theorem q1167 : (Jvm.Cond.static ({ cls := "SplitpointerLaw", name := "rehash", desc := "(LSplitpointer;IILSplitpointerLaw$Out;)I" } : Jvm.MethodName)) ∈ lw_all := lw_g (lw_at lw_m5 144 rfl) rfl
theorem q1168 : (Jvm.Cond.codeWith ({ cls := "SplitpointerLaw", name := "rehash", desc := "(LSplitpointer;IILSplitpointerLaw$Out;)I" } : Jvm.MethodName) method_6_code (5 : Nat) (Option.some Jvm.ClassFile.FieldType.int) [((0 : Nat), (11 : Nat), (14 : Nat), (19 : Nat))]) ∈ lw_all := lw_g (lw_at lw_m5 145 rfl) rfl
theorem q1169 : (Jvm.Cond.methodLink "SplitpointerLaw" (33 : Nat) ({ cls := "Splitpointer", name := "rehash", desc := "(II)I" } : Jvm.MethodName)) ∈ lw_all := lw_g (lw_at lw_m5 146 rfl) rfl
theorem q1189 : (Jvm.Cond.methodLink "SplitpointerLaw" (123 : Nat) ({ cls := "SplitpointerLaw", name := "find", desc := "(LSplitpointer;ILSplitpointerLaw$Out;)I" } : Jvm.MethodName)) ∈ lw_all := lw_g (lw_at lw_m5 166 rfl) rfl
theorem q1190 : (Jvm.Cond.static ({ cls := "SplitpointerLaw", name := "find", desc := "(LSplitpointer;ILSplitpointerLaw$Out;)I" } : Jvm.MethodName)) ∈ lw_all := lw_g (lw_at lw_m5 167 rfl) rfl
theorem q1191 : (Jvm.Cond.codeWith ({ cls := "SplitpointerLaw", name := "find", desc := "(LSplitpointer;ILSplitpointerLaw$Out;)I" } : Jvm.MethodName) method_7_code (4 : Nat) (Option.some Jvm.ClassFile.FieldType.int) [((0 : Nat), (10 : Nat), (13 : Nat), (19 : Nat))]) ∈ lw_all := lw_g (lw_at lw_m5 168 rfl) rfl
theorem q1192 : (Jvm.Cond.methodLink "SplitpointerLaw" (36 : Nat) ({ cls := "Splitpointer", name := "find", desc := "(I)I" } : Jvm.MethodName)) ∈ lw_all := lw_g (lw_at lw_m5 169 rfl) rfl
theorem q1198 : (Jvm.Cond.methodLink "SplitpointerLaw" (126 : Nat) ({ cls := "SplitpointerLaw", name := "open", desc := "(LSplitpointer;ILSplitpointerLaw$Out;)I" } : Jvm.MethodName)) ∈ lw_all := lw_g (lw_at lw_m5 175 rfl) rfl
theorem q1199 : (Jvm.Cond.static ({ cls := "SplitpointerLaw", name := "open", desc := "(LSplitpointer;ILSplitpointerLaw$Out;)I" } : Jvm.MethodName)) ∈ lw_all := lw_g (lw_at lw_m5 176 rfl) rfl
theorem q1200 : (Jvm.Cond.codeWith ({ cls := "SplitpointerLaw", name := "open", desc := "(LSplitpointer;ILSplitpointerLaw$Out;)I" } : Jvm.MethodName) method_8_code (4 : Nat) (Option.some Jvm.ClassFile.FieldType.int) [((0 : Nat), (17 : Nat), (20 : Nat), (43 : Nat))]) ∈ lw_all := lw_g (lw_at lw_m5 177 rfl) rfl
theorem q1201 : (Jvm.Cond.classLink "SplitpointerLaw" (43 : Nat) "java/lang/IndexOutOfBoundsException") ∈ lw_all := lw_g (lw_at lw_m5 178 rfl) rfl
theorem q1220 : (Jvm.Cond.methodLink "SplitpointerLaw" (39 : Nat) ({ cls := "Splitpointer", name := "open", desc := "(I)Z" } : Jvm.MethodName)) ∈ lw_all := lw_g (lw_at lw_m5 197 rfl) rfl
theorem q1245 : (Jvm.Cond.methodLink "SplitpointerLaw" (129 : Nat) ({ cls := "SplitpointerLaw", name := "next", desc := "(LSplitpointer;ILSplitpointerLaw$Out;)I" } : Jvm.MethodName)) ∈ lw_all := lw_g (lw_at lw_m5 222 rfl) rfl
theorem q1246 : (Jvm.Cond.static ({ cls := "SplitpointerLaw", name := "next", desc := "(LSplitpointer;ILSplitpointerLaw$Out;)I" } : Jvm.MethodName)) ∈ lw_all := lw_g (lw_at lw_m5 223 rfl) rfl
theorem q1247 : (Jvm.Cond.codeWith ({ cls := "SplitpointerLaw", name := "next", desc := "(LSplitpointer;ILSplitpointerLaw$Out;)I" } : Jvm.MethodName) method_9_code (4 : Nat) (Option.some Jvm.ClassFile.FieldType.int) [((0 : Nat), (10 : Nat), (13 : Nat), (43 : Nat)), ((0 : Nat), (10 : Nat), (16 : Nat), (27 : Nat))]) ∈ lw_all := lw_g (lw_at lw_m5 224 rfl) rfl
theorem q1248 : (Jvm.Cond.methodLink "SplitpointerLaw" (45 : Nat) ({ cls := "Splitpointer", name := "next", desc := "(I)I" } : Jvm.MethodName)) ∈ lw_all := lw_g (lw_at lw_m5 225 rfl) rfl
theorem q1265 : (Jvm.Cond.methodLink "SplitpointerLaw" (132 : Nat) ({ cls := "SplitpointerLaw", name := "ask", desc := "(LSplitpointer;IILSplitpointerLaw$Out;)I" } : Jvm.MethodName)) ∈ lw_all := lw_g (lw_at lw_m6 2 rfl) rfl
theorem q1266 : (Jvm.Cond.static ({ cls := "SplitpointerLaw", name := "ask", desc := "(LSplitpointer;IILSplitpointerLaw$Out;)I" } : Jvm.MethodName)) ∈ lw_all := lw_g (lw_at lw_m6 3 rfl) rfl
theorem q1267 : (Jvm.Cond.codeWith ({ cls := "SplitpointerLaw", name := "ask", desc := "(LSplitpointer;IILSplitpointerLaw$Out;)I" } : Jvm.MethodName) method_10_code (5 : Nat) (Option.some Jvm.ClassFile.FieldType.int) [((0 : Nat), (11 : Nat), (14 : Nat), (43 : Nat)), ((0 : Nat), (11 : Nat), (18 : Nat), (19 : Nat))]) ∈ lw_all := lw_g (lw_at lw_m6 4 rfl) rfl
theorem q1268 : (Jvm.Cond.methodLink "SplitpointerLaw" (48 : Nat) ({ cls := "Splitpointer", name := "ask", desc := "(II)I" } : Jvm.MethodName)) ∈ lw_all := lw_g (lw_at lw_m6 5 rfl) rfl
theorem q1288 : (Jvm.Cond.methodLink "SplitpointerLaw" (151 : Nat) ({ cls := "SplitpointerLaw", name := "get", desc := "(LSplitpointer;ILSplitpointerLaw$Out;)I" } : Jvm.MethodName)) ∈ lw_all := lw_g (lw_at lw_m6 25 rfl) rfl
theorem q1289 : (Jvm.Cond.static ({ cls := "SplitpointerLaw", name := "get", desc := "(LSplitpointer;ILSplitpointerLaw$Out;)I" } : Jvm.MethodName)) ∈ lw_all := lw_g (lw_at lw_m6 26 rfl) rfl
theorem q1290 : (Jvm.Cond.codeWith ({ cls := "SplitpointerLaw", name := "get", desc := "(LSplitpointer;ILSplitpointerLaw$Out;)I" } : Jvm.MethodName) method_11_code (4 : Nat) (Option.some Jvm.ClassFile.FieldType.int) [((0 : Nat), (10 : Nat), (13 : Nat), (19 : Nat))]) ∈ lw_all := lw_g (lw_at lw_m6 27 rfl) rfl
theorem q1291 : (Jvm.Cond.methodLink "SplitpointerLaw" (51 : Nat) ({ cls := "Splitpointer", name := "get", desc := "(I)I" } : Jvm.MethodName)) ∈ lw_all := lw_g (lw_at lw_m6 28 rfl) rfl
theorem q1295 : (Jvm.Cond.methodLink "SplitpointerLaw" (154 : Nat) ({ cls := "SplitpointerLaw", name := "ofKey", desc := "(LSplitpointer;IILSplitpointerLaw$Out;)I" } : Jvm.MethodName)) ∈ lw_all := lw_g (lw_at lw_m6 32 rfl) rfl
theorem q1296 : (Jvm.Cond.static ({ cls := "SplitpointerLaw", name := "ofKey", desc := "(LSplitpointer;IILSplitpointerLaw$Out;)I" } : Jvm.MethodName)) ∈ lw_all := lw_g (lw_at lw_m6 33 rfl) rfl
theorem q1297 : (Jvm.Cond.codeWith ({ cls := "SplitpointerLaw", name := "ofKey", desc := "(LSplitpointer;IILSplitpointerLaw$Out;)I" } : Jvm.MethodName) method_12_code (5 : Nat) (Option.some Jvm.ClassFile.FieldType.int) [((0 : Nat), (11 : Nat), (14 : Nat), (19 : Nat))]) ∈ lw_all := lw_g (lw_at lw_m6 34 rfl) rfl
theorem q1298 : (Jvm.Cond.methodLink "SplitpointerLaw" (54 : Nat) ({ cls := "Splitpointer", name := "ofKey", desc := "(II)I" } : Jvm.MethodName)) ∈ lw_all := lw_g (lw_at lw_m6 35 rfl) rfl
theorem q1308 : (Jvm.Cond.methodLink "SplitpointerLaw" (157 : Nat) ({ cls := "SplitpointerLaw", name := "ofFile", desc := "(LSplitpointer;ILSplitpointerLaw$Out;)I" } : Jvm.MethodName)) ∈ lw_all := lw_g (lw_at lw_m6 45 rfl) rfl
theorem q1309 : (Jvm.Cond.static ({ cls := "SplitpointerLaw", name := "ofFile", desc := "(LSplitpointer;ILSplitpointerLaw$Out;)I" } : Jvm.MethodName)) ∈ lw_all := lw_g (lw_at lw_m6 46 rfl) rfl
theorem q1310 : (Jvm.Cond.codeWith ({ cls := "SplitpointerLaw", name := "ofFile", desc := "(LSplitpointer;ILSplitpointerLaw$Out;)I" } : Jvm.MethodName) method_13_code (4 : Nat) (Option.some Jvm.ClassFile.FieldType.int) [((0 : Nat), (10 : Nat), (13 : Nat), (19 : Nat))]) ∈ lw_all := lw_g (lw_at lw_m6 47 rfl) rfl
theorem q1311 : (Jvm.Cond.methodLink "SplitpointerLaw" (57 : Nat) ({ cls := "Splitpointer", name := "ofFile", desc := "(I)I" } : Jvm.MethodName)) ∈ lw_all := lw_g (lw_at lw_m6 48 rfl) rfl
theorem q1315 : (Jvm.Cond.methodLink "SplitpointerLaw" (160 : Nat) ({ cls := "SplitpointerLaw", name := "ofBucket", desc := "(LSplitpointer;IILSplitpointerLaw$Out;)I" } : Jvm.MethodName)) ∈ lw_all := lw_g (lw_at lw_m6 52 rfl) rfl
theorem q1316 : (Jvm.Cond.static ({ cls := "SplitpointerLaw", name := "ofBucket", desc := "(LSplitpointer;IILSplitpointerLaw$Out;)I" } : Jvm.MethodName)) ∈ lw_all := lw_g (lw_at lw_m6 53 rfl) rfl
theorem q1317 : (Jvm.Cond.codeWith ({ cls := "SplitpointerLaw", name := "ofBucket", desc := "(LSplitpointer;IILSplitpointerLaw$Out;)I" } : Jvm.MethodName) method_14_code (5 : Nat) (Option.some Jvm.ClassFile.FieldType.int) [((0 : Nat), (11 : Nat), (14 : Nat), (43 : Nat)), ((0 : Nat), (11 : Nat), (18 : Nat), (19 : Nat))]) ∈ lw_all := lw_g (lw_at lw_m6 54 rfl) rfl
theorem q1318 : (Jvm.Cond.methodLink "SplitpointerLaw" (60 : Nat) ({ cls := "Splitpointer", name := "ofBucket", desc := "(II)I" } : Jvm.MethodName)) ∈ lw_all := lw_g (lw_at lw_m6 55 rfl) rfl
theorem q1326 : (Jvm.Cond.methodLink "SplitpointerLaw" (163 : Nat) ({ cls := "SplitpointerLaw", name := "chain", desc := "(LSplitpointer;ILSplitpointerLaw$Out;)I" } : Jvm.MethodName)) ∈ lw_all := lw_g (lw_at lw_m6 63 rfl) rfl
theorem q1327 : (Jvm.Cond.static ({ cls := "SplitpointerLaw", name := "chain", desc := "(LSplitpointer;ILSplitpointerLaw$Out;)I" } : Jvm.MethodName)) ∈ lw_all := lw_g (lw_at lw_m6 64 rfl) rfl
theorem q1328 : (Jvm.Cond.codeWith ({ cls := "SplitpointerLaw", name := "chain", desc := "(LSplitpointer;ILSplitpointerLaw$Out;)I" } : Jvm.MethodName) method_15_code (4 : Nat) (Option.some Jvm.ClassFile.FieldType.int) [((0 : Nat), (9 : Nat), (12 : Nat), (43 : Nat))]) ∈ lw_all := lw_g (lw_at lw_m6 65 rfl) rfl
theorem q1329 : (Jvm.Cond.methodLink "SplitpointerLaw" (63 : Nat) ({ cls := "Splitpointer", name := "chain", desc := "(I)Ljava/lang/String;" } : Jvm.MethodName)) ∈ lw_all := lw_g (lw_at lw_m6 66 rfl) rfl
theorem q1333 : (Jvm.Cond.methodLink "SplitpointerLaw" (172 : Nat) ({ cls := "SplitpointerLaw", name := "ofPage", desc := "(LSplitpointer;IILSplitpointerLaw$Out;)I" } : Jvm.MethodName)) ∈ lw_all := lw_g (lw_at lw_m6 70 rfl) rfl
theorem q1334 : (Jvm.Cond.static ({ cls := "SplitpointerLaw", name := "ofPage", desc := "(LSplitpointer;IILSplitpointerLaw$Out;)I" } : Jvm.MethodName)) ∈ lw_all := lw_g (lw_at lw_m6 71 rfl) rfl
theorem q1335 : (Jvm.Cond.codeWith ({ cls := "SplitpointerLaw", name := "ofPage", desc := "(LSplitpointer;IILSplitpointerLaw$Out;)I" } : Jvm.MethodName) method_16_code (5 : Nat) (Option.some Jvm.ClassFile.FieldType.int) [((0 : Nat), (11 : Nat), (14 : Nat), (43 : Nat)), ((0 : Nat), (11 : Nat), (18 : Nat), (19 : Nat))]) ∈ lw_all := lw_g (lw_at lw_m6 72 rfl) rfl
theorem q1336 : (Jvm.Cond.methodLink "SplitpointerLaw" (71 : Nat) ({ cls := "Splitpointer", name := "ofPage", desc := "(II)I" } : Jvm.MethodName)) ∈ lw_all := lw_g (lw_at lw_m6 73 rfl) rfl
theorem q1344 : (Jvm.Cond.methodLink "SplitpointerLaw" (175 : Nat) ({ cls := "SplitpointerLaw", name := "mark", desc := "(LSplitpointer;ILSplitpointerLaw$Out;)I" } : Jvm.MethodName)) ∈ lw_all := lw_g (lw_at lw_m6 81 rfl) rfl
theorem q1345 : (Jvm.Cond.static ({ cls := "SplitpointerLaw", name := "mark", desc := "(LSplitpointer;ILSplitpointerLaw$Out;)I" } : Jvm.MethodName)) ∈ lw_all := lw_g (lw_at lw_m6 82 rfl) rfl
theorem q1346 : (Jvm.Cond.codeWith ({ cls := "SplitpointerLaw", name := "mark", desc := "(LSplitpointer;ILSplitpointerLaw$Out;)I" } : Jvm.MethodName) method_17_code (4 : Nat) (Option.some Jvm.ClassFile.FieldType.int) [((0 : Nat), (10 : Nat), (13 : Nat), (43 : Nat))]) ∈ lw_all := lw_g (lw_at lw_m6 83 rfl) rfl
theorem q1347 : (Jvm.Cond.methodLink "SplitpointerLaw" (74 : Nat) ({ cls := "Splitpointer", name := "mark", desc := "(I)I" } : Jvm.MethodName)) ∈ lw_all := lw_g (lw_at lw_m6 84 rfl) rfl
theorem q1351 : (Jvm.Cond.methodLink "SplitpointerLaw" (178 : Nat) ({ cls := "SplitpointerLaw", name := "ofClient", desc := "(LSplitpointer;IILSplitpointerLaw$Out;)I" } : Jvm.MethodName)) ∈ lw_all := lw_g (lw_at lw_m6 88 rfl) rfl
theorem q1352 : (Jvm.Cond.static ({ cls := "SplitpointerLaw", name := "ofClient", desc := "(LSplitpointer;IILSplitpointerLaw$Out;)I" } : Jvm.MethodName)) ∈ lw_all := lw_g (lw_at lw_m6 89 rfl) rfl
theorem q1353 : (Jvm.Cond.codeWith ({ cls := "SplitpointerLaw", name := "ofClient", desc := "(LSplitpointer;IILSplitpointerLaw$Out;)I" } : Jvm.MethodName) method_18_code (5 : Nat) (Option.some Jvm.ClassFile.FieldType.int) [((0 : Nat), (11 : Nat), (14 : Nat), (43 : Nat)), ((0 : Nat), (11 : Nat), (18 : Nat), (19 : Nat))]) ∈ lw_all := lw_g (lw_at lw_m6 90 rfl) rfl
theorem q1354 : (Jvm.Cond.methodLink "SplitpointerLaw" (77 : Nat) ({ cls := "Splitpointer", name := "ofClient", desc := "(II)I" } : Jvm.MethodName)) ∈ lw_all := lw_g (lw_at lw_m6 91 rfl) rfl
theorem q1358 : (Jvm.Cond.methodLink "SplitpointerLaw" (181 : Nat) ({ cls := "SplitpointerLaw", name := "seek", desc := "(LSplitpointer;ZIILSplitpointerLaw$Out;)I" } : Jvm.MethodName)) ∈ lw_all := lw_g (lw_at lw_m6 95 rfl) rfl
theorem q1359 : (Jvm.Cond.static ({ cls := "SplitpointerLaw", name := "seek", desc := "(LSplitpointer;ZIILSplitpointerLaw$Out;)I" } : Jvm.MethodName)) ∈ lw_all := lw_g (lw_at lw_m6 96 rfl) rfl
theorem q1360 : (Jvm.Cond.codeWith ({ cls := "SplitpointerLaw", name := "seek", desc := "(LSplitpointer;ZIILSplitpointerLaw$Out;)I" } : Jvm.MethodName) method_19_code (6 : Nat) (Option.some Jvm.ClassFile.FieldType.int) [((0 : Nat), (13 : Nat), (16 : Nat), (19 : Nat))]) ∈ lw_all := lw_g (lw_at lw_m6 97 rfl) rfl
theorem q1361 : (Jvm.Cond.methodLink "SplitpointerLaw" (80 : Nat) ({ cls := "Splitpointer", name := "seek", desc := "(ZII)I" } : Jvm.MethodName)) ∈ lw_all := lw_g (lw_at lw_m6 98 rfl) rfl
theorem q1376 : (Jvm.Cond.methodLink "SplitpointerLaw" (185 : Nat) ({ cls := "SplitpointerLaw", name := "visits", desc := "(LSplitpointer;ZILSplitpointerLaw$Out;)I" } : Jvm.MethodName)) ∈ lw_all := lw_g (lw_at lw_m6 113 rfl) rfl
theorem q1377 : (Jvm.Cond.static ({ cls := "SplitpointerLaw", name := "visits", desc := "(LSplitpointer;ZILSplitpointerLaw$Out;)I" } : Jvm.MethodName)) ∈ lw_all := lw_g (lw_at lw_m6 114 rfl) rfl
theorem q1378 : (Jvm.Cond.codeWith ({ cls := "SplitpointerLaw", name := "visits", desc := "(LSplitpointer;ZILSplitpointerLaw$Out;)I" } : Jvm.MethodName) method_20_code (5 : Nat) (Option.some Jvm.ClassFile.FieldType.int) [((0 : Nat), (11 : Nat), (14 : Nat), (19 : Nat))]) ∈ lw_all := lw_g (lw_at lw_m6 115 rfl) rfl
theorem q1379 : (Jvm.Cond.methodLink "SplitpointerLaw" (84 : Nat) ({ cls := "Splitpointer", name := "visits", desc := "(ZI)I" } : Jvm.MethodName)) ∈ lw_all := lw_g (lw_at lw_m6 116 rfl) rfl
theorem q1383 : (Jvm.Cond.methodLink "SplitpointerLaw" (189 : Nat) ({ cls := "SplitpointerLaw", name := "would", desc := "(LSplitpointer;IIILSplitpointerLaw$Out;)I" } : Jvm.MethodName)) ∈ lw_all := lw_g (lw_at lw_m6 120 rfl) rfl
theorem q1384 : (Jvm.Cond.static ({ cls := "SplitpointerLaw", name := "would", desc := "(LSplitpointer;IIILSplitpointerLaw$Out;)I" } : Jvm.MethodName)) ∈ lw_all := lw_g (lw_at lw_m6 121 rfl) rfl
theorem q1385 : (Jvm.Cond.codeWith ({ cls := "SplitpointerLaw", name := "would", desc := "(LSplitpointer;IIILSplitpointerLaw$Out;)I" } : Jvm.MethodName) method_21_code (6 : Nat) (Option.some Jvm.ClassFile.FieldType.int) [((0 : Nat), (13 : Nat), (16 : Nat), (19 : Nat))]) ∈ lw_all := lw_g (lw_at lw_m6 122 rfl) rfl
theorem q1386 : (Jvm.Cond.methodLink "SplitpointerLaw" (88 : Nat) ({ cls := "Splitpointer", name := "would", desc := "(III)I" } : Jvm.MethodName)) ∈ lw_all := lw_g (lw_at lw_m6 123 rfl) rfl
theorem q1391 : (Jvm.Cond.methodLink "SplitpointerLaw" (193 : Nat) ({ cls := "SplitpointerLaw", name := "crashed", desc := "(LSplitpointer;ILSplitpointerLaw$Out;)I" } : Jvm.MethodName)) ∈ lw_all := lw_g (lw_at lw_m6 128 rfl) rfl
theorem q1392 : (Jvm.Cond.static ({ cls := "SplitpointerLaw", name := "crashed", desc := "(LSplitpointer;ILSplitpointerLaw$Out;)I" } : Jvm.MethodName)) ∈ lw_all := lw_g (lw_at lw_m6 129 rfl) rfl
theorem q1393 : (Jvm.Cond.codeWith ({ cls := "SplitpointerLaw", name := "crashed", desc := "(LSplitpointer;ILSplitpointerLaw$Out;)I" } : Jvm.MethodName) method_22_code (4 : Nat) (Option.some Jvm.ClassFile.FieldType.int) [((0 : Nat), (10 : Nat), (13 : Nat), (19 : Nat))]) ∈ lw_all := lw_g (lw_at lw_m6 130 rfl) rfl
theorem q1394 : (Jvm.Cond.methodLink "SplitpointerLaw" (92 : Nat) ({ cls := "Splitpointer", name := "crashed", desc := "(I)I" } : Jvm.MethodName)) ∈ lw_all := lw_g (lw_at lw_m6 131 rfl) rfl
theorem q1398 : (Jvm.Cond.classLink "SplitpointerLaw" (96 : Nat) "SplitpointerModel") ∈ lw_all := lw_g (lw_at lw_m6 135 rfl) rfl
theorem q1400 : (Jvm.Cond.methodLink "SplitpointerLaw" (98 : Nat) ({ cls := "SplitpointerModel", name := "<init>", desc := "()V" } : Jvm.MethodName)) ∈ lw_all := lw_g (lw_at lw_m6 137 rfl) rfl
theorem q1637 : (Jvm.Cond.methodLink "SplitpointerLaw" (106 : Nat) ({ cls := "SplitpointerModel", name := "thrown", desc := "()I" } : Jvm.MethodName)) ∈ lw_all := lw_g (lw_at lw_m7 134 rfl) rfl
theorem q1641 : (Jvm.Cond.methodLink "SplitpointerLaw" (105 : Nat) ({ cls := "SplitpointerModel", name := "found", desc := "(II)I" } : Jvm.MethodName)) ∈ lw_all := lw_g (lw_at lw_m7 138 rfl) rfl
theorem q1694 : (Jvm.Cond.methodLink "SplitpointerLaw" (112 : Nat) ({ cls := "SplitpointerModel", name := "bounds", desc := "(II)I" } : Jvm.MethodName)) ∈ lw_all := lw_g (lw_at lw_m7 191 rfl) rfl
theorem q1817 : (Jvm.Cond.methodLink "SplitpointerLaw" (115 : Nat) ({ cls := "SplitpointerModel", name := "put", desc := "(II)I" } : Jvm.MethodName)) ∈ lw_all := lw_g (lw_at lw_m8 74 rfl) rfl
theorem q1825 : (Jvm.Cond.methodLink "SplitpointerLaw" (119 : Nat) ({ cls := "SplitpointerModel", name := "drop", desc := "(I)I" } : Jvm.MethodName)) ∈ lw_all := lw_g (lw_at lw_m8 82 rfl) rfl
theorem q1829 : (Jvm.Cond.methodLink "SplitpointerLaw" (122 : Nat) ({ cls := "SplitpointerModel", name := "rehash", desc := "(II)I" } : Jvm.MethodName)) ∈ lw_all := lw_g (lw_at lw_m8 86 rfl) rfl
theorem q1833 : (Jvm.Cond.methodLink "SplitpointerLaw" (125 : Nat) ({ cls := "SplitpointerModel", name := "find", desc := "(I)I" } : Jvm.MethodName)) ∈ lw_all := lw_g (lw_at lw_m8 90 rfl) rfl
theorem q1846 : (Jvm.Cond.methodLink "SplitpointerLaw" (128 : Nat) ({ cls := "SplitpointerModel", name := "open", desc := "(I)Z" } : Jvm.MethodName)) ∈ lw_all := lw_g (lw_at lw_m8 103 rfl) rfl
theorem q1853 : (Jvm.Cond.methodLink "SplitpointerLaw" (131 : Nat) ({ cls := "SplitpointerModel", name := "next", desc := "(I)I" } : Jvm.MethodName)) ∈ lw_all := lw_g (lw_at lw_m8 110 rfl) rfl
theorem q1869 : (Jvm.Cond.methodLink "SplitpointerLaw" (134 : Nat) ({ cls := "SplitpointerModel", name := "ask", desc := "(II)I" } : Jvm.MethodName)) ∈ lw_all := lw_g (lw_at lw_m8 126 rfl) rfl
theorem q1883 : (Jvm.Cond.methodLink "SplitpointerLaw" (138 : Nat) ({ cls := "SplitpointerModel", name := "flush", desc := "()I" } : Jvm.MethodName)) ∈ lw_all := lw_g (lw_at lw_m8 140 rfl) rfl
theorem q1887 : (Jvm.Cond.methodLink "SplitpointerLaw" (142 : Nat) ({ cls := "SplitpointerModel", name := "checkpoint", desc := "()I" } : Jvm.MethodName)) ∈ lw_all := lw_g (lw_at lw_m8 144 rfl) rfl
theorem q1891 : (Jvm.Cond.methodLink "SplitpointerLaw" (146 : Nat) ({ cls := "SplitpointerModel", name := "crash", desc := "()I" } : Jvm.MethodName)) ∈ lw_all := lw_g (lw_at lw_m8 148 rfl) rfl
theorem q1895 : (Jvm.Cond.methodLink "SplitpointerLaw" (150 : Nat) ({ cls := "SplitpointerModel", name := "knock", desc := "()I" } : Jvm.MethodName)) ∈ lw_all := lw_g (lw_at lw_m8 152 rfl) rfl
theorem q1899 : (Jvm.Cond.methodLink "SplitpointerLaw" (153 : Nat) ({ cls := "SplitpointerModel", name := "get", desc := "(I)I" } : Jvm.MethodName)) ∈ lw_all := lw_g (lw_at lw_m8 156 rfl) rfl
theorem q1903 : (Jvm.Cond.methodLink "SplitpointerLaw" (156 : Nat) ({ cls := "SplitpointerModel", name := "ofKey", desc := "(II)I" } : Jvm.MethodName)) ∈ lw_all := lw_g (lw_at lw_m8 160 rfl) rfl
theorem q1915 : (Jvm.Cond.methodLink "SplitpointerLaw" (159 : Nat) ({ cls := "SplitpointerModel", name := "ofFile", desc := "(I)I" } : Jvm.MethodName)) ∈ lw_all := lw_g (lw_at lw_m8 172 rfl) rfl
theorem q1937 : (Jvm.Cond.methodLink "SplitpointerLaw" (162 : Nat) ({ cls := "SplitpointerModel", name := "ofBucket", desc := "(II)I" } : Jvm.MethodName)) ∈ lw_all := lw_g (lw_at lw_m8 194 rfl) rfl
theorem q1950 : (Jvm.Cond.methodLink "SplitpointerLaw" (165 : Nat) ({ cls := "SplitpointerModel", name := "chain", desc := "(I)Ljava/lang/String;" } : Jvm.MethodName)) ∈ lw_all := lw_g (lw_at lw_m8 207 rfl) rfl
theorem q1967 : (Jvm.Cond.methodLink "SplitpointerLaw" (174 : Nat) ({ cls := "SplitpointerModel", name := "ofPage", desc := "(II)I" } : Jvm.MethodName)) ∈ lw_all := lw_g (lw_at lw_m8 224 rfl) rfl
theorem q1977 : (Jvm.Cond.methodLink "SplitpointerLaw" (177 : Nat) ({ cls := "SplitpointerModel", name := "mark", desc := "(I)I" } : Jvm.MethodName)) ∈ lw_all := lw_g (lw_at lw_m8 234 rfl) rfl
theorem q1981 : (Jvm.Cond.methodLink "SplitpointerLaw" (180 : Nat) ({ cls := "SplitpointerModel", name := "ofClient", desc := "(II)I" } : Jvm.MethodName)) ∈ lw_all := lw_g (lw_at lw_m8 238 rfl) rfl
theorem q1989 : (Jvm.Cond.methodLink "SplitpointerLaw" (184 : Nat) ({ cls := "SplitpointerModel", name := "seek", desc := "(ZII)I" } : Jvm.MethodName)) ∈ lw_all := lw_g (lw_at lw_m9 6 rfl) rfl
theorem q2000 : (Jvm.Cond.methodLink "SplitpointerLaw" (188 : Nat) ({ cls := "SplitpointerModel", name := "visits", desc := "(ZI)I" } : Jvm.MethodName)) ∈ lw_all := lw_g (lw_at lw_m9 17 rfl) rfl
theorem q2010 : (Jvm.Cond.methodLink "SplitpointerLaw" (192 : Nat) ({ cls := "SplitpointerModel", name := "would", desc := "(III)I" } : Jvm.MethodName)) ∈ lw_all := lw_g (lw_at lw_m9 27 rfl) rfl
theorem q2018 : (Jvm.Cond.methodLink "SplitpointerLaw" (195 : Nat) ({ cls := "SplitpointerModel", name := "crashed", desc := "(I)I" } : Jvm.MethodName)) ∈ lw_all := lw_g (lw_at lw_m9 35 rfl) rfl
theorem q2026 : (Jvm.Cond.methodLink "SplitpointerLaw" (200 : Nat) ({ cls := "SplitpointerModel", name := "isSound", desc := "()Z" } : Jvm.MethodName)) ∈ lw_all := lw_g (lw_at lw_m9 43 rfl) rfl
theorem q2039 : (Jvm.Cond.methodLink "SplitpointerLaw" (205 : Nat) ({ cls := "SplitpointerModel", name := "digest", desc := "()J" } : Jvm.MethodName)) ∈ lw_all := lw_g (lw_at lw_m9 56 rfl) rfl
theorem q2049 : (Jvm.Cond.methodLink "SplitpointerLaw" (166 : Nat) ({ cls := "java/lang/String", name := "equals", desc := "(Ljava/lang/Object;)Z" } : Jvm.MethodName)) ∈ lw_all := lw_g (lw_at lw_m9 66 rfl) rfl
/-! the law's own entry -/
set_option maxRecDepth 100000
abbrev cL_law : ByteArray := code
def dkwL_law_66 : List UInt8 := [182, 0, 205, 148, 153, 0, 5, 3, 172, 132, 4, 4, 167, 249, 168, 4, 172]
abbrev dktL_law_66 : List UInt8 := dkwL_law_66 ++ []
def dkwL_law_65 : List UInt8 := [172, 167, 0, 30, 43, 182, 0, 196, 44, 182, 0, 200, 159, 0, 19, 3, 172, 43, 182, 0, 201, 44]
abbrev dktL_law_65 : List UInt8 := dkwL_law_65 ++ dktL_law_66
def dkwL_law_64 : List UInt8 := [21, 5, 159, 0, 5, 3, 172, 21, 5, 154, 0, 16, 45, 180, 0, 13, 21, 6, 133, 148, 153, 0, 5, 3]
abbrev dktL_law_64 : List UInt8 := dkwL_law_64 ++ dktL_law_65
def dkwL_law_63 : List UInt8 := [96, 46, 45, 184, 0, 193, 54, 5, 44, 42, 21, 4, 4, 96, 46, 182, 0, 195, 54, 6, 44, 182, 0, 106]
abbrev dktL_law_63 : List UInt8 := dkwL_law_63 ++ dktL_law_64
def dkwL_law_62 : List UInt8 := [154, 0, 16, 45, 180, 0, 13, 21, 6, 133, 148, 153, 0, 5, 3, 172, 167, 0, 87, 43, 42, 21, 4, 4]
abbrev dktL_law_62 : List UInt8 := dkwL_law_62 ++ dktL_law_63
def dkwL_law_61 : List UInt8 := [21, 4, 6, 96, 46, 182, 0, 192, 54, 6, 44, 182, 0, 106, 21, 5, 159, 0, 5, 3, 172, 21, 5]
abbrev dktL_law_61 : List UInt8 := dkwL_law_61 ++ dktL_law_62
def dkwL_law_60 : List UInt8 := [6, 96, 46, 45, 184, 0, 189, 54, 5, 44, 42, 21, 4, 4, 96, 46, 42, 21, 4, 5, 96, 46, 42]
abbrev dktL_law_60 : List UInt8 := dkwL_law_60 ++ dktL_law_61
def dkwL_law_59 : List UInt8 := [153, 0, 5, 3, 172, 167, 0, 168, 43, 42, 21, 4, 4, 96, 46, 42, 21, 4, 5, 96, 46, 42, 21, 4]
abbrev dktL_law_59 : List UInt8 := dkwL_law_59 ++ dktL_law_60
def dkwL_law_58 : List UInt8 := [44, 182, 0, 106, 21, 5, 159, 0, 5, 3, 172, 21, 5, 154, 0, 16, 45, 180, 0, 13, 21, 6, 133, 148]
abbrev dktL_law_58 : List UInt8 := dkwL_law_58 ++ dktL_law_59
def dkwL_law_57 : List UInt8 := [21, 4, 4, 96, 46, 153, 0, 7, 4, 167, 0, 4, 3, 42, 21, 4, 5, 96, 46, 182, 0, 188, 54, 6]
abbrev dktL_law_57 : List UInt8 := dkwL_law_57 ++ dktL_law_58
def dkwL_law_56 : List UInt8 := [96, 46, 153, 0, 7, 4, 167, 0, 4, 3, 42, 21, 4, 5, 96, 46, 45, 184, 0, 185, 54, 5, 44, 42]
abbrev dktL_law_56 : List UInt8 := dkwL_law_56 ++ dktL_law_57
def dkwL_law_55 : List UInt8 := [154, 0, 16, 45, 180, 0, 13, 21, 6, 133, 148, 153, 0, 5, 3, 172, 167, 0, 253, 43, 42, 21, 4, 4]
abbrev dktL_law_55 : List UInt8 := dkwL_law_55 ++ dktL_law_56
def dkwL_law_54 : List UInt8 := [21, 4, 6, 96, 46, 182, 0, 184, 54, 6, 44, 182, 0, 106, 21, 5, 159, 0, 5, 3, 172, 21, 5]
abbrev dktL_law_54 : List UInt8 := dkwL_law_54 ++ dktL_law_55
def dkwL_law_53 : List UInt8 := [54, 5, 44, 42, 21, 4, 4, 96, 46, 153, 0, 7, 4, 167, 0, 4, 3, 42, 21, 4, 5, 96, 46, 42]
abbrev dktL_law_53 : List UInt8 := dkwL_law_53 ++ dktL_law_54
def dkwL_law_52 : List UInt8 := [153, 0, 7, 4, 167, 0, 4, 3, 42, 21, 4, 5, 96, 46, 42, 21, 4, 6, 96, 46, 45, 184, 0, 181]
abbrev dktL_law_52 : List UInt8 := dkwL_law_52 ++ dktL_law_53
def dkwL_law_51 : List UInt8 := [180, 0, 13, 21, 6, 133, 148, 153, 0, 5, 3, 172, 167, 1, 94, 43, 42, 21, 4, 4, 96, 46]
abbrev dktL_law_51 : List UInt8 := dkwL_law_51 ++ dktL_law_52
def dkwL_law_50 : List UInt8 := [182, 0, 180, 54, 6, 44, 182, 0, 106, 21, 5, 159, 0, 5, 3, 172, 21, 5, 154, 0, 16, 45]
abbrev dktL_law_50 : List UInt8 := dkwL_law_50 ++ dktL_law_51
def dkwL_law_49 : List UInt8 := [21, 4, 5, 96, 46, 45, 184, 0, 178, 54, 5, 44, 42, 21, 4, 4, 96, 46, 42, 21, 4, 5, 96, 46]
abbrev dktL_law_49 : List UInt8 := dkwL_law_49 ++ dktL_law_50
def dkwL_law_48 : List UInt8 := [180, 0, 13, 21, 6, 133, 148, 153, 0, 5, 3, 172, 167, 1, 163, 43, 42, 21, 4, 4, 96, 46, 42]
abbrev dktL_law_48 : List UInt8 := dkwL_law_48 ++ dktL_law_49
def dkwL_law_47 : List UInt8 := [182, 0, 177, 54, 6, 44, 182, 0, 106, 21, 5, 159, 0, 5, 3, 172, 21, 5, 154, 0, 16, 45]
abbrev dktL_law_47 : List UInt8 := dkwL_law_47 ++ dktL_law_48
def dkwL_law_46 : List UInt8 := [167, 1, 220, 43, 42, 21, 4, 4, 96, 46, 45, 184, 0, 175, 54, 5, 44, 42, 21, 4, 4, 96, 46]
abbrev dktL_law_46 : List UInt8 := dkwL_law_46 ++ dktL_law_47
def dkwL_law_45 : List UInt8 := [159, 0, 5, 3, 172, 21, 5, 154, 0, 16, 45, 180, 0, 13, 21, 6, 133, 148, 153, 0, 5, 3, 172]
abbrev dktL_law_45 : List UInt8 := dkwL_law_45 ++ dktL_law_46
def dkwL_law_44 : List UInt8 := [21, 4, 4, 96, 46, 42, 21, 4, 5, 96, 46, 182, 0, 174, 54, 6, 44, 182, 0, 106, 21, 5]
abbrev dktL_law_44 : List UInt8 := dkwL_law_44 ++ dktL_law_45
def dkwL_law_43 : List UInt8 := [167, 2, 33, 43, 42, 21, 4, 4, 96, 46, 42, 21, 4, 5, 96, 46, 45, 184, 0, 172, 54, 5, 44, 42]
abbrev dktL_law_43 : List UInt8 := dkwL_law_43 ++ dktL_law_44
def dkwL_law_42 : List UInt8 := [159, 0, 5, 3, 172, 21, 5, 154, 0, 17, 45, 180, 0, 67, 25, 6, 182, 0, 166, 154, 0, 5, 3, 172]
abbrev dktL_law_42 : List UInt8 := dkwL_law_42 ++ dktL_law_43
def dkwL_law_41 : List UInt8 := [184, 0, 163, 54, 5, 44, 42, 21, 4, 4, 96, 46, 182, 0, 165, 58, 6, 44, 182, 0, 106, 21, 5]
abbrev dktL_law_41 : List UInt8 := dkwL_law_41 ++ dktL_law_42
def dkwL_law_40 : List UInt8 := [45, 180, 0, 13, 21, 6, 133, 148, 153, 0, 5, 3, 172, 167, 2, 91, 43, 42, 21, 4, 4, 96, 46, 45]
abbrev dktL_law_40 : List UInt8 := dkwL_law_40 ++ dktL_law_41
def dkwL_law_39 : List UInt8 := [5, 96, 46, 182, 0, 162, 54, 6, 44, 182, 0, 106, 21, 5, 159, 0, 5, 3, 172, 21, 5, 154, 0, 16]
abbrev dktL_law_39 : List UInt8 := dkwL_law_39 ++ dktL_law_40
def dkwL_law_38 : List UInt8 := [96, 46, 42, 21, 4, 5, 96, 46, 45, 184, 0, 160, 54, 5, 44, 42, 21, 4, 4, 96, 46, 42, 21, 4]
abbrev dktL_law_38 : List UInt8 := dkwL_law_38 ++ dktL_law_39
def dkwL_law_37 : List UInt8 := [154, 0, 16, 45, 180, 0, 13, 21, 6, 133, 148, 153, 0, 5, 3, 172, 167, 2, 160, 43, 42, 21, 4, 4]
abbrev dktL_law_37 : List UInt8 := dkwL_law_37 ++ dktL_law_38
def dkwL_law_36 : List UInt8 := [21, 4, 4, 96, 46, 182, 0, 159, 54, 6, 44, 182, 0, 106, 21, 5, 159, 0, 5, 3, 172, 21, 5]
abbrev dktL_law_36 : List UInt8 := dkwL_law_36 ++ dktL_law_37
def dkwL_law_35 : List UInt8 := [153, 0, 5, 3, 172, 167, 2, 217, 43, 42, 21, 4, 4, 96, 46, 45, 184, 0, 157, 54, 5, 44, 42]
abbrev dktL_law_35 : List UInt8 := dkwL_law_35 ++ dktL_law_36
def dkwL_law_34 : List UInt8 := [182, 0, 106, 21, 5, 159, 0, 5, 3, 172, 21, 5, 154, 0, 16, 45, 180, 0, 13, 21, 6, 133, 148]
abbrev dktL_law_34 : List UInt8 := dkwL_law_34 ++ dktL_law_35
def dkwL_law_33 : List UInt8 := [184, 0, 154, 54, 5, 44, 42, 21, 4, 4, 96, 46, 42, 21, 4, 5, 96, 46, 182, 0, 156, 54, 6, 44]
abbrev dktL_law_33 : List UInt8 := dkwL_law_33 ++ dktL_law_34
def dkwL_law_32 : List UInt8 := [153, 0, 5, 3, 172, 167, 3, 30, 43, 42, 21, 4, 4, 96, 46, 42, 21, 4, 5, 96, 46, 45]
abbrev dktL_law_32 : List UInt8 := dkwL_law_32 ++ dktL_law_33
def dkwL_law_31 : List UInt8 := [182, 0, 106, 21, 5, 159, 0, 5, 3, 172, 21, 5, 154, 0, 16, 45, 180, 0, 13, 21, 6, 133, 148]
abbrev dktL_law_31 : List UInt8 := dkwL_law_31 ++ dktL_law_32
def dkwL_law_30 : List UInt8 := [21, 4, 4, 96, 46, 45, 184, 0, 151, 54, 5, 44, 42, 21, 4, 4, 96, 46, 182, 0, 153, 54, 6, 44]
abbrev dktL_law_30 : List UInt8 := dkwL_law_30 ++ dktL_law_31
def dkwL_law_29 : List UInt8 := [182, 0, 146, 159, 3, 102, 3, 172, 43, 182, 0, 147, 44, 182, 0, 150, 159, 3, 89, 3, 172, 43, 42]
abbrev dktL_law_29 : List UInt8 := dkwL_law_29 ++ dktL_law_30
def dkwL_law_28 : List UInt8 := [159, 3, 128, 3, 172, 43, 182, 0, 139, 44, 182, 0, 142, 159, 3, 115, 3, 172, 43, 182, 0, 143, 44]
abbrev dktL_law_28 : List UInt8 := dkwL_law_28 ++ dktL_law_29
def dkwL_law_27 : List UInt8 := [45, 180, 0, 13, 21, 6, 133, 148, 153, 0, 5, 3, 172, 167, 3, 139, 43, 182, 0, 135, 44, 182, 0, 138]
abbrev dktL_law_27 : List UInt8 := dkwL_law_27 ++ dktL_law_28
def dkwL_law_26 : List UInt8 := [5, 96, 46, 182, 0, 134, 54, 6, 44, 182, 0, 106, 21, 5, 159, 0, 5, 3, 172, 21, 5, 154, 0, 16]
abbrev dktL_law_26 : List UInt8 := dkwL_law_26 ++ dktL_law_27
def dkwL_law_25 : List UInt8 := [96, 46, 42, 21, 4, 5, 96, 46, 45, 184, 0, 132, 54, 5, 44, 42, 21, 4, 4, 96, 46, 42, 21, 4]
abbrev dktL_law_25 : List UInt8 := dkwL_law_25 ++ dktL_law_26
def dkwL_law_24 : List UInt8 := [154, 0, 16, 45, 180, 0, 13, 21, 6, 133, 148, 153, 0, 5, 3, 172, 167, 3, 208, 43, 42, 21, 4, 4]
abbrev dktL_law_24 : List UInt8 := dkwL_law_24 ++ dktL_law_25
def dkwL_law_23 : List UInt8 := [21, 4, 4, 96, 46, 182, 0, 131, 54, 6, 44, 182, 0, 106, 21, 5, 159, 0, 5, 3, 172, 21, 5]
abbrev dktL_law_23 : List UInt8 := dkwL_law_23 ++ dktL_law_24
def dkwL_law_22 : List UInt8 := [148, 153, 0, 5, 3, 172, 167, 4, 9, 43, 42, 21, 4, 4, 96, 46, 45, 184, 0, 129, 54, 5, 44, 42]
abbrev dktL_law_22 : List UInt8 := dkwL_law_22 ++ dktL_law_23
def dkwL_law_21 : List UInt8 := [159, 0, 5, 3, 172, 21, 5, 154, 0, 23, 45, 180, 0, 13, 21, 6, 153, 0, 7, 10, 167, 0, 4, 9]
abbrev dktL_law_21 : List UInt8 := dkwL_law_21 ++ dktL_law_22
def dkwL_law_20 : List UInt8 := [184, 0, 126, 54, 5, 44, 42, 21, 4, 4, 96, 46, 182, 0, 128, 54, 6, 44, 182, 0, 106, 21, 5]
abbrev dktL_law_20 : List UInt8 := dkwL_law_20 ++ dktL_law_21
def dkwL_law_19 : List UInt8 := [180, 0, 13, 21, 6, 133, 148, 153, 0, 5, 3, 172, 167, 4, 73, 43, 42, 21, 4, 4, 96, 46, 45]
abbrev dktL_law_19 : List UInt8 := dkwL_law_19 ++ dktL_law_20
def dkwL_law_18 : List UInt8 := [182, 0, 125, 54, 6, 44, 182, 0, 106, 21, 5, 159, 0, 5, 3, 172, 21, 5, 154, 0, 16, 45]
abbrev dktL_law_18 : List UInt8 := dkwL_law_18 ++ dktL_law_19
def dkwL_law_17 : List UInt8 := [167, 4, 130, 43, 42, 21, 4, 4, 96, 46, 45, 184, 0, 123, 54, 5, 44, 42, 21, 4, 4, 96, 46]
abbrev dktL_law_17 : List UInt8 := dkwL_law_17 ++ dktL_law_18
def dkwL_law_16 : List UInt8 := [159, 0, 5, 3, 172, 21, 5, 154, 0, 16, 45, 180, 0, 13, 21, 6, 133, 148, 153, 0, 5, 3, 172]
abbrev dktL_law_16 : List UInt8 := dkwL_law_16 ++ dktL_law_17
def dkwL_law_15 : List UInt8 := [21, 4, 4, 96, 46, 42, 21, 4, 5, 96, 46, 182, 0, 122, 54, 6, 44, 182, 0, 106, 21, 5]
abbrev dktL_law_15 : List UInt8 := dkwL_law_15 ++ dktL_law_16
def dkwL_law_14 : List UInt8 := [167, 4, 199, 43, 42, 21, 4, 4, 96, 46, 42, 21, 4, 5, 96, 46, 45, 184, 0, 120, 54, 5, 44, 42]
abbrev dktL_law_14 : List UInt8 := dkwL_law_14 ++ dktL_law_15
def dkwL_law_13 : List UInt8 := [159, 0, 5, 3, 172, 21, 5, 154, 0, 16, 45, 180, 0, 13, 21, 6, 133, 148, 153, 0, 5, 3, 172]
abbrev dktL_law_13 : List UInt8 := dkwL_law_13 ++ dktL_law_14
def dkwL_law_12 : List UInt8 := [184, 0, 116, 54, 5, 44, 42, 21, 4, 4, 96, 46, 182, 0, 119, 54, 6, 44, 182, 0, 106, 21, 5]
abbrev dktL_law_12 : List UInt8 := dkwL_law_12 ++ dktL_law_13
def dkwL_law_11 : List UInt8 := [45, 180, 0, 13, 21, 6, 133, 148, 153, 0, 5, 3, 172, 167, 5, 0, 43, 42, 21, 4, 4, 96, 46, 45]
abbrev dktL_law_11 : List UInt8 := dkwL_law_11 ++ dktL_law_12
def dkwL_law_10 : List UInt8 := [5, 96, 46, 182, 0, 115, 54, 6, 44, 182, 0, 106, 21, 5, 159, 0, 5, 3, 172, 21, 5, 154, 0, 16]
abbrev dktL_law_10 : List UInt8 := dkwL_law_10 ++ dktL_law_11
def dkwL_law_9 : List UInt8 := [96, 46, 42, 21, 4, 5, 96, 46, 45, 184, 0, 113, 54, 5, 44, 42, 21, 4, 4, 96, 46, 42, 21, 4]
abbrev dktL_law_9 : List UInt8 := dkwL_law_9 ++ dktL_law_10
def dkwL_law_8 : List UInt8 := [154, 0, 16, 45, 180, 0, 13, 21, 6, 133, 148, 153, 0, 5, 3, 172, 167, 5, 69, 43, 42, 21, 4, 4]
abbrev dktL_law_8 : List UInt8 := dkwL_law_8 ++ dktL_law_9
def dkwL_law_7 : List UInt8 := [42, 21, 4, 5, 96, 46, 182, 0, 112, 54, 6, 44, 182, 0, 106, 21, 5, 159, 0, 5, 3, 172, 21, 5]
abbrev dktL_law_7 : List UInt8 := dkwL_law_7 ++ dktL_law_8
def dkwL_law_6 : List UInt8 := [21, 4, 4, 96, 46, 42, 21, 4, 5, 96, 46, 45, 184, 0, 110, 54, 5, 44, 42, 21, 4, 4, 96, 46]
abbrev dktL_law_6 : List UInt8 := dkwL_law_6 ++ dktL_law_7
def dkwL_law_5 : List UInt8 := [21, 5, 154, 0, 16, 45, 180, 0, 13, 21, 6, 133, 148, 153, 0, 5, 3, 172, 167, 5, 138, 43, 42]
abbrev dktL_law_5 : List UInt8 := dkwL_law_5 ++ dktL_law_6
def dkwL_law_4 : List UInt8 := [96, 46, 42, 21, 4, 5, 96, 46, 182, 0, 105, 54, 6, 44, 182, 0, 106, 21, 5, 159, 0, 5, 3, 172]
abbrev dktL_law_4 : List UInt8 := dkwL_law_4 ++ dktL_law_5
def dkwL_law_3 : List UInt8 := [43, 42, 21, 4, 4, 96, 46, 42, 21, 4, 5, 96, 46, 45, 184, 0, 100, 54, 5, 44, 42, 21, 4, 4]
abbrev dktL_law_3 : List UInt8 := dkwL_law_3 ++ dktL_law_4
def dkwL_law_2 : List UInt8 := [170, 0, 0, 6, 69, 0, 0, 0, 0, 0, 0, 0, 26, 0, 0, 0, 121, 0, 0, 0, 190, 0, 0, 1, 3, 0, 0, 1, 72, 0, 0, 1, 129, 0, 0, 1, 198, 0, 0, 1, 255, 0, 0, 2, 63, 0, 0, 2, 120, 0, 0, 2, 189, 0, 0, 2, 202, 0, 0, 2, 215, 0, 0, 2, 228, 0, 0, 2, 241, 0, 0, 3, 42, 0, 0, 3, 111, 0, 0, 3, 168, 0, 0, 3, 237, 0, 0, 4, 39, 0, 0, 4, 108, 0, 0, 4, 165, 0, 0, 4, 234, 0, 0, 5, 75, 0, 0, 5, 160, 0, 0, 5, 241, 0, 0, 6, 42, 0, 0, 6, 55]
abbrev dktL_law_2 : List UInt8 := dkwL_law_2 ++ dktL_law_3
def dkwL_law_1 : List UInt8 := [3, 54, 4, 21, 4, 42, 190, 7, 100, 163, 6, 85, 42, 21, 4, 46, 16, 31, 126]
abbrev dktL_law_1 : List UInt8 := dkwL_law_1 ++ dktL_law_2
def dkwL_law_0 : List UInt8 := [187, 0, 8, 89, 183, 0, 95, 76, 187, 0, 96, 89, 183, 0, 98, 77, 187, 0, 14, 89, 183, 0, 99, 78]
abbrev dktL_law_0 : List UInt8 := dkwL_law_0 ++ dktL_law_1
theorem dksL_law_0 : cL_law.data.toList.drop 0 = dktL_law_0 := by decide +kernel
theorem dksL_law_1 : cL_law.data.toList.drop 24 = dktL_law_1 := dk_seg dksL_law_0 24 rfl rfl
theorem dksL_law_2 : cL_law.data.toList.drop 43 = dktL_law_2 := dk_seg dksL_law_1 19 rfl rfl
theorem dksL_law_3 : cL_law.data.toList.drop 164 = dktL_law_3 := dk_seg dksL_law_2 121 rfl rfl
theorem dksL_law_4 : cL_law.data.toList.drop 188 = dktL_law_4 := dk_seg dksL_law_3 24 rfl rfl
theorem dksL_law_5 : cL_law.data.toList.drop 212 = dktL_law_5 := dk_seg dksL_law_4 24 rfl rfl
theorem dksL_law_6 : cL_law.data.toList.drop 235 = dktL_law_6 := dk_seg dksL_law_5 23 rfl rfl
theorem dksL_law_7 : cL_law.data.toList.drop 259 = dktL_law_7 := dk_seg dksL_law_6 24 rfl rfl
theorem dksL_law_8 : cL_law.data.toList.drop 283 = dktL_law_8 := dk_seg dksL_law_7 24 rfl rfl
theorem dksL_law_9 : cL_law.data.toList.drop 307 = dktL_law_9 := dk_seg dksL_law_8 24 rfl rfl
theorem dksL_law_10 : cL_law.data.toList.drop 331 = dktL_law_10 := dk_seg dksL_law_9 24 rfl rfl
theorem dksL_law_11 : cL_law.data.toList.drop 355 = dktL_law_11 := dk_seg dksL_law_10 24 rfl rfl
theorem dksL_law_12 : cL_law.data.toList.drop 379 = dktL_law_12 := dk_seg dksL_law_11 24 rfl rfl
theorem dksL_law_13 : cL_law.data.toList.drop 402 = dktL_law_13 := dk_seg dksL_law_12 23 rfl rfl
theorem dksL_law_14 : cL_law.data.toList.drop 425 = dktL_law_14 := dk_seg dksL_law_13 23 rfl rfl
theorem dksL_law_15 : cL_law.data.toList.drop 449 = dktL_law_15 := dk_seg dksL_law_14 24 rfl rfl
theorem dksL_law_16 : cL_law.data.toList.drop 471 = dktL_law_16 := dk_seg dksL_law_15 22 rfl rfl
theorem dksL_law_17 : cL_law.data.toList.drop 494 = dktL_law_17 := dk_seg dksL_law_16 23 rfl rfl
theorem dksL_law_18 : cL_law.data.toList.drop 517 = dktL_law_18 := dk_seg dksL_law_17 23 rfl rfl
theorem dksL_law_19 : cL_law.data.toList.drop 539 = dktL_law_19 := dk_seg dksL_law_18 22 rfl rfl
theorem dksL_law_20 : cL_law.data.toList.drop 562 = dktL_law_20 := dk_seg dksL_law_19 23 rfl rfl
theorem dksL_law_21 : cL_law.data.toList.drop 585 = dktL_law_21 := dk_seg dksL_law_20 23 rfl rfl
theorem dksL_law_22 : cL_law.data.toList.drop 609 = dktL_law_22 := dk_seg dksL_law_21 24 rfl rfl
theorem dksL_law_23 : cL_law.data.toList.drop 633 = dktL_law_23 := dk_seg dksL_law_22 24 rfl rfl
theorem dksL_law_24 : cL_law.data.toList.drop 656 = dktL_law_24 := dk_seg dksL_law_23 23 rfl rfl
theorem dksL_law_25 : cL_law.data.toList.drop 680 = dktL_law_25 := dk_seg dksL_law_24 24 rfl rfl
theorem dksL_law_26 : cL_law.data.toList.drop 704 = dktL_law_26 := dk_seg dksL_law_25 24 rfl rfl
theorem dksL_law_27 : cL_law.data.toList.drop 728 = dktL_law_27 := dk_seg dksL_law_26 24 rfl rfl
theorem dksL_law_28 : cL_law.data.toList.drop 752 = dktL_law_28 := dk_seg dksL_law_27 24 rfl rfl
theorem dksL_law_29 : cL_law.data.toList.drop 775 = dktL_law_29 := dk_seg dksL_law_28 23 rfl rfl
theorem dksL_law_30 : cL_law.data.toList.drop 798 = dktL_law_30 := dk_seg dksL_law_29 23 rfl rfl
theorem dksL_law_31 : cL_law.data.toList.drop 822 = dktL_law_31 := dk_seg dksL_law_30 24 rfl rfl
theorem dksL_law_32 : cL_law.data.toList.drop 845 = dktL_law_32 := dk_seg dksL_law_31 23 rfl rfl
theorem dksL_law_33 : cL_law.data.toList.drop 867 = dktL_law_33 := dk_seg dksL_law_32 22 rfl rfl
theorem dksL_law_34 : cL_law.data.toList.drop 891 = dktL_law_34 := dk_seg dksL_law_33 24 rfl rfl
theorem dksL_law_35 : cL_law.data.toList.drop 914 = dktL_law_35 := dk_seg dksL_law_34 23 rfl rfl
theorem dksL_law_36 : cL_law.data.toList.drop 937 = dktL_law_36 := dk_seg dksL_law_35 23 rfl rfl
theorem dksL_law_37 : cL_law.data.toList.drop 960 = dktL_law_37 := dk_seg dksL_law_36 23 rfl rfl
theorem dksL_law_38 : cL_law.data.toList.drop 984 = dktL_law_38 := dk_seg dksL_law_37 24 rfl rfl
theorem dksL_law_39 : cL_law.data.toList.drop 1008 = dktL_law_39 := dk_seg dksL_law_38 24 rfl rfl
theorem dksL_law_40 : cL_law.data.toList.drop 1032 = dktL_law_40 := dk_seg dksL_law_39 24 rfl rfl
theorem dksL_law_41 : cL_law.data.toList.drop 1056 = dktL_law_41 := dk_seg dksL_law_40 24 rfl rfl
theorem dksL_law_42 : cL_law.data.toList.drop 1079 = dktL_law_42 := dk_seg dksL_law_41 23 rfl rfl
theorem dksL_law_43 : cL_law.data.toList.drop 1103 = dktL_law_43 := dk_seg dksL_law_42 24 rfl rfl
theorem dksL_law_44 : cL_law.data.toList.drop 1127 = dktL_law_44 := dk_seg dksL_law_43 24 rfl rfl
theorem dksL_law_45 : cL_law.data.toList.drop 1149 = dktL_law_45 := dk_seg dksL_law_44 22 rfl rfl
theorem dksL_law_46 : cL_law.data.toList.drop 1172 = dktL_law_46 := dk_seg dksL_law_45 23 rfl rfl
theorem dksL_law_47 : cL_law.data.toList.drop 1195 = dktL_law_47 := dk_seg dksL_law_46 23 rfl rfl
theorem dksL_law_48 : cL_law.data.toList.drop 1217 = dktL_law_48 := dk_seg dksL_law_47 22 rfl rfl
theorem dksL_law_49 : cL_law.data.toList.drop 1240 = dktL_law_49 := dk_seg dksL_law_48 23 rfl rfl
theorem dksL_law_50 : cL_law.data.toList.drop 1264 = dktL_law_50 := dk_seg dksL_law_49 24 rfl rfl
theorem dksL_law_51 : cL_law.data.toList.drop 1286 = dktL_law_51 := dk_seg dksL_law_50 22 rfl rfl
theorem dksL_law_52 : cL_law.data.toList.drop 1308 = dktL_law_52 := dk_seg dksL_law_51 22 rfl rfl
theorem dksL_law_53 : cL_law.data.toList.drop 1332 = dktL_law_53 := dk_seg dksL_law_52 24 rfl rfl
theorem dksL_law_54 : cL_law.data.toList.drop 1356 = dktL_law_54 := dk_seg dksL_law_53 24 rfl rfl
theorem dksL_law_55 : cL_law.data.toList.drop 1379 = dktL_law_55 := dk_seg dksL_law_54 23 rfl rfl
theorem dksL_law_56 : cL_law.data.toList.drop 1403 = dktL_law_56 := dk_seg dksL_law_55 24 rfl rfl
theorem dksL_law_57 : cL_law.data.toList.drop 1427 = dktL_law_57 := dk_seg dksL_law_56 24 rfl rfl
theorem dksL_law_58 : cL_law.data.toList.drop 1451 = dktL_law_58 := dk_seg dksL_law_57 24 rfl rfl
theorem dksL_law_59 : cL_law.data.toList.drop 1475 = dktL_law_59 := dk_seg dksL_law_58 24 rfl rfl
theorem dksL_law_60 : cL_law.data.toList.drop 1499 = dktL_law_60 := dk_seg dksL_law_59 24 rfl rfl
theorem dksL_law_61 : cL_law.data.toList.drop 1522 = dktL_law_61 := dk_seg dksL_law_60 23 rfl rfl
theorem dksL_law_62 : cL_law.data.toList.drop 1545 = dktL_law_62 := dk_seg dksL_law_61 23 rfl rfl
theorem dksL_law_63 : cL_law.data.toList.drop 1569 = dktL_law_63 := dk_seg dksL_law_62 24 rfl rfl
theorem dksL_law_64 : cL_law.data.toList.drop 1593 = dktL_law_64 := dk_seg dksL_law_63 24 rfl rfl
theorem dksL_law_65 : cL_law.data.toList.drop 1617 = dktL_law_65 := dk_seg dksL_law_64 24 rfl rfl
theorem dksL_law_66 : cL_law.data.toList.drop 1639 = dktL_law_66 := dk_seg dksL_law_65 22 rfl rfl
theorem dL_law_0 : decode cL_law 0 = .ok (.new 8, 3) := dk_187 0 8 (dk_at dksL_law_0 0 rfl rfl)
theorem dL_law_3 : decode cL_law 3 = .ok (.dup, 1) := dk_89 (dk_at dksL_law_0 3 rfl rfl)
theorem dL_law_4 : decode cL_law 4 = .ok (.invokespecial 95, 3) := dk_183 0 95 (dk_at dksL_law_0 4 rfl rfl)
theorem dL_law_7 : decode cL_law 7 = .ok (.astore_n 1, 1) := dk_76 (dk_at dksL_law_0 7 rfl rfl)
theorem dL_law_8 : decode cL_law 8 = .ok (.new 96, 3) := dk_187 0 96 (dk_at dksL_law_0 8 rfl rfl)
theorem dL_law_11 : decode cL_law 11 = .ok (.dup, 1) := dk_89 (dk_at dksL_law_0 11 rfl rfl)
theorem dL_law_12 : decode cL_law 12 = .ok (.invokespecial 98, 3) := dk_183 0 98 (dk_at dksL_law_0 12 rfl rfl)
theorem dL_law_15 : decode cL_law 15 = .ok (.astore_n 2, 1) := dk_77 (dk_at dksL_law_0 15 rfl rfl)
theorem dL_law_16 : decode cL_law 16 = .ok (.new 14, 3) := dk_187 0 14 (dk_at dksL_law_0 16 rfl rfl)
theorem dL_law_19 : decode cL_law 19 = .ok (.dup, 1) := dk_89 (dk_at dksL_law_0 19 rfl rfl)
theorem dL_law_20 : decode cL_law 20 = .ok (.invokespecial 99, 3) := dk_183 0 99 (dk_at dksL_law_0 20 rfl rfl)
theorem dL_law_23 : decode cL_law 23 = .ok (.astore_n 3, 1) := dk_78 (dk_at dksL_law_0 23 rfl rfl)
theorem dL_law_24 : decode cL_law 24 = .ok (.iconst 0, 1) := dk_3 (dk_at dksL_law_1 0 rfl rfl)
theorem dL_law_25 : decode cL_law 25 = .ok (.istore 4, 2) := dk_54 4 (dk_at dksL_law_1 1 rfl rfl)
theorem dL_law_27 : decode cL_law 27 = .ok (.iload 4, 2) := dk_21 4 (dk_at dksL_law_1 3 rfl rfl)
theorem dL_law_29 : decode cL_law 29 = .ok (.aload_n 0, 1) := dk_42 (dk_at dksL_law_1 5 rfl rfl)
theorem dL_law_30 : decode cL_law 30 = .ok (.arraylength, 1) := dk_190 (dk_at dksL_law_1 6 rfl rfl)
theorem dL_law_31 : decode cL_law 31 = .ok (.iconst 4, 1) := dk_7 (dk_at dksL_law_1 7 rfl rfl)
theorem dL_law_32 : decode cL_law 32 = .ok (.isub, 1) := dk_100 (dk_at dksL_law_1 8 rfl rfl)
theorem dL_law_33 : decode cL_law 33 = .ok (.if_icmp .gt 1621, 3) := dk_163 6 85 (dk_at dksL_law_1 9 rfl rfl)
theorem dL_law_36 : decode cL_law 36 = .ok (.aload_n 0, 1) := dk_42 (dk_at dksL_law_1 12 rfl rfl)
theorem dL_law_37 : decode cL_law 37 = .ok (.iload 4, 2) := dk_21 4 (dk_at dksL_law_1 13 rfl rfl)
theorem dL_law_39 : decode cL_law 39 = .ok (.iaload, 1) := dk_46 (dk_at dksL_law_1 15 rfl rfl)
theorem dL_law_40 : decode cL_law 40 = .ok (.bipush 31, 2) := dk_16 31 (dk_at dksL_law_1 16 rfl rfl)
theorem dL_law_42 : decode cL_law 42 = .ok (.iand, 1) := dk_126 (dk_at dksL_law_1 18 rfl rfl)
theorem dL_law_43 : decode cL_law 43 = .ok (.tableswitch 1605 0 26 #[121, 190, 259, 328, 385, 454, 511, 575, 632, 701, 714, 727, 740, 753, 810, 879, 936, 1005, 1063, 1132, 1189, 1258, 1355, 1440, 1521, 1578, 1591], 121) := by decide +kernel
theorem dL_law_164 : decode cL_law 164 = .ok (.aload_n 1, 1) := dk_43 (dk_at dksL_law_3 0 rfl rfl)
theorem dL_law_165 : decode cL_law 165 = .ok (.aload_n 0, 1) := dk_42 (dk_at dksL_law_3 1 rfl rfl)
theorem dL_law_166 : decode cL_law 166 = .ok (.iload 4, 2) := dk_21 4 (dk_at dksL_law_3 2 rfl rfl)
theorem dL_law_168 : decode cL_law 168 = .ok (.iconst 1, 1) := dk_4 (dk_at dksL_law_3 4 rfl rfl)
theorem dL_law_169 : decode cL_law 169 = .ok (.iadd, 1) := dk_96 (dk_at dksL_law_3 5 rfl rfl)
theorem dL_law_170 : decode cL_law 170 = .ok (.iaload, 1) := dk_46 (dk_at dksL_law_3 6 rfl rfl)
theorem dL_law_171 : decode cL_law 171 = .ok (.aload_n 0, 1) := dk_42 (dk_at dksL_law_3 7 rfl rfl)
theorem dL_law_172 : decode cL_law 172 = .ok (.iload 4, 2) := dk_21 4 (dk_at dksL_law_3 8 rfl rfl)
theorem dL_law_174 : decode cL_law 174 = .ok (.iconst 2, 1) := dk_5 (dk_at dksL_law_3 10 rfl rfl)
theorem dL_law_175 : decode cL_law 175 = .ok (.iadd, 1) := dk_96 (dk_at dksL_law_3 11 rfl rfl)
theorem dL_law_176 : decode cL_law 176 = .ok (.iaload, 1) := dk_46 (dk_at dksL_law_3 12 rfl rfl)
theorem dL_law_177 : decode cL_law 177 = .ok (.aload_n 3, 1) := dk_45 (dk_at dksL_law_3 13 rfl rfl)
theorem dL_law_178 : decode cL_law 178 = .ok (.invokestatic 100, 3) := dk_184 0 100 (dk_at dksL_law_3 14 rfl rfl)
theorem dL_law_181 : decode cL_law 181 = .ok (.istore 5, 2) := dk_54 5 (dk_at dksL_law_3 17 rfl rfl)
theorem dL_law_183 : decode cL_law 183 = .ok (.aload_n 2, 1) := dk_44 (dk_at dksL_law_3 19 rfl rfl)
theorem dL_law_184 : decode cL_law 184 = .ok (.aload_n 0, 1) := dk_42 (dk_at dksL_law_3 20 rfl rfl)
theorem dL_law_185 : decode cL_law 185 = .ok (.iload 4, 2) := dk_21 4 (dk_at dksL_law_3 21 rfl rfl)
theorem dL_law_187 : decode cL_law 187 = .ok (.iconst 1, 1) := dk_4 (dk_at dksL_law_3 23 rfl rfl)
theorem dL_law_188 : decode cL_law 188 = .ok (.iadd, 1) := dk_96 (dk_at dksL_law_4 0 rfl rfl)
theorem dL_law_189 : decode cL_law 189 = .ok (.iaload, 1) := dk_46 (dk_at dksL_law_4 1 rfl rfl)
theorem dL_law_190 : decode cL_law 190 = .ok (.aload_n 0, 1) := dk_42 (dk_at dksL_law_4 2 rfl rfl)
theorem dL_law_191 : decode cL_law 191 = .ok (.iload 4, 2) := dk_21 4 (dk_at dksL_law_4 3 rfl rfl)
theorem dL_law_193 : decode cL_law 193 = .ok (.iconst 2, 1) := dk_5 (dk_at dksL_law_4 5 rfl rfl)
theorem dL_law_194 : decode cL_law 194 = .ok (.iadd, 1) := dk_96 (dk_at dksL_law_4 6 rfl rfl)
theorem dL_law_195 : decode cL_law 195 = .ok (.iaload, 1) := dk_46 (dk_at dksL_law_4 7 rfl rfl)
theorem dL_law_196 : decode cL_law 196 = .ok (.invokevirtual 105, 3) := dk_182 0 105 (dk_at dksL_law_4 8 rfl rfl)
theorem dL_law_199 : decode cL_law 199 = .ok (.istore 6, 2) := dk_54 6 (dk_at dksL_law_4 11 rfl rfl)
theorem dL_law_201 : decode cL_law 201 = .ok (.aload_n 2, 1) := dk_44 (dk_at dksL_law_4 13 rfl rfl)
theorem dL_law_202 : decode cL_law 202 = .ok (.invokevirtual 106, 3) := dk_182 0 106 (dk_at dksL_law_4 14 rfl rfl)
theorem dL_law_205 : decode cL_law 205 = .ok (.iload 5, 2) := dk_21 5 (dk_at dksL_law_4 17 rfl rfl)
theorem dL_law_207 : decode cL_law 207 = .ok (.if_icmp .eq 5, 3) := dk_159 0 5 (dk_at dksL_law_4 19 rfl rfl)
theorem dL_law_210 : decode cL_law 210 = .ok (.iconst 0, 1) := dk_3 (dk_at dksL_law_4 22 rfl rfl)
theorem dL_law_211 : decode cL_law 211 = .ok (.ireturn, 1) := dk_172 (dk_at dksL_law_4 23 rfl rfl)
theorem dL_law_212 : decode cL_law 212 = .ok (.iload 5, 2) := dk_21 5 (dk_at dksL_law_5 0 rfl rfl)
theorem dL_law_214 : decode cL_law 214 = .ok (.ifCond .ne 16, 3) := dk_154 0 16 (dk_at dksL_law_5 2 rfl rfl)
theorem dL_law_217 : decode cL_law 217 = .ok (.aload_n 3, 1) := dk_45 (dk_at dksL_law_5 5 rfl rfl)
theorem dL_law_218 : decode cL_law 218 = .ok (.getfield 13, 3) := dk_180 0 13 (dk_at dksL_law_5 6 rfl rfl)
theorem dL_law_221 : decode cL_law 221 = .ok (.iload 6, 2) := dk_21 6 (dk_at dksL_law_5 9 rfl rfl)
theorem dL_law_223 : decode cL_law 223 = .ok (.i2l, 1) := dk_133 (dk_at dksL_law_5 11 rfl rfl)
theorem dL_law_224 : decode cL_law 224 = .ok (.lcmp, 1) := dk_148 (dk_at dksL_law_5 12 rfl rfl)
theorem dL_law_225 : decode cL_law 225 = .ok (.ifCond .eq 5, 3) := dk_153 0 5 (dk_at dksL_law_5 13 rfl rfl)
theorem dL_law_228 : decode cL_law 228 = .ok (.iconst 0, 1) := dk_3 (dk_at dksL_law_5 16 rfl rfl)
theorem dL_law_229 : decode cL_law 229 = .ok (.ireturn, 1) := dk_172 (dk_at dksL_law_5 17 rfl rfl)
theorem dL_law_230 : decode cL_law 230 = .ok (.goto 1418, 3) := dk_167 5 138 (dk_at dksL_law_5 18 rfl rfl)
theorem dL_law_233 : decode cL_law 233 = .ok (.aload_n 1, 1) := dk_43 (dk_at dksL_law_5 21 rfl rfl)
theorem dL_law_234 : decode cL_law 234 = .ok (.aload_n 0, 1) := dk_42 (dk_at dksL_law_5 22 rfl rfl)
theorem dL_law_235 : decode cL_law 235 = .ok (.iload 4, 2) := dk_21 4 (dk_at dksL_law_6 0 rfl rfl)
theorem dL_law_237 : decode cL_law 237 = .ok (.iconst 1, 1) := dk_4 (dk_at dksL_law_6 2 rfl rfl)
theorem dL_law_238 : decode cL_law 238 = .ok (.iadd, 1) := dk_96 (dk_at dksL_law_6 3 rfl rfl)
theorem dL_law_239 : decode cL_law 239 = .ok (.iaload, 1) := dk_46 (dk_at dksL_law_6 4 rfl rfl)
theorem dL_law_240 : decode cL_law 240 = .ok (.aload_n 0, 1) := dk_42 (dk_at dksL_law_6 5 rfl rfl)
theorem dL_law_241 : decode cL_law 241 = .ok (.iload 4, 2) := dk_21 4 (dk_at dksL_law_6 6 rfl rfl)
theorem dL_law_243 : decode cL_law 243 = .ok (.iconst 2, 1) := dk_5 (dk_at dksL_law_6 8 rfl rfl)
theorem dL_law_244 : decode cL_law 244 = .ok (.iadd, 1) := dk_96 (dk_at dksL_law_6 9 rfl rfl)
theorem dL_law_245 : decode cL_law 245 = .ok (.iaload, 1) := dk_46 (dk_at dksL_law_6 10 rfl rfl)
theorem dL_law_246 : decode cL_law 246 = .ok (.aload_n 3, 1) := dk_45 (dk_at dksL_law_6 11 rfl rfl)
theorem dL_law_247 : decode cL_law 247 = .ok (.invokestatic 110, 3) := dk_184 0 110 (dk_at dksL_law_6 12 rfl rfl)
theorem dL_law_250 : decode cL_law 250 = .ok (.istore 5, 2) := dk_54 5 (dk_at dksL_law_6 15 rfl rfl)
theorem dL_law_252 : decode cL_law 252 = .ok (.aload_n 2, 1) := dk_44 (dk_at dksL_law_6 17 rfl rfl)
theorem dL_law_253 : decode cL_law 253 = .ok (.aload_n 0, 1) := dk_42 (dk_at dksL_law_6 18 rfl rfl)
theorem dL_law_254 : decode cL_law 254 = .ok (.iload 4, 2) := dk_21 4 (dk_at dksL_law_6 19 rfl rfl)
theorem dL_law_256 : decode cL_law 256 = .ok (.iconst 1, 1) := dk_4 (dk_at dksL_law_6 21 rfl rfl)
theorem dL_law_257 : decode cL_law 257 = .ok (.iadd, 1) := dk_96 (dk_at dksL_law_6 22 rfl rfl)
theorem dL_law_258 : decode cL_law 258 = .ok (.iaload, 1) := dk_46 (dk_at dksL_law_6 23 rfl rfl)
theorem dL_law_259 : decode cL_law 259 = .ok (.aload_n 0, 1) := dk_42 (dk_at dksL_law_7 0 rfl rfl)
theorem dL_law_260 : decode cL_law 260 = .ok (.iload 4, 2) := dk_21 4 (dk_at dksL_law_7 1 rfl rfl)
theorem dL_law_262 : decode cL_law 262 = .ok (.iconst 2, 1) := dk_5 (dk_at dksL_law_7 3 rfl rfl)
theorem dL_law_263 : decode cL_law 263 = .ok (.iadd, 1) := dk_96 (dk_at dksL_law_7 4 rfl rfl)
theorem dL_law_264 : decode cL_law 264 = .ok (.iaload, 1) := dk_46 (dk_at dksL_law_7 5 rfl rfl)
theorem dL_law_265 : decode cL_law 265 = .ok (.invokevirtual 112, 3) := dk_182 0 112 (dk_at dksL_law_7 6 rfl rfl)
theorem dL_law_268 : decode cL_law 268 = .ok (.istore 6, 2) := dk_54 6 (dk_at dksL_law_7 9 rfl rfl)
theorem dL_law_270 : decode cL_law 270 = .ok (.aload_n 2, 1) := dk_44 (dk_at dksL_law_7 11 rfl rfl)
theorem dL_law_271 : decode cL_law 271 = .ok (.invokevirtual 106, 3) := dk_182 0 106 (dk_at dksL_law_7 12 rfl rfl)
theorem dL_law_274 : decode cL_law 274 = .ok (.iload 5, 2) := dk_21 5 (dk_at dksL_law_7 15 rfl rfl)
theorem dL_law_276 : decode cL_law 276 = .ok (.if_icmp .eq 5, 3) := dk_159 0 5 (dk_at dksL_law_7 17 rfl rfl)
theorem dL_law_279 : decode cL_law 279 = .ok (.iconst 0, 1) := dk_3 (dk_at dksL_law_7 20 rfl rfl)
theorem dL_law_280 : decode cL_law 280 = .ok (.ireturn, 1) := dk_172 (dk_at dksL_law_7 21 rfl rfl)
theorem dL_law_281 : decode cL_law 281 = .ok (.iload 5, 2) := dk_21 5 (dk_at dksL_law_7 22 rfl rfl)
theorem dL_law_283 : decode cL_law 283 = .ok (.ifCond .ne 16, 3) := dk_154 0 16 (dk_at dksL_law_8 0 rfl rfl)
theorem dL_law_286 : decode cL_law 286 = .ok (.aload_n 3, 1) := dk_45 (dk_at dksL_law_8 3 rfl rfl)
theorem dL_law_287 : decode cL_law 287 = .ok (.getfield 13, 3) := dk_180 0 13 (dk_at dksL_law_8 4 rfl rfl)
theorem dL_law_290 : decode cL_law 290 = .ok (.iload 6, 2) := dk_21 6 (dk_at dksL_law_8 7 rfl rfl)
theorem dL_law_292 : decode cL_law 292 = .ok (.i2l, 1) := dk_133 (dk_at dksL_law_8 9 rfl rfl)
theorem dL_law_293 : decode cL_law 293 = .ok (.lcmp, 1) := dk_148 (dk_at dksL_law_8 10 rfl rfl)
theorem dL_law_294 : decode cL_law 294 = .ok (.ifCond .eq 5, 3) := dk_153 0 5 (dk_at dksL_law_8 11 rfl rfl)
theorem dL_law_297 : decode cL_law 297 = .ok (.iconst 0, 1) := dk_3 (dk_at dksL_law_8 14 rfl rfl)
theorem dL_law_298 : decode cL_law 298 = .ok (.ireturn, 1) := dk_172 (dk_at dksL_law_8 15 rfl rfl)
theorem dL_law_299 : decode cL_law 299 = .ok (.goto 1349, 3) := dk_167 5 69 (dk_at dksL_law_8 16 rfl rfl)
theorem dL_law_302 : decode cL_law 302 = .ok (.aload_n 1, 1) := dk_43 (dk_at dksL_law_8 19 rfl rfl)
theorem dL_law_303 : decode cL_law 303 = .ok (.aload_n 0, 1) := dk_42 (dk_at dksL_law_8 20 rfl rfl)
theorem dL_law_304 : decode cL_law 304 = .ok (.iload 4, 2) := dk_21 4 (dk_at dksL_law_8 21 rfl rfl)
theorem dL_law_306 : decode cL_law 306 = .ok (.iconst 1, 1) := dk_4 (dk_at dksL_law_8 23 rfl rfl)
theorem dL_law_307 : decode cL_law 307 = .ok (.iadd, 1) := dk_96 (dk_at dksL_law_9 0 rfl rfl)
theorem dL_law_308 : decode cL_law 308 = .ok (.iaload, 1) := dk_46 (dk_at dksL_law_9 1 rfl rfl)
theorem dL_law_309 : decode cL_law 309 = .ok (.aload_n 0, 1) := dk_42 (dk_at dksL_law_9 2 rfl rfl)
theorem dL_law_310 : decode cL_law 310 = .ok (.iload 4, 2) := dk_21 4 (dk_at dksL_law_9 3 rfl rfl)
theorem dL_law_312 : decode cL_law 312 = .ok (.iconst 2, 1) := dk_5 (dk_at dksL_law_9 5 rfl rfl)
theorem dL_law_313 : decode cL_law 313 = .ok (.iadd, 1) := dk_96 (dk_at dksL_law_9 6 rfl rfl)
theorem dL_law_314 : decode cL_law 314 = .ok (.iaload, 1) := dk_46 (dk_at dksL_law_9 7 rfl rfl)
theorem dL_law_315 : decode cL_law 315 = .ok (.aload_n 3, 1) := dk_45 (dk_at dksL_law_9 8 rfl rfl)
theorem dL_law_316 : decode cL_law 316 = .ok (.invokestatic 113, 3) := dk_184 0 113 (dk_at dksL_law_9 9 rfl rfl)
theorem dL_law_319 : decode cL_law 319 = .ok (.istore 5, 2) := dk_54 5 (dk_at dksL_law_9 12 rfl rfl)
theorem dL_law_321 : decode cL_law 321 = .ok (.aload_n 2, 1) := dk_44 (dk_at dksL_law_9 14 rfl rfl)
theorem dL_law_322 : decode cL_law 322 = .ok (.aload_n 0, 1) := dk_42 (dk_at dksL_law_9 15 rfl rfl)
theorem dL_law_323 : decode cL_law 323 = .ok (.iload 4, 2) := dk_21 4 (dk_at dksL_law_9 16 rfl rfl)
theorem dL_law_325 : decode cL_law 325 = .ok (.iconst 1, 1) := dk_4 (dk_at dksL_law_9 18 rfl rfl)
theorem dL_law_326 : decode cL_law 326 = .ok (.iadd, 1) := dk_96 (dk_at dksL_law_9 19 rfl rfl)
theorem dL_law_327 : decode cL_law 327 = .ok (.iaload, 1) := dk_46 (dk_at dksL_law_9 20 rfl rfl)
theorem dL_law_328 : decode cL_law 328 = .ok (.aload_n 0, 1) := dk_42 (dk_at dksL_law_9 21 rfl rfl)
theorem dL_law_329 : decode cL_law 329 = .ok (.iload 4, 2) := dk_21 4 (dk_at dksL_law_9 22 rfl rfl)
theorem dL_law_331 : decode cL_law 331 = .ok (.iconst 2, 1) := dk_5 (dk_at dksL_law_10 0 rfl rfl)
theorem dL_law_332 : decode cL_law 332 = .ok (.iadd, 1) := dk_96 (dk_at dksL_law_10 1 rfl rfl)
theorem dL_law_333 : decode cL_law 333 = .ok (.iaload, 1) := dk_46 (dk_at dksL_law_10 2 rfl rfl)
theorem dL_law_334 : decode cL_law 334 = .ok (.invokevirtual 115, 3) := dk_182 0 115 (dk_at dksL_law_10 3 rfl rfl)
theorem dL_law_337 : decode cL_law 337 = .ok (.istore 6, 2) := dk_54 6 (dk_at dksL_law_10 6 rfl rfl)
theorem dL_law_339 : decode cL_law 339 = .ok (.aload_n 2, 1) := dk_44 (dk_at dksL_law_10 8 rfl rfl)
theorem dL_law_340 : decode cL_law 340 = .ok (.invokevirtual 106, 3) := dk_182 0 106 (dk_at dksL_law_10 9 rfl rfl)
theorem dL_law_343 : decode cL_law 343 = .ok (.iload 5, 2) := dk_21 5 (dk_at dksL_law_10 12 rfl rfl)
theorem dL_law_345 : decode cL_law 345 = .ok (.if_icmp .eq 5, 3) := dk_159 0 5 (dk_at dksL_law_10 14 rfl rfl)
theorem dL_law_348 : decode cL_law 348 = .ok (.iconst 0, 1) := dk_3 (dk_at dksL_law_10 17 rfl rfl)
theorem dL_law_349 : decode cL_law 349 = .ok (.ireturn, 1) := dk_172 (dk_at dksL_law_10 18 rfl rfl)
theorem dL_law_350 : decode cL_law 350 = .ok (.iload 5, 2) := dk_21 5 (dk_at dksL_law_10 19 rfl rfl)
theorem dL_law_352 : decode cL_law 352 = .ok (.ifCond .ne 16, 3) := dk_154 0 16 (dk_at dksL_law_10 21 rfl rfl)
theorem dL_law_355 : decode cL_law 355 = .ok (.aload_n 3, 1) := dk_45 (dk_at dksL_law_11 0 rfl rfl)
theorem dL_law_356 : decode cL_law 356 = .ok (.getfield 13, 3) := dk_180 0 13 (dk_at dksL_law_11 1 rfl rfl)
theorem dL_law_359 : decode cL_law 359 = .ok (.iload 6, 2) := dk_21 6 (dk_at dksL_law_11 4 rfl rfl)
theorem dL_law_361 : decode cL_law 361 = .ok (.i2l, 1) := dk_133 (dk_at dksL_law_11 6 rfl rfl)
theorem dL_law_362 : decode cL_law 362 = .ok (.lcmp, 1) := dk_148 (dk_at dksL_law_11 7 rfl rfl)
theorem dL_law_363 : decode cL_law 363 = .ok (.ifCond .eq 5, 3) := dk_153 0 5 (dk_at dksL_law_11 8 rfl rfl)
theorem dL_law_366 : decode cL_law 366 = .ok (.iconst 0, 1) := dk_3 (dk_at dksL_law_11 11 rfl rfl)
theorem dL_law_367 : decode cL_law 367 = .ok (.ireturn, 1) := dk_172 (dk_at dksL_law_11 12 rfl rfl)
theorem dL_law_368 : decode cL_law 368 = .ok (.goto 1280, 3) := dk_167 5 0 (dk_at dksL_law_11 13 rfl rfl)
theorem dL_law_371 : decode cL_law 371 = .ok (.aload_n 1, 1) := dk_43 (dk_at dksL_law_11 16 rfl rfl)
theorem dL_law_372 : decode cL_law 372 = .ok (.aload_n 0, 1) := dk_42 (dk_at dksL_law_11 17 rfl rfl)
theorem dL_law_373 : decode cL_law 373 = .ok (.iload 4, 2) := dk_21 4 (dk_at dksL_law_11 18 rfl rfl)
theorem dL_law_375 : decode cL_law 375 = .ok (.iconst 1, 1) := dk_4 (dk_at dksL_law_11 20 rfl rfl)
theorem dL_law_376 : decode cL_law 376 = .ok (.iadd, 1) := dk_96 (dk_at dksL_law_11 21 rfl rfl)
theorem dL_law_377 : decode cL_law 377 = .ok (.iaload, 1) := dk_46 (dk_at dksL_law_11 22 rfl rfl)
theorem dL_law_378 : decode cL_law 378 = .ok (.aload_n 3, 1) := dk_45 (dk_at dksL_law_11 23 rfl rfl)
theorem dL_law_379 : decode cL_law 379 = .ok (.invokestatic 116, 3) := dk_184 0 116 (dk_at dksL_law_12 0 rfl rfl)
theorem dL_law_382 : decode cL_law 382 = .ok (.istore 5, 2) := dk_54 5 (dk_at dksL_law_12 3 rfl rfl)
theorem dL_law_384 : decode cL_law 384 = .ok (.aload_n 2, 1) := dk_44 (dk_at dksL_law_12 5 rfl rfl)
theorem dL_law_385 : decode cL_law 385 = .ok (.aload_n 0, 1) := dk_42 (dk_at dksL_law_12 6 rfl rfl)
theorem dL_law_386 : decode cL_law 386 = .ok (.iload 4, 2) := dk_21 4 (dk_at dksL_law_12 7 rfl rfl)
theorem dL_law_388 : decode cL_law 388 = .ok (.iconst 1, 1) := dk_4 (dk_at dksL_law_12 9 rfl rfl)
theorem dL_law_389 : decode cL_law 389 = .ok (.iadd, 1) := dk_96 (dk_at dksL_law_12 10 rfl rfl)
theorem dL_law_390 : decode cL_law 390 = .ok (.iaload, 1) := dk_46 (dk_at dksL_law_12 11 rfl rfl)
theorem dL_law_391 : decode cL_law 391 = .ok (.invokevirtual 119, 3) := dk_182 0 119 (dk_at dksL_law_12 12 rfl rfl)
theorem dL_law_394 : decode cL_law 394 = .ok (.istore 6, 2) := dk_54 6 (dk_at dksL_law_12 15 rfl rfl)
theorem dL_law_396 : decode cL_law 396 = .ok (.aload_n 2, 1) := dk_44 (dk_at dksL_law_12 17 rfl rfl)
theorem dL_law_397 : decode cL_law 397 = .ok (.invokevirtual 106, 3) := dk_182 0 106 (dk_at dksL_law_12 18 rfl rfl)
theorem dL_law_400 : decode cL_law 400 = .ok (.iload 5, 2) := dk_21 5 (dk_at dksL_law_12 21 rfl rfl)
theorem dL_law_402 : decode cL_law 402 = .ok (.if_icmp .eq 5, 3) := dk_159 0 5 (dk_at dksL_law_13 0 rfl rfl)
theorem dL_law_405 : decode cL_law 405 = .ok (.iconst 0, 1) := dk_3 (dk_at dksL_law_13 3 rfl rfl)
theorem dL_law_406 : decode cL_law 406 = .ok (.ireturn, 1) := dk_172 (dk_at dksL_law_13 4 rfl rfl)
theorem dL_law_407 : decode cL_law 407 = .ok (.iload 5, 2) := dk_21 5 (dk_at dksL_law_13 5 rfl rfl)
theorem dL_law_409 : decode cL_law 409 = .ok (.ifCond .ne 16, 3) := dk_154 0 16 (dk_at dksL_law_13 7 rfl rfl)
theorem dL_law_412 : decode cL_law 412 = .ok (.aload_n 3, 1) := dk_45 (dk_at dksL_law_13 10 rfl rfl)
theorem dL_law_413 : decode cL_law 413 = .ok (.getfield 13, 3) := dk_180 0 13 (dk_at dksL_law_13 11 rfl rfl)
theorem dL_law_416 : decode cL_law 416 = .ok (.iload 6, 2) := dk_21 6 (dk_at dksL_law_13 14 rfl rfl)
theorem dL_law_418 : decode cL_law 418 = .ok (.i2l, 1) := dk_133 (dk_at dksL_law_13 16 rfl rfl)
theorem dL_law_419 : decode cL_law 419 = .ok (.lcmp, 1) := dk_148 (dk_at dksL_law_13 17 rfl rfl)
theorem dL_law_420 : decode cL_law 420 = .ok (.ifCond .eq 5, 3) := dk_153 0 5 (dk_at dksL_law_13 18 rfl rfl)
theorem dL_law_423 : decode cL_law 423 = .ok (.iconst 0, 1) := dk_3 (dk_at dksL_law_13 21 rfl rfl)
theorem dL_law_424 : decode cL_law 424 = .ok (.ireturn, 1) := dk_172 (dk_at dksL_law_13 22 rfl rfl)
theorem dL_law_425 : decode cL_law 425 = .ok (.goto 1223, 3) := dk_167 4 199 (dk_at dksL_law_14 0 rfl rfl)
theorem dL_law_428 : decode cL_law 428 = .ok (.aload_n 1, 1) := dk_43 (dk_at dksL_law_14 3 rfl rfl)
theorem dL_law_429 : decode cL_law 429 = .ok (.aload_n 0, 1) := dk_42 (dk_at dksL_law_14 4 rfl rfl)
theorem dL_law_430 : decode cL_law 430 = .ok (.iload 4, 2) := dk_21 4 (dk_at dksL_law_14 5 rfl rfl)
theorem dL_law_432 : decode cL_law 432 = .ok (.iconst 1, 1) := dk_4 (dk_at dksL_law_14 7 rfl rfl)
theorem dL_law_433 : decode cL_law 433 = .ok (.iadd, 1) := dk_96 (dk_at dksL_law_14 8 rfl rfl)
theorem dL_law_434 : decode cL_law 434 = .ok (.iaload, 1) := dk_46 (dk_at dksL_law_14 9 rfl rfl)
theorem dL_law_435 : decode cL_law 435 = .ok (.aload_n 0, 1) := dk_42 (dk_at dksL_law_14 10 rfl rfl)
theorem dL_law_436 : decode cL_law 436 = .ok (.iload 4, 2) := dk_21 4 (dk_at dksL_law_14 11 rfl rfl)
theorem dL_law_438 : decode cL_law 438 = .ok (.iconst 2, 1) := dk_5 (dk_at dksL_law_14 13 rfl rfl)
theorem dL_law_439 : decode cL_law 439 = .ok (.iadd, 1) := dk_96 (dk_at dksL_law_14 14 rfl rfl)
theorem dL_law_440 : decode cL_law 440 = .ok (.iaload, 1) := dk_46 (dk_at dksL_law_14 15 rfl rfl)
theorem dL_law_441 : decode cL_law 441 = .ok (.aload_n 3, 1) := dk_45 (dk_at dksL_law_14 16 rfl rfl)
theorem dL_law_442 : decode cL_law 442 = .ok (.invokestatic 120, 3) := dk_184 0 120 (dk_at dksL_law_14 17 rfl rfl)
theorem dL_law_445 : decode cL_law 445 = .ok (.istore 5, 2) := dk_54 5 (dk_at dksL_law_14 20 rfl rfl)
theorem dL_law_447 : decode cL_law 447 = .ok (.aload_n 2, 1) := dk_44 (dk_at dksL_law_14 22 rfl rfl)
theorem dL_law_448 : decode cL_law 448 = .ok (.aload_n 0, 1) := dk_42 (dk_at dksL_law_14 23 rfl rfl)
theorem dL_law_449 : decode cL_law 449 = .ok (.iload 4, 2) := dk_21 4 (dk_at dksL_law_15 0 rfl rfl)
theorem dL_law_451 : decode cL_law 451 = .ok (.iconst 1, 1) := dk_4 (dk_at dksL_law_15 2 rfl rfl)
theorem dL_law_452 : decode cL_law 452 = .ok (.iadd, 1) := dk_96 (dk_at dksL_law_15 3 rfl rfl)
theorem dL_law_453 : decode cL_law 453 = .ok (.iaload, 1) := dk_46 (dk_at dksL_law_15 4 rfl rfl)
theorem dL_law_454 : decode cL_law 454 = .ok (.aload_n 0, 1) := dk_42 (dk_at dksL_law_15 5 rfl rfl)
theorem dL_law_455 : decode cL_law 455 = .ok (.iload 4, 2) := dk_21 4 (dk_at dksL_law_15 6 rfl rfl)
theorem dL_law_457 : decode cL_law 457 = .ok (.iconst 2, 1) := dk_5 (dk_at dksL_law_15 8 rfl rfl)
theorem dL_law_458 : decode cL_law 458 = .ok (.iadd, 1) := dk_96 (dk_at dksL_law_15 9 rfl rfl)
theorem dL_law_459 : decode cL_law 459 = .ok (.iaload, 1) := dk_46 (dk_at dksL_law_15 10 rfl rfl)
theorem dL_law_460 : decode cL_law 460 = .ok (.invokevirtual 122, 3) := dk_182 0 122 (dk_at dksL_law_15 11 rfl rfl)
theorem dL_law_463 : decode cL_law 463 = .ok (.istore 6, 2) := dk_54 6 (dk_at dksL_law_15 14 rfl rfl)
theorem dL_law_465 : decode cL_law 465 = .ok (.aload_n 2, 1) := dk_44 (dk_at dksL_law_15 16 rfl rfl)
theorem dL_law_466 : decode cL_law 466 = .ok (.invokevirtual 106, 3) := dk_182 0 106 (dk_at dksL_law_15 17 rfl rfl)
theorem dL_law_469 : decode cL_law 469 = .ok (.iload 5, 2) := dk_21 5 (dk_at dksL_law_15 20 rfl rfl)
theorem dL_law_471 : decode cL_law 471 = .ok (.if_icmp .eq 5, 3) := dk_159 0 5 (dk_at dksL_law_16 0 rfl rfl)
theorem dL_law_474 : decode cL_law 474 = .ok (.iconst 0, 1) := dk_3 (dk_at dksL_law_16 3 rfl rfl)
theorem dL_law_475 : decode cL_law 475 = .ok (.ireturn, 1) := dk_172 (dk_at dksL_law_16 4 rfl rfl)
theorem dL_law_476 : decode cL_law 476 = .ok (.iload 5, 2) := dk_21 5 (dk_at dksL_law_16 5 rfl rfl)
theorem dL_law_478 : decode cL_law 478 = .ok (.ifCond .ne 16, 3) := dk_154 0 16 (dk_at dksL_law_16 7 rfl rfl)
theorem dL_law_481 : decode cL_law 481 = .ok (.aload_n 3, 1) := dk_45 (dk_at dksL_law_16 10 rfl rfl)
theorem dL_law_482 : decode cL_law 482 = .ok (.getfield 13, 3) := dk_180 0 13 (dk_at dksL_law_16 11 rfl rfl)
theorem dL_law_485 : decode cL_law 485 = .ok (.iload 6, 2) := dk_21 6 (dk_at dksL_law_16 14 rfl rfl)
theorem dL_law_487 : decode cL_law 487 = .ok (.i2l, 1) := dk_133 (dk_at dksL_law_16 16 rfl rfl)
theorem dL_law_488 : decode cL_law 488 = .ok (.lcmp, 1) := dk_148 (dk_at dksL_law_16 17 rfl rfl)
theorem dL_law_489 : decode cL_law 489 = .ok (.ifCond .eq 5, 3) := dk_153 0 5 (dk_at dksL_law_16 18 rfl rfl)
theorem dL_law_492 : decode cL_law 492 = .ok (.iconst 0, 1) := dk_3 (dk_at dksL_law_16 21 rfl rfl)
theorem dL_law_493 : decode cL_law 493 = .ok (.ireturn, 1) := dk_172 (dk_at dksL_law_16 22 rfl rfl)
theorem dL_law_494 : decode cL_law 494 = .ok (.goto 1154, 3) := dk_167 4 130 (dk_at dksL_law_17 0 rfl rfl)
theorem dL_law_497 : decode cL_law 497 = .ok (.aload_n 1, 1) := dk_43 (dk_at dksL_law_17 3 rfl rfl)
theorem dL_law_498 : decode cL_law 498 = .ok (.aload_n 0, 1) := dk_42 (dk_at dksL_law_17 4 rfl rfl)
theorem dL_law_499 : decode cL_law 499 = .ok (.iload 4, 2) := dk_21 4 (dk_at dksL_law_17 5 rfl rfl)
theorem dL_law_501 : decode cL_law 501 = .ok (.iconst 1, 1) := dk_4 (dk_at dksL_law_17 7 rfl rfl)
theorem dL_law_502 : decode cL_law 502 = .ok (.iadd, 1) := dk_96 (dk_at dksL_law_17 8 rfl rfl)
theorem dL_law_503 : decode cL_law 503 = .ok (.iaload, 1) := dk_46 (dk_at dksL_law_17 9 rfl rfl)
theorem dL_law_504 : decode cL_law 504 = .ok (.aload_n 3, 1) := dk_45 (dk_at dksL_law_17 10 rfl rfl)
theorem dL_law_505 : decode cL_law 505 = .ok (.invokestatic 123, 3) := dk_184 0 123 (dk_at dksL_law_17 11 rfl rfl)
theorem dL_law_508 : decode cL_law 508 = .ok (.istore 5, 2) := dk_54 5 (dk_at dksL_law_17 14 rfl rfl)
theorem dL_law_510 : decode cL_law 510 = .ok (.aload_n 2, 1) := dk_44 (dk_at dksL_law_17 16 rfl rfl)
theorem dL_law_511 : decode cL_law 511 = .ok (.aload_n 0, 1) := dk_42 (dk_at dksL_law_17 17 rfl rfl)
theorem dL_law_512 : decode cL_law 512 = .ok (.iload 4, 2) := dk_21 4 (dk_at dksL_law_17 18 rfl rfl)
theorem dL_law_514 : decode cL_law 514 = .ok (.iconst 1, 1) := dk_4 (dk_at dksL_law_17 20 rfl rfl)
theorem dL_law_515 : decode cL_law 515 = .ok (.iadd, 1) := dk_96 (dk_at dksL_law_17 21 rfl rfl)
theorem dL_law_516 : decode cL_law 516 = .ok (.iaload, 1) := dk_46 (dk_at dksL_law_17 22 rfl rfl)
theorem dL_law_517 : decode cL_law 517 = .ok (.invokevirtual 125, 3) := dk_182 0 125 (dk_at dksL_law_18 0 rfl rfl)
theorem dL_law_520 : decode cL_law 520 = .ok (.istore 6, 2) := dk_54 6 (dk_at dksL_law_18 3 rfl rfl)
theorem dL_law_522 : decode cL_law 522 = .ok (.aload_n 2, 1) := dk_44 (dk_at dksL_law_18 5 rfl rfl)
theorem dL_law_523 : decode cL_law 523 = .ok (.invokevirtual 106, 3) := dk_182 0 106 (dk_at dksL_law_18 6 rfl rfl)
theorem dL_law_526 : decode cL_law 526 = .ok (.iload 5, 2) := dk_21 5 (dk_at dksL_law_18 9 rfl rfl)
theorem dL_law_528 : decode cL_law 528 = .ok (.if_icmp .eq 5, 3) := dk_159 0 5 (dk_at dksL_law_18 11 rfl rfl)
theorem dL_law_531 : decode cL_law 531 = .ok (.iconst 0, 1) := dk_3 (dk_at dksL_law_18 14 rfl rfl)
theorem dL_law_532 : decode cL_law 532 = .ok (.ireturn, 1) := dk_172 (dk_at dksL_law_18 15 rfl rfl)
theorem dL_law_533 : decode cL_law 533 = .ok (.iload 5, 2) := dk_21 5 (dk_at dksL_law_18 16 rfl rfl)
theorem dL_law_535 : decode cL_law 535 = .ok (.ifCond .ne 16, 3) := dk_154 0 16 (dk_at dksL_law_18 18 rfl rfl)
theorem dL_law_538 : decode cL_law 538 = .ok (.aload_n 3, 1) := dk_45 (dk_at dksL_law_18 21 rfl rfl)
theorem dL_law_539 : decode cL_law 539 = .ok (.getfield 13, 3) := dk_180 0 13 (dk_at dksL_law_19 0 rfl rfl)
theorem dL_law_542 : decode cL_law 542 = .ok (.iload 6, 2) := dk_21 6 (dk_at dksL_law_19 3 rfl rfl)
theorem dL_law_544 : decode cL_law 544 = .ok (.i2l, 1) := dk_133 (dk_at dksL_law_19 5 rfl rfl)
theorem dL_law_545 : decode cL_law 545 = .ok (.lcmp, 1) := dk_148 (dk_at dksL_law_19 6 rfl rfl)
theorem dL_law_546 : decode cL_law 546 = .ok (.ifCond .eq 5, 3) := dk_153 0 5 (dk_at dksL_law_19 7 rfl rfl)
theorem dL_law_549 : decode cL_law 549 = .ok (.iconst 0, 1) := dk_3 (dk_at dksL_law_19 10 rfl rfl)
theorem dL_law_550 : decode cL_law 550 = .ok (.ireturn, 1) := dk_172 (dk_at dksL_law_19 11 rfl rfl)
theorem dL_law_551 : decode cL_law 551 = .ok (.goto 1097, 3) := dk_167 4 73 (dk_at dksL_law_19 12 rfl rfl)
theorem dL_law_554 : decode cL_law 554 = .ok (.aload_n 1, 1) := dk_43 (dk_at dksL_law_19 15 rfl rfl)
theorem dL_law_555 : decode cL_law 555 = .ok (.aload_n 0, 1) := dk_42 (dk_at dksL_law_19 16 rfl rfl)
theorem dL_law_556 : decode cL_law 556 = .ok (.iload 4, 2) := dk_21 4 (dk_at dksL_law_19 17 rfl rfl)
theorem dL_law_558 : decode cL_law 558 = .ok (.iconst 1, 1) := dk_4 (dk_at dksL_law_19 19 rfl rfl)
theorem dL_law_559 : decode cL_law 559 = .ok (.iadd, 1) := dk_96 (dk_at dksL_law_19 20 rfl rfl)
theorem dL_law_560 : decode cL_law 560 = .ok (.iaload, 1) := dk_46 (dk_at dksL_law_19 21 rfl rfl)
theorem dL_law_561 : decode cL_law 561 = .ok (.aload_n 3, 1) := dk_45 (dk_at dksL_law_19 22 rfl rfl)
theorem dL_law_562 : decode cL_law 562 = .ok (.invokestatic 126, 3) := dk_184 0 126 (dk_at dksL_law_20 0 rfl rfl)
theorem dL_law_565 : decode cL_law 565 = .ok (.istore 5, 2) := dk_54 5 (dk_at dksL_law_20 3 rfl rfl)
theorem dL_law_567 : decode cL_law 567 = .ok (.aload_n 2, 1) := dk_44 (dk_at dksL_law_20 5 rfl rfl)
theorem dL_law_568 : decode cL_law 568 = .ok (.aload_n 0, 1) := dk_42 (dk_at dksL_law_20 6 rfl rfl)
theorem dL_law_569 : decode cL_law 569 = .ok (.iload 4, 2) := dk_21 4 (dk_at dksL_law_20 7 rfl rfl)
theorem dL_law_571 : decode cL_law 571 = .ok (.iconst 1, 1) := dk_4 (dk_at dksL_law_20 9 rfl rfl)
theorem dL_law_572 : decode cL_law 572 = .ok (.iadd, 1) := dk_96 (dk_at dksL_law_20 10 rfl rfl)
theorem dL_law_573 : decode cL_law 573 = .ok (.iaload, 1) := dk_46 (dk_at dksL_law_20 11 rfl rfl)
theorem dL_law_574 : decode cL_law 574 = .ok (.invokevirtual 128, 3) := dk_182 0 128 (dk_at dksL_law_20 12 rfl rfl)
theorem dL_law_577 : decode cL_law 577 = .ok (.istore 6, 2) := dk_54 6 (dk_at dksL_law_20 15 rfl rfl)
theorem dL_law_579 : decode cL_law 579 = .ok (.aload_n 2, 1) := dk_44 (dk_at dksL_law_20 17 rfl rfl)
theorem dL_law_580 : decode cL_law 580 = .ok (.invokevirtual 106, 3) := dk_182 0 106 (dk_at dksL_law_20 18 rfl rfl)
theorem dL_law_583 : decode cL_law 583 = .ok (.iload 5, 2) := dk_21 5 (dk_at dksL_law_20 21 rfl rfl)
theorem dL_law_585 : decode cL_law 585 = .ok (.if_icmp .eq 5, 3) := dk_159 0 5 (dk_at dksL_law_21 0 rfl rfl)
theorem dL_law_588 : decode cL_law 588 = .ok (.iconst 0, 1) := dk_3 (dk_at dksL_law_21 3 rfl rfl)
theorem dL_law_589 : decode cL_law 589 = .ok (.ireturn, 1) := dk_172 (dk_at dksL_law_21 4 rfl rfl)
theorem dL_law_590 : decode cL_law 590 = .ok (.iload 5, 2) := dk_21 5 (dk_at dksL_law_21 5 rfl rfl)
theorem dL_law_592 : decode cL_law 592 = .ok (.ifCond .ne 23, 3) := dk_154 0 23 (dk_at dksL_law_21 7 rfl rfl)
theorem dL_law_595 : decode cL_law 595 = .ok (.aload_n 3, 1) := dk_45 (dk_at dksL_law_21 10 rfl rfl)
theorem dL_law_596 : decode cL_law 596 = .ok (.getfield 13, 3) := dk_180 0 13 (dk_at dksL_law_21 11 rfl rfl)
theorem dL_law_599 : decode cL_law 599 = .ok (.iload 6, 2) := dk_21 6 (dk_at dksL_law_21 14 rfl rfl)
theorem dL_law_601 : decode cL_law 601 = .ok (.ifCond .eq 7, 3) := dk_153 0 7 (dk_at dksL_law_21 16 rfl rfl)
theorem dL_law_604 : decode cL_law 604 = .ok (.lconst 1, 1) := dk_10 (dk_at dksL_law_21 19 rfl rfl)
theorem dL_law_605 : decode cL_law 605 = .ok (.goto 4, 3) := dk_167 0 4 (dk_at dksL_law_21 20 rfl rfl)
theorem dL_law_608 : decode cL_law 608 = .ok (.lconst 0, 1) := dk_9 (dk_at dksL_law_21 23 rfl rfl)
theorem dL_law_609 : decode cL_law 609 = .ok (.lcmp, 1) := dk_148 (dk_at dksL_law_22 0 rfl rfl)
theorem dL_law_610 : decode cL_law 610 = .ok (.ifCond .eq 5, 3) := dk_153 0 5 (dk_at dksL_law_22 1 rfl rfl)
theorem dL_law_613 : decode cL_law 613 = .ok (.iconst 0, 1) := dk_3 (dk_at dksL_law_22 4 rfl rfl)
theorem dL_law_614 : decode cL_law 614 = .ok (.ireturn, 1) := dk_172 (dk_at dksL_law_22 5 rfl rfl)
theorem dL_law_615 : decode cL_law 615 = .ok (.goto 1033, 3) := dk_167 4 9 (dk_at dksL_law_22 6 rfl rfl)
theorem dL_law_618 : decode cL_law 618 = .ok (.aload_n 1, 1) := dk_43 (dk_at dksL_law_22 9 rfl rfl)
theorem dL_law_619 : decode cL_law 619 = .ok (.aload_n 0, 1) := dk_42 (dk_at dksL_law_22 10 rfl rfl)
theorem dL_law_620 : decode cL_law 620 = .ok (.iload 4, 2) := dk_21 4 (dk_at dksL_law_22 11 rfl rfl)
theorem dL_law_622 : decode cL_law 622 = .ok (.iconst 1, 1) := dk_4 (dk_at dksL_law_22 13 rfl rfl)
theorem dL_law_623 : decode cL_law 623 = .ok (.iadd, 1) := dk_96 (dk_at dksL_law_22 14 rfl rfl)
theorem dL_law_624 : decode cL_law 624 = .ok (.iaload, 1) := dk_46 (dk_at dksL_law_22 15 rfl rfl)
theorem dL_law_625 : decode cL_law 625 = .ok (.aload_n 3, 1) := dk_45 (dk_at dksL_law_22 16 rfl rfl)
theorem dL_law_626 : decode cL_law 626 = .ok (.invokestatic 129, 3) := dk_184 0 129 (dk_at dksL_law_22 17 rfl rfl)
theorem dL_law_629 : decode cL_law 629 = .ok (.istore 5, 2) := dk_54 5 (dk_at dksL_law_22 20 rfl rfl)
theorem dL_law_631 : decode cL_law 631 = .ok (.aload_n 2, 1) := dk_44 (dk_at dksL_law_22 22 rfl rfl)
theorem dL_law_632 : decode cL_law 632 = .ok (.aload_n 0, 1) := dk_42 (dk_at dksL_law_22 23 rfl rfl)
theorem dL_law_633 : decode cL_law 633 = .ok (.iload 4, 2) := dk_21 4 (dk_at dksL_law_23 0 rfl rfl)
theorem dL_law_635 : decode cL_law 635 = .ok (.iconst 1, 1) := dk_4 (dk_at dksL_law_23 2 rfl rfl)
theorem dL_law_636 : decode cL_law 636 = .ok (.iadd, 1) := dk_96 (dk_at dksL_law_23 3 rfl rfl)
theorem dL_law_637 : decode cL_law 637 = .ok (.iaload, 1) := dk_46 (dk_at dksL_law_23 4 rfl rfl)
theorem dL_law_638 : decode cL_law 638 = .ok (.invokevirtual 131, 3) := dk_182 0 131 (dk_at dksL_law_23 5 rfl rfl)
theorem dL_law_641 : decode cL_law 641 = .ok (.istore 6, 2) := dk_54 6 (dk_at dksL_law_23 8 rfl rfl)
theorem dL_law_643 : decode cL_law 643 = .ok (.aload_n 2, 1) := dk_44 (dk_at dksL_law_23 10 rfl rfl)
theorem dL_law_644 : decode cL_law 644 = .ok (.invokevirtual 106, 3) := dk_182 0 106 (dk_at dksL_law_23 11 rfl rfl)
theorem dL_law_647 : decode cL_law 647 = .ok (.iload 5, 2) := dk_21 5 (dk_at dksL_law_23 14 rfl rfl)
theorem dL_law_649 : decode cL_law 649 = .ok (.if_icmp .eq 5, 3) := dk_159 0 5 (dk_at dksL_law_23 16 rfl rfl)
theorem dL_law_652 : decode cL_law 652 = .ok (.iconst 0, 1) := dk_3 (dk_at dksL_law_23 19 rfl rfl)
theorem dL_law_653 : decode cL_law 653 = .ok (.ireturn, 1) := dk_172 (dk_at dksL_law_23 20 rfl rfl)
theorem dL_law_654 : decode cL_law 654 = .ok (.iload 5, 2) := dk_21 5 (dk_at dksL_law_23 21 rfl rfl)
theorem dL_law_656 : decode cL_law 656 = .ok (.ifCond .ne 16, 3) := dk_154 0 16 (dk_at dksL_law_24 0 rfl rfl)
theorem dL_law_659 : decode cL_law 659 = .ok (.aload_n 3, 1) := dk_45 (dk_at dksL_law_24 3 rfl rfl)
theorem dL_law_660 : decode cL_law 660 = .ok (.getfield 13, 3) := dk_180 0 13 (dk_at dksL_law_24 4 rfl rfl)
theorem dL_law_663 : decode cL_law 663 = .ok (.iload 6, 2) := dk_21 6 (dk_at dksL_law_24 7 rfl rfl)
theorem dL_law_665 : decode cL_law 665 = .ok (.i2l, 1) := dk_133 (dk_at dksL_law_24 9 rfl rfl)
theorem dL_law_666 : decode cL_law 666 = .ok (.lcmp, 1) := dk_148 (dk_at dksL_law_24 10 rfl rfl)
theorem dL_law_667 : decode cL_law 667 = .ok (.ifCond .eq 5, 3) := dk_153 0 5 (dk_at dksL_law_24 11 rfl rfl)
theorem dL_law_670 : decode cL_law 670 = .ok (.iconst 0, 1) := dk_3 (dk_at dksL_law_24 14 rfl rfl)
theorem dL_law_671 : decode cL_law 671 = .ok (.ireturn, 1) := dk_172 (dk_at dksL_law_24 15 rfl rfl)
theorem dL_law_672 : decode cL_law 672 = .ok (.goto 976, 3) := dk_167 3 208 (dk_at dksL_law_24 16 rfl rfl)
theorem dL_law_675 : decode cL_law 675 = .ok (.aload_n 1, 1) := dk_43 (dk_at dksL_law_24 19 rfl rfl)
theorem dL_law_676 : decode cL_law 676 = .ok (.aload_n 0, 1) := dk_42 (dk_at dksL_law_24 20 rfl rfl)
theorem dL_law_677 : decode cL_law 677 = .ok (.iload 4, 2) := dk_21 4 (dk_at dksL_law_24 21 rfl rfl)
theorem dL_law_679 : decode cL_law 679 = .ok (.iconst 1, 1) := dk_4 (dk_at dksL_law_24 23 rfl rfl)
theorem dL_law_680 : decode cL_law 680 = .ok (.iadd, 1) := dk_96 (dk_at dksL_law_25 0 rfl rfl)
theorem dL_law_681 : decode cL_law 681 = .ok (.iaload, 1) := dk_46 (dk_at dksL_law_25 1 rfl rfl)
theorem dL_law_682 : decode cL_law 682 = .ok (.aload_n 0, 1) := dk_42 (dk_at dksL_law_25 2 rfl rfl)
theorem dL_law_683 : decode cL_law 683 = .ok (.iload 4, 2) := dk_21 4 (dk_at dksL_law_25 3 rfl rfl)
theorem dL_law_685 : decode cL_law 685 = .ok (.iconst 2, 1) := dk_5 (dk_at dksL_law_25 5 rfl rfl)
theorem dL_law_686 : decode cL_law 686 = .ok (.iadd, 1) := dk_96 (dk_at dksL_law_25 6 rfl rfl)
theorem dL_law_687 : decode cL_law 687 = .ok (.iaload, 1) := dk_46 (dk_at dksL_law_25 7 rfl rfl)
theorem dL_law_688 : decode cL_law 688 = .ok (.aload_n 3, 1) := dk_45 (dk_at dksL_law_25 8 rfl rfl)
theorem dL_law_689 : decode cL_law 689 = .ok (.invokestatic 132, 3) := dk_184 0 132 (dk_at dksL_law_25 9 rfl rfl)
theorem dL_law_692 : decode cL_law 692 = .ok (.istore 5, 2) := dk_54 5 (dk_at dksL_law_25 12 rfl rfl)
theorem dL_law_694 : decode cL_law 694 = .ok (.aload_n 2, 1) := dk_44 (dk_at dksL_law_25 14 rfl rfl)
theorem dL_law_695 : decode cL_law 695 = .ok (.aload_n 0, 1) := dk_42 (dk_at dksL_law_25 15 rfl rfl)
theorem dL_law_696 : decode cL_law 696 = .ok (.iload 4, 2) := dk_21 4 (dk_at dksL_law_25 16 rfl rfl)
theorem dL_law_698 : decode cL_law 698 = .ok (.iconst 1, 1) := dk_4 (dk_at dksL_law_25 18 rfl rfl)
theorem dL_law_699 : decode cL_law 699 = .ok (.iadd, 1) := dk_96 (dk_at dksL_law_25 19 rfl rfl)
theorem dL_law_700 : decode cL_law 700 = .ok (.iaload, 1) := dk_46 (dk_at dksL_law_25 20 rfl rfl)
theorem dL_law_701 : decode cL_law 701 = .ok (.aload_n 0, 1) := dk_42 (dk_at dksL_law_25 21 rfl rfl)
theorem dL_law_702 : decode cL_law 702 = .ok (.iload 4, 2) := dk_21 4 (dk_at dksL_law_25 22 rfl rfl)
theorem dL_law_704 : decode cL_law 704 = .ok (.iconst 2, 1) := dk_5 (dk_at dksL_law_26 0 rfl rfl)
theorem dL_law_705 : decode cL_law 705 = .ok (.iadd, 1) := dk_96 (dk_at dksL_law_26 1 rfl rfl)
theorem dL_law_706 : decode cL_law 706 = .ok (.iaload, 1) := dk_46 (dk_at dksL_law_26 2 rfl rfl)
theorem dL_law_707 : decode cL_law 707 = .ok (.invokevirtual 134, 3) := dk_182 0 134 (dk_at dksL_law_26 3 rfl rfl)
theorem dL_law_710 : decode cL_law 710 = .ok (.istore 6, 2) := dk_54 6 (dk_at dksL_law_26 6 rfl rfl)
theorem dL_law_712 : decode cL_law 712 = .ok (.aload_n 2, 1) := dk_44 (dk_at dksL_law_26 8 rfl rfl)
theorem dL_law_713 : decode cL_law 713 = .ok (.invokevirtual 106, 3) := dk_182 0 106 (dk_at dksL_law_26 9 rfl rfl)
theorem dL_law_716 : decode cL_law 716 = .ok (.iload 5, 2) := dk_21 5 (dk_at dksL_law_26 12 rfl rfl)
theorem dL_law_718 : decode cL_law 718 = .ok (.if_icmp .eq 5, 3) := dk_159 0 5 (dk_at dksL_law_26 14 rfl rfl)
theorem dL_law_721 : decode cL_law 721 = .ok (.iconst 0, 1) := dk_3 (dk_at dksL_law_26 17 rfl rfl)
theorem dL_law_722 : decode cL_law 722 = .ok (.ireturn, 1) := dk_172 (dk_at dksL_law_26 18 rfl rfl)
theorem dL_law_723 : decode cL_law 723 = .ok (.iload 5, 2) := dk_21 5 (dk_at dksL_law_26 19 rfl rfl)
theorem dL_law_725 : decode cL_law 725 = .ok (.ifCond .ne 16, 3) := dk_154 0 16 (dk_at dksL_law_26 21 rfl rfl)
theorem dL_law_728 : decode cL_law 728 = .ok (.aload_n 3, 1) := dk_45 (dk_at dksL_law_27 0 rfl rfl)
theorem dL_law_729 : decode cL_law 729 = .ok (.getfield 13, 3) := dk_180 0 13 (dk_at dksL_law_27 1 rfl rfl)
theorem dL_law_732 : decode cL_law 732 = .ok (.iload 6, 2) := dk_21 6 (dk_at dksL_law_27 4 rfl rfl)
theorem dL_law_734 : decode cL_law 734 = .ok (.i2l, 1) := dk_133 (dk_at dksL_law_27 6 rfl rfl)
theorem dL_law_735 : decode cL_law 735 = .ok (.lcmp, 1) := dk_148 (dk_at dksL_law_27 7 rfl rfl)
theorem dL_law_736 : decode cL_law 736 = .ok (.ifCond .eq 5, 3) := dk_153 0 5 (dk_at dksL_law_27 8 rfl rfl)
theorem dL_law_739 : decode cL_law 739 = .ok (.iconst 0, 1) := dk_3 (dk_at dksL_law_27 11 rfl rfl)
theorem dL_law_740 : decode cL_law 740 = .ok (.ireturn, 1) := dk_172 (dk_at dksL_law_27 12 rfl rfl)
theorem dL_law_741 : decode cL_law 741 = .ok (.goto 907, 3) := dk_167 3 139 (dk_at dksL_law_27 13 rfl rfl)
theorem dL_law_744 : decode cL_law 744 = .ok (.aload_n 1, 1) := dk_43 (dk_at dksL_law_27 16 rfl rfl)
theorem dL_law_745 : decode cL_law 745 = .ok (.invokevirtual 135, 3) := dk_182 0 135 (dk_at dksL_law_27 17 rfl rfl)
theorem dL_law_748 : decode cL_law 748 = .ok (.aload_n 2, 1) := dk_44 (dk_at dksL_law_27 20 rfl rfl)
theorem dL_law_749 : decode cL_law 749 = .ok (.invokevirtual 138, 3) := dk_182 0 138 (dk_at dksL_law_27 21 rfl rfl)
theorem dL_law_752 : decode cL_law 752 = .ok (.if_icmp .eq 896, 3) := dk_159 3 128 (dk_at dksL_law_28 0 rfl rfl)
theorem dL_law_755 : decode cL_law 755 = .ok (.iconst 0, 1) := dk_3 (dk_at dksL_law_28 3 rfl rfl)
theorem dL_law_756 : decode cL_law 756 = .ok (.ireturn, 1) := dk_172 (dk_at dksL_law_28 4 rfl rfl)
theorem dL_law_757 : decode cL_law 757 = .ok (.aload_n 1, 1) := dk_43 (dk_at dksL_law_28 5 rfl rfl)
theorem dL_law_758 : decode cL_law 758 = .ok (.invokevirtual 139, 3) := dk_182 0 139 (dk_at dksL_law_28 6 rfl rfl)
theorem dL_law_761 : decode cL_law 761 = .ok (.aload_n 2, 1) := dk_44 (dk_at dksL_law_28 9 rfl rfl)
theorem dL_law_762 : decode cL_law 762 = .ok (.invokevirtual 142, 3) := dk_182 0 142 (dk_at dksL_law_28 10 rfl rfl)
theorem dL_law_765 : decode cL_law 765 = .ok (.if_icmp .eq 883, 3) := dk_159 3 115 (dk_at dksL_law_28 13 rfl rfl)
theorem dL_law_768 : decode cL_law 768 = .ok (.iconst 0, 1) := dk_3 (dk_at dksL_law_28 16 rfl rfl)
theorem dL_law_769 : decode cL_law 769 = .ok (.ireturn, 1) := dk_172 (dk_at dksL_law_28 17 rfl rfl)
theorem dL_law_770 : decode cL_law 770 = .ok (.aload_n 1, 1) := dk_43 (dk_at dksL_law_28 18 rfl rfl)
theorem dL_law_771 : decode cL_law 771 = .ok (.invokevirtual 143, 3) := dk_182 0 143 (dk_at dksL_law_28 19 rfl rfl)
theorem dL_law_774 : decode cL_law 774 = .ok (.aload_n 2, 1) := dk_44 (dk_at dksL_law_28 22 rfl rfl)
theorem dL_law_775 : decode cL_law 775 = .ok (.invokevirtual 146, 3) := dk_182 0 146 (dk_at dksL_law_29 0 rfl rfl)
theorem dL_law_778 : decode cL_law 778 = .ok (.if_icmp .eq 870, 3) := dk_159 3 102 (dk_at dksL_law_29 3 rfl rfl)
theorem dL_law_781 : decode cL_law 781 = .ok (.iconst 0, 1) := dk_3 (dk_at dksL_law_29 6 rfl rfl)
theorem dL_law_782 : decode cL_law 782 = .ok (.ireturn, 1) := dk_172 (dk_at dksL_law_29 7 rfl rfl)
theorem dL_law_783 : decode cL_law 783 = .ok (.aload_n 1, 1) := dk_43 (dk_at dksL_law_29 8 rfl rfl)
theorem dL_law_784 : decode cL_law 784 = .ok (.invokevirtual 147, 3) := dk_182 0 147 (dk_at dksL_law_29 9 rfl rfl)
theorem dL_law_787 : decode cL_law 787 = .ok (.aload_n 2, 1) := dk_44 (dk_at dksL_law_29 12 rfl rfl)
theorem dL_law_788 : decode cL_law 788 = .ok (.invokevirtual 150, 3) := dk_182 0 150 (dk_at dksL_law_29 13 rfl rfl)
theorem dL_law_791 : decode cL_law 791 = .ok (.if_icmp .eq 857, 3) := dk_159 3 89 (dk_at dksL_law_29 16 rfl rfl)
theorem dL_law_794 : decode cL_law 794 = .ok (.iconst 0, 1) := dk_3 (dk_at dksL_law_29 19 rfl rfl)
theorem dL_law_795 : decode cL_law 795 = .ok (.ireturn, 1) := dk_172 (dk_at dksL_law_29 20 rfl rfl)
theorem dL_law_796 : decode cL_law 796 = .ok (.aload_n 1, 1) := dk_43 (dk_at dksL_law_29 21 rfl rfl)
theorem dL_law_797 : decode cL_law 797 = .ok (.aload_n 0, 1) := dk_42 (dk_at dksL_law_29 22 rfl rfl)
theorem dL_law_798 : decode cL_law 798 = .ok (.iload 4, 2) := dk_21 4 (dk_at dksL_law_30 0 rfl rfl)
theorem dL_law_800 : decode cL_law 800 = .ok (.iconst 1, 1) := dk_4 (dk_at dksL_law_30 2 rfl rfl)
theorem dL_law_801 : decode cL_law 801 = .ok (.iadd, 1) := dk_96 (dk_at dksL_law_30 3 rfl rfl)
theorem dL_law_802 : decode cL_law 802 = .ok (.iaload, 1) := dk_46 (dk_at dksL_law_30 4 rfl rfl)
theorem dL_law_803 : decode cL_law 803 = .ok (.aload_n 3, 1) := dk_45 (dk_at dksL_law_30 5 rfl rfl)
theorem dL_law_804 : decode cL_law 804 = .ok (.invokestatic 151, 3) := dk_184 0 151 (dk_at dksL_law_30 6 rfl rfl)
theorem dL_law_807 : decode cL_law 807 = .ok (.istore 5, 2) := dk_54 5 (dk_at dksL_law_30 9 rfl rfl)
theorem dL_law_809 : decode cL_law 809 = .ok (.aload_n 2, 1) := dk_44 (dk_at dksL_law_30 11 rfl rfl)
theorem dL_law_810 : decode cL_law 810 = .ok (.aload_n 0, 1) := dk_42 (dk_at dksL_law_30 12 rfl rfl)
theorem dL_law_811 : decode cL_law 811 = .ok (.iload 4, 2) := dk_21 4 (dk_at dksL_law_30 13 rfl rfl)
theorem dL_law_813 : decode cL_law 813 = .ok (.iconst 1, 1) := dk_4 (dk_at dksL_law_30 15 rfl rfl)
theorem dL_law_814 : decode cL_law 814 = .ok (.iadd, 1) := dk_96 (dk_at dksL_law_30 16 rfl rfl)
theorem dL_law_815 : decode cL_law 815 = .ok (.iaload, 1) := dk_46 (dk_at dksL_law_30 17 rfl rfl)
theorem dL_law_816 : decode cL_law 816 = .ok (.invokevirtual 153, 3) := dk_182 0 153 (dk_at dksL_law_30 18 rfl rfl)
theorem dL_law_819 : decode cL_law 819 = .ok (.istore 6, 2) := dk_54 6 (dk_at dksL_law_30 21 rfl rfl)
theorem dL_law_821 : decode cL_law 821 = .ok (.aload_n 2, 1) := dk_44 (dk_at dksL_law_30 23 rfl rfl)
theorem dL_law_822 : decode cL_law 822 = .ok (.invokevirtual 106, 3) := dk_182 0 106 (dk_at dksL_law_31 0 rfl rfl)
theorem dL_law_825 : decode cL_law 825 = .ok (.iload 5, 2) := dk_21 5 (dk_at dksL_law_31 3 rfl rfl)
theorem dL_law_827 : decode cL_law 827 = .ok (.if_icmp .eq 5, 3) := dk_159 0 5 (dk_at dksL_law_31 5 rfl rfl)
theorem dL_law_830 : decode cL_law 830 = .ok (.iconst 0, 1) := dk_3 (dk_at dksL_law_31 8 rfl rfl)
theorem dL_law_831 : decode cL_law 831 = .ok (.ireturn, 1) := dk_172 (dk_at dksL_law_31 9 rfl rfl)
theorem dL_law_832 : decode cL_law 832 = .ok (.iload 5, 2) := dk_21 5 (dk_at dksL_law_31 10 rfl rfl)
theorem dL_law_834 : decode cL_law 834 = .ok (.ifCond .ne 16, 3) := dk_154 0 16 (dk_at dksL_law_31 12 rfl rfl)
theorem dL_law_837 : decode cL_law 837 = .ok (.aload_n 3, 1) := dk_45 (dk_at dksL_law_31 15 rfl rfl)
theorem dL_law_838 : decode cL_law 838 = .ok (.getfield 13, 3) := dk_180 0 13 (dk_at dksL_law_31 16 rfl rfl)
theorem dL_law_841 : decode cL_law 841 = .ok (.iload 6, 2) := dk_21 6 (dk_at dksL_law_31 19 rfl rfl)
theorem dL_law_843 : decode cL_law 843 = .ok (.i2l, 1) := dk_133 (dk_at dksL_law_31 21 rfl rfl)
theorem dL_law_844 : decode cL_law 844 = .ok (.lcmp, 1) := dk_148 (dk_at dksL_law_31 22 rfl rfl)
theorem dL_law_845 : decode cL_law 845 = .ok (.ifCond .eq 5, 3) := dk_153 0 5 (dk_at dksL_law_32 0 rfl rfl)
theorem dL_law_848 : decode cL_law 848 = .ok (.iconst 0, 1) := dk_3 (dk_at dksL_law_32 3 rfl rfl)
theorem dL_law_849 : decode cL_law 849 = .ok (.ireturn, 1) := dk_172 (dk_at dksL_law_32 4 rfl rfl)
theorem dL_law_850 : decode cL_law 850 = .ok (.goto 798, 3) := dk_167 3 30 (dk_at dksL_law_32 5 rfl rfl)
theorem dL_law_853 : decode cL_law 853 = .ok (.aload_n 1, 1) := dk_43 (dk_at dksL_law_32 8 rfl rfl)
theorem dL_law_854 : decode cL_law 854 = .ok (.aload_n 0, 1) := dk_42 (dk_at dksL_law_32 9 rfl rfl)
theorem dL_law_855 : decode cL_law 855 = .ok (.iload 4, 2) := dk_21 4 (dk_at dksL_law_32 10 rfl rfl)
theorem dL_law_857 : decode cL_law 857 = .ok (.iconst 1, 1) := dk_4 (dk_at dksL_law_32 12 rfl rfl)
theorem dL_law_858 : decode cL_law 858 = .ok (.iadd, 1) := dk_96 (dk_at dksL_law_32 13 rfl rfl)
theorem dL_law_859 : decode cL_law 859 = .ok (.iaload, 1) := dk_46 (dk_at dksL_law_32 14 rfl rfl)
theorem dL_law_860 : decode cL_law 860 = .ok (.aload_n 0, 1) := dk_42 (dk_at dksL_law_32 15 rfl rfl)
theorem dL_law_861 : decode cL_law 861 = .ok (.iload 4, 2) := dk_21 4 (dk_at dksL_law_32 16 rfl rfl)
theorem dL_law_863 : decode cL_law 863 = .ok (.iconst 2, 1) := dk_5 (dk_at dksL_law_32 18 rfl rfl)
theorem dL_law_864 : decode cL_law 864 = .ok (.iadd, 1) := dk_96 (dk_at dksL_law_32 19 rfl rfl)
theorem dL_law_865 : decode cL_law 865 = .ok (.iaload, 1) := dk_46 (dk_at dksL_law_32 20 rfl rfl)
theorem dL_law_866 : decode cL_law 866 = .ok (.aload_n 3, 1) := dk_45 (dk_at dksL_law_32 21 rfl rfl)
theorem dL_law_867 : decode cL_law 867 = .ok (.invokestatic 154, 3) := dk_184 0 154 (dk_at dksL_law_33 0 rfl rfl)
theorem dL_law_870 : decode cL_law 870 = .ok (.istore 5, 2) := dk_54 5 (dk_at dksL_law_33 3 rfl rfl)
theorem dL_law_872 : decode cL_law 872 = .ok (.aload_n 2, 1) := dk_44 (dk_at dksL_law_33 5 rfl rfl)
theorem dL_law_873 : decode cL_law 873 = .ok (.aload_n 0, 1) := dk_42 (dk_at dksL_law_33 6 rfl rfl)
theorem dL_law_874 : decode cL_law 874 = .ok (.iload 4, 2) := dk_21 4 (dk_at dksL_law_33 7 rfl rfl)
theorem dL_law_876 : decode cL_law 876 = .ok (.iconst 1, 1) := dk_4 (dk_at dksL_law_33 9 rfl rfl)
theorem dL_law_877 : decode cL_law 877 = .ok (.iadd, 1) := dk_96 (dk_at dksL_law_33 10 rfl rfl)
theorem dL_law_878 : decode cL_law 878 = .ok (.iaload, 1) := dk_46 (dk_at dksL_law_33 11 rfl rfl)
theorem dL_law_879 : decode cL_law 879 = .ok (.aload_n 0, 1) := dk_42 (dk_at dksL_law_33 12 rfl rfl)
theorem dL_law_880 : decode cL_law 880 = .ok (.iload 4, 2) := dk_21 4 (dk_at dksL_law_33 13 rfl rfl)
theorem dL_law_882 : decode cL_law 882 = .ok (.iconst 2, 1) := dk_5 (dk_at dksL_law_33 15 rfl rfl)
theorem dL_law_883 : decode cL_law 883 = .ok (.iadd, 1) := dk_96 (dk_at dksL_law_33 16 rfl rfl)
theorem dL_law_884 : decode cL_law 884 = .ok (.iaload, 1) := dk_46 (dk_at dksL_law_33 17 rfl rfl)
theorem dL_law_885 : decode cL_law 885 = .ok (.invokevirtual 156, 3) := dk_182 0 156 (dk_at dksL_law_33 18 rfl rfl)
theorem dL_law_888 : decode cL_law 888 = .ok (.istore 6, 2) := dk_54 6 (dk_at dksL_law_33 21 rfl rfl)
theorem dL_law_890 : decode cL_law 890 = .ok (.aload_n 2, 1) := dk_44 (dk_at dksL_law_33 23 rfl rfl)
theorem dL_law_891 : decode cL_law 891 = .ok (.invokevirtual 106, 3) := dk_182 0 106 (dk_at dksL_law_34 0 rfl rfl)
theorem dL_law_894 : decode cL_law 894 = .ok (.iload 5, 2) := dk_21 5 (dk_at dksL_law_34 3 rfl rfl)
theorem dL_law_896 : decode cL_law 896 = .ok (.if_icmp .eq 5, 3) := dk_159 0 5 (dk_at dksL_law_34 5 rfl rfl)
theorem dL_law_899 : decode cL_law 899 = .ok (.iconst 0, 1) := dk_3 (dk_at dksL_law_34 8 rfl rfl)
theorem dL_law_900 : decode cL_law 900 = .ok (.ireturn, 1) := dk_172 (dk_at dksL_law_34 9 rfl rfl)
theorem dL_law_901 : decode cL_law 901 = .ok (.iload 5, 2) := dk_21 5 (dk_at dksL_law_34 10 rfl rfl)
theorem dL_law_903 : decode cL_law 903 = .ok (.ifCond .ne 16, 3) := dk_154 0 16 (dk_at dksL_law_34 12 rfl rfl)
theorem dL_law_906 : decode cL_law 906 = .ok (.aload_n 3, 1) := dk_45 (dk_at dksL_law_34 15 rfl rfl)
theorem dL_law_907 : decode cL_law 907 = .ok (.getfield 13, 3) := dk_180 0 13 (dk_at dksL_law_34 16 rfl rfl)
theorem dL_law_910 : decode cL_law 910 = .ok (.iload 6, 2) := dk_21 6 (dk_at dksL_law_34 19 rfl rfl)
theorem dL_law_912 : decode cL_law 912 = .ok (.i2l, 1) := dk_133 (dk_at dksL_law_34 21 rfl rfl)
theorem dL_law_913 : decode cL_law 913 = .ok (.lcmp, 1) := dk_148 (dk_at dksL_law_34 22 rfl rfl)
theorem dL_law_914 : decode cL_law 914 = .ok (.ifCond .eq 5, 3) := dk_153 0 5 (dk_at dksL_law_35 0 rfl rfl)
theorem dL_law_917 : decode cL_law 917 = .ok (.iconst 0, 1) := dk_3 (dk_at dksL_law_35 3 rfl rfl)
theorem dL_law_918 : decode cL_law 918 = .ok (.ireturn, 1) := dk_172 (dk_at dksL_law_35 4 rfl rfl)
theorem dL_law_919 : decode cL_law 919 = .ok (.goto 729, 3) := dk_167 2 217 (dk_at dksL_law_35 5 rfl rfl)
theorem dL_law_922 : decode cL_law 922 = .ok (.aload_n 1, 1) := dk_43 (dk_at dksL_law_35 8 rfl rfl)
theorem dL_law_923 : decode cL_law 923 = .ok (.aload_n 0, 1) := dk_42 (dk_at dksL_law_35 9 rfl rfl)
theorem dL_law_924 : decode cL_law 924 = .ok (.iload 4, 2) := dk_21 4 (dk_at dksL_law_35 10 rfl rfl)
theorem dL_law_926 : decode cL_law 926 = .ok (.iconst 1, 1) := dk_4 (dk_at dksL_law_35 12 rfl rfl)
theorem dL_law_927 : decode cL_law 927 = .ok (.iadd, 1) := dk_96 (dk_at dksL_law_35 13 rfl rfl)
theorem dL_law_928 : decode cL_law 928 = .ok (.iaload, 1) := dk_46 (dk_at dksL_law_35 14 rfl rfl)
theorem dL_law_929 : decode cL_law 929 = .ok (.aload_n 3, 1) := dk_45 (dk_at dksL_law_35 15 rfl rfl)
theorem dL_law_930 : decode cL_law 930 = .ok (.invokestatic 157, 3) := dk_184 0 157 (dk_at dksL_law_35 16 rfl rfl)
theorem dL_law_933 : decode cL_law 933 = .ok (.istore 5, 2) := dk_54 5 (dk_at dksL_law_35 19 rfl rfl)
theorem dL_law_935 : decode cL_law 935 = .ok (.aload_n 2, 1) := dk_44 (dk_at dksL_law_35 21 rfl rfl)
theorem dL_law_936 : decode cL_law 936 = .ok (.aload_n 0, 1) := dk_42 (dk_at dksL_law_35 22 rfl rfl)
theorem dL_law_937 : decode cL_law 937 = .ok (.iload 4, 2) := dk_21 4 (dk_at dksL_law_36 0 rfl rfl)
theorem dL_law_939 : decode cL_law 939 = .ok (.iconst 1, 1) := dk_4 (dk_at dksL_law_36 2 rfl rfl)
theorem dL_law_940 : decode cL_law 940 = .ok (.iadd, 1) := dk_96 (dk_at dksL_law_36 3 rfl rfl)
theorem dL_law_941 : decode cL_law 941 = .ok (.iaload, 1) := dk_46 (dk_at dksL_law_36 4 rfl rfl)
theorem dL_law_942 : decode cL_law 942 = .ok (.invokevirtual 159, 3) := dk_182 0 159 (dk_at dksL_law_36 5 rfl rfl)
theorem dL_law_945 : decode cL_law 945 = .ok (.istore 6, 2) := dk_54 6 (dk_at dksL_law_36 8 rfl rfl)
theorem dL_law_947 : decode cL_law 947 = .ok (.aload_n 2, 1) := dk_44 (dk_at dksL_law_36 10 rfl rfl)
theorem dL_law_948 : decode cL_law 948 = .ok (.invokevirtual 106, 3) := dk_182 0 106 (dk_at dksL_law_36 11 rfl rfl)
theorem dL_law_951 : decode cL_law 951 = .ok (.iload 5, 2) := dk_21 5 (dk_at dksL_law_36 14 rfl rfl)
theorem dL_law_953 : decode cL_law 953 = .ok (.if_icmp .eq 5, 3) := dk_159 0 5 (dk_at dksL_law_36 16 rfl rfl)
theorem dL_law_956 : decode cL_law 956 = .ok (.iconst 0, 1) := dk_3 (dk_at dksL_law_36 19 rfl rfl)
theorem dL_law_957 : decode cL_law 957 = .ok (.ireturn, 1) := dk_172 (dk_at dksL_law_36 20 rfl rfl)
theorem dL_law_958 : decode cL_law 958 = .ok (.iload 5, 2) := dk_21 5 (dk_at dksL_law_36 21 rfl rfl)
theorem dL_law_960 : decode cL_law 960 = .ok (.ifCond .ne 16, 3) := dk_154 0 16 (dk_at dksL_law_37 0 rfl rfl)
theorem dL_law_963 : decode cL_law 963 = .ok (.aload_n 3, 1) := dk_45 (dk_at dksL_law_37 3 rfl rfl)
theorem dL_law_964 : decode cL_law 964 = .ok (.getfield 13, 3) := dk_180 0 13 (dk_at dksL_law_37 4 rfl rfl)
theorem dL_law_967 : decode cL_law 967 = .ok (.iload 6, 2) := dk_21 6 (dk_at dksL_law_37 7 rfl rfl)
theorem dL_law_969 : decode cL_law 969 = .ok (.i2l, 1) := dk_133 (dk_at dksL_law_37 9 rfl rfl)
theorem dL_law_970 : decode cL_law 970 = .ok (.lcmp, 1) := dk_148 (dk_at dksL_law_37 10 rfl rfl)
theorem dL_law_971 : decode cL_law 971 = .ok (.ifCond .eq 5, 3) := dk_153 0 5 (dk_at dksL_law_37 11 rfl rfl)
theorem dL_law_974 : decode cL_law 974 = .ok (.iconst 0, 1) := dk_3 (dk_at dksL_law_37 14 rfl rfl)
theorem dL_law_975 : decode cL_law 975 = .ok (.ireturn, 1) := dk_172 (dk_at dksL_law_37 15 rfl rfl)
theorem dL_law_976 : decode cL_law 976 = .ok (.goto 672, 3) := dk_167 2 160 (dk_at dksL_law_37 16 rfl rfl)
theorem dL_law_979 : decode cL_law 979 = .ok (.aload_n 1, 1) := dk_43 (dk_at dksL_law_37 19 rfl rfl)
theorem dL_law_980 : decode cL_law 980 = .ok (.aload_n 0, 1) := dk_42 (dk_at dksL_law_37 20 rfl rfl)
theorem dL_law_981 : decode cL_law 981 = .ok (.iload 4, 2) := dk_21 4 (dk_at dksL_law_37 21 rfl rfl)
theorem dL_law_983 : decode cL_law 983 = .ok (.iconst 1, 1) := dk_4 (dk_at dksL_law_37 23 rfl rfl)
theorem dL_law_984 : decode cL_law 984 = .ok (.iadd, 1) := dk_96 (dk_at dksL_law_38 0 rfl rfl)
theorem dL_law_985 : decode cL_law 985 = .ok (.iaload, 1) := dk_46 (dk_at dksL_law_38 1 rfl rfl)
theorem dL_law_986 : decode cL_law 986 = .ok (.aload_n 0, 1) := dk_42 (dk_at dksL_law_38 2 rfl rfl)
theorem dL_law_987 : decode cL_law 987 = .ok (.iload 4, 2) := dk_21 4 (dk_at dksL_law_38 3 rfl rfl)
theorem dL_law_989 : decode cL_law 989 = .ok (.iconst 2, 1) := dk_5 (dk_at dksL_law_38 5 rfl rfl)
theorem dL_law_990 : decode cL_law 990 = .ok (.iadd, 1) := dk_96 (dk_at dksL_law_38 6 rfl rfl)
theorem dL_law_991 : decode cL_law 991 = .ok (.iaload, 1) := dk_46 (dk_at dksL_law_38 7 rfl rfl)
theorem dL_law_992 : decode cL_law 992 = .ok (.aload_n 3, 1) := dk_45 (dk_at dksL_law_38 8 rfl rfl)
theorem dL_law_993 : decode cL_law 993 = .ok (.invokestatic 160, 3) := dk_184 0 160 (dk_at dksL_law_38 9 rfl rfl)
theorem dL_law_996 : decode cL_law 996 = .ok (.istore 5, 2) := dk_54 5 (dk_at dksL_law_38 12 rfl rfl)
theorem dL_law_998 : decode cL_law 998 = .ok (.aload_n 2, 1) := dk_44 (dk_at dksL_law_38 14 rfl rfl)
theorem dL_law_999 : decode cL_law 999 = .ok (.aload_n 0, 1) := dk_42 (dk_at dksL_law_38 15 rfl rfl)
theorem dL_law_1000 : decode cL_law 1000 = .ok (.iload 4, 2) := dk_21 4 (dk_at dksL_law_38 16 rfl rfl)
theorem dL_law_1002 : decode cL_law 1002 = .ok (.iconst 1, 1) := dk_4 (dk_at dksL_law_38 18 rfl rfl)
theorem dL_law_1003 : decode cL_law 1003 = .ok (.iadd, 1) := dk_96 (dk_at dksL_law_38 19 rfl rfl)
theorem dL_law_1004 : decode cL_law 1004 = .ok (.iaload, 1) := dk_46 (dk_at dksL_law_38 20 rfl rfl)
theorem dL_law_1005 : decode cL_law 1005 = .ok (.aload_n 0, 1) := dk_42 (dk_at dksL_law_38 21 rfl rfl)
theorem dL_law_1006 : decode cL_law 1006 = .ok (.iload 4, 2) := dk_21 4 (dk_at dksL_law_38 22 rfl rfl)
theorem dL_law_1008 : decode cL_law 1008 = .ok (.iconst 2, 1) := dk_5 (dk_at dksL_law_39 0 rfl rfl)
theorem dL_law_1009 : decode cL_law 1009 = .ok (.iadd, 1) := dk_96 (dk_at dksL_law_39 1 rfl rfl)
theorem dL_law_1010 : decode cL_law 1010 = .ok (.iaload, 1) := dk_46 (dk_at dksL_law_39 2 rfl rfl)
theorem dL_law_1011 : decode cL_law 1011 = .ok (.invokevirtual 162, 3) := dk_182 0 162 (dk_at dksL_law_39 3 rfl rfl)
theorem dL_law_1014 : decode cL_law 1014 = .ok (.istore 6, 2) := dk_54 6 (dk_at dksL_law_39 6 rfl rfl)
theorem dL_law_1016 : decode cL_law 1016 = .ok (.aload_n 2, 1) := dk_44 (dk_at dksL_law_39 8 rfl rfl)
theorem dL_law_1017 : decode cL_law 1017 = .ok (.invokevirtual 106, 3) := dk_182 0 106 (dk_at dksL_law_39 9 rfl rfl)
theorem dL_law_1020 : decode cL_law 1020 = .ok (.iload 5, 2) := dk_21 5 (dk_at dksL_law_39 12 rfl rfl)
theorem dL_law_1022 : decode cL_law 1022 = .ok (.if_icmp .eq 5, 3) := dk_159 0 5 (dk_at dksL_law_39 14 rfl rfl)
theorem dL_law_1025 : decode cL_law 1025 = .ok (.iconst 0, 1) := dk_3 (dk_at dksL_law_39 17 rfl rfl)
theorem dL_law_1026 : decode cL_law 1026 = .ok (.ireturn, 1) := dk_172 (dk_at dksL_law_39 18 rfl rfl)
theorem dL_law_1027 : decode cL_law 1027 = .ok (.iload 5, 2) := dk_21 5 (dk_at dksL_law_39 19 rfl rfl)
theorem dL_law_1029 : decode cL_law 1029 = .ok (.ifCond .ne 16, 3) := dk_154 0 16 (dk_at dksL_law_39 21 rfl rfl)
theorem dL_law_1032 : decode cL_law 1032 = .ok (.aload_n 3, 1) := dk_45 (dk_at dksL_law_40 0 rfl rfl)
theorem dL_law_1033 : decode cL_law 1033 = .ok (.getfield 13, 3) := dk_180 0 13 (dk_at dksL_law_40 1 rfl rfl)
theorem dL_law_1036 : decode cL_law 1036 = .ok (.iload 6, 2) := dk_21 6 (dk_at dksL_law_40 4 rfl rfl)
theorem dL_law_1038 : decode cL_law 1038 = .ok (.i2l, 1) := dk_133 (dk_at dksL_law_40 6 rfl rfl)
theorem dL_law_1039 : decode cL_law 1039 = .ok (.lcmp, 1) := dk_148 (dk_at dksL_law_40 7 rfl rfl)
theorem dL_law_1040 : decode cL_law 1040 = .ok (.ifCond .eq 5, 3) := dk_153 0 5 (dk_at dksL_law_40 8 rfl rfl)
theorem dL_law_1043 : decode cL_law 1043 = .ok (.iconst 0, 1) := dk_3 (dk_at dksL_law_40 11 rfl rfl)
theorem dL_law_1044 : decode cL_law 1044 = .ok (.ireturn, 1) := dk_172 (dk_at dksL_law_40 12 rfl rfl)
theorem dL_law_1045 : decode cL_law 1045 = .ok (.goto 603, 3) := dk_167 2 91 (dk_at dksL_law_40 13 rfl rfl)
theorem dL_law_1048 : decode cL_law 1048 = .ok (.aload_n 1, 1) := dk_43 (dk_at dksL_law_40 16 rfl rfl)
theorem dL_law_1049 : decode cL_law 1049 = .ok (.aload_n 0, 1) := dk_42 (dk_at dksL_law_40 17 rfl rfl)
theorem dL_law_1050 : decode cL_law 1050 = .ok (.iload 4, 2) := dk_21 4 (dk_at dksL_law_40 18 rfl rfl)
theorem dL_law_1052 : decode cL_law 1052 = .ok (.iconst 1, 1) := dk_4 (dk_at dksL_law_40 20 rfl rfl)
theorem dL_law_1053 : decode cL_law 1053 = .ok (.iadd, 1) := dk_96 (dk_at dksL_law_40 21 rfl rfl)
theorem dL_law_1054 : decode cL_law 1054 = .ok (.iaload, 1) := dk_46 (dk_at dksL_law_40 22 rfl rfl)
theorem dL_law_1055 : decode cL_law 1055 = .ok (.aload_n 3, 1) := dk_45 (dk_at dksL_law_40 23 rfl rfl)
theorem dL_law_1056 : decode cL_law 1056 = .ok (.invokestatic 163, 3) := dk_184 0 163 (dk_at dksL_law_41 0 rfl rfl)
theorem dL_law_1059 : decode cL_law 1059 = .ok (.istore 5, 2) := dk_54 5 (dk_at dksL_law_41 3 rfl rfl)
theorem dL_law_1061 : decode cL_law 1061 = .ok (.aload_n 2, 1) := dk_44 (dk_at dksL_law_41 5 rfl rfl)
theorem dL_law_1062 : decode cL_law 1062 = .ok (.aload_n 0, 1) := dk_42 (dk_at dksL_law_41 6 rfl rfl)
theorem dL_law_1063 : decode cL_law 1063 = .ok (.iload 4, 2) := dk_21 4 (dk_at dksL_law_41 7 rfl rfl)
theorem dL_law_1065 : decode cL_law 1065 = .ok (.iconst 1, 1) := dk_4 (dk_at dksL_law_41 9 rfl rfl)
theorem dL_law_1066 : decode cL_law 1066 = .ok (.iadd, 1) := dk_96 (dk_at dksL_law_41 10 rfl rfl)
theorem dL_law_1067 : decode cL_law 1067 = .ok (.iaload, 1) := dk_46 (dk_at dksL_law_41 11 rfl rfl)
theorem dL_law_1068 : decode cL_law 1068 = .ok (.invokevirtual 165, 3) := dk_182 0 165 (dk_at dksL_law_41 12 rfl rfl)
theorem dL_law_1071 : decode cL_law 1071 = .ok (.astore 6, 2) := dk_58 6 (dk_at dksL_law_41 15 rfl rfl)
theorem dL_law_1073 : decode cL_law 1073 = .ok (.aload_n 2, 1) := dk_44 (dk_at dksL_law_41 17 rfl rfl)
theorem dL_law_1074 : decode cL_law 1074 = .ok (.invokevirtual 106, 3) := dk_182 0 106 (dk_at dksL_law_41 18 rfl rfl)
theorem dL_law_1077 : decode cL_law 1077 = .ok (.iload 5, 2) := dk_21 5 (dk_at dksL_law_41 21 rfl rfl)
theorem dL_law_1079 : decode cL_law 1079 = .ok (.if_icmp .eq 5, 3) := dk_159 0 5 (dk_at dksL_law_42 0 rfl rfl)
theorem dL_law_1082 : decode cL_law 1082 = .ok (.iconst 0, 1) := dk_3 (dk_at dksL_law_42 3 rfl rfl)
theorem dL_law_1083 : decode cL_law 1083 = .ok (.ireturn, 1) := dk_172 (dk_at dksL_law_42 4 rfl rfl)
theorem dL_law_1084 : decode cL_law 1084 = .ok (.iload 5, 2) := dk_21 5 (dk_at dksL_law_42 5 rfl rfl)
theorem dL_law_1086 : decode cL_law 1086 = .ok (.ifCond .ne 17, 3) := dk_154 0 17 (dk_at dksL_law_42 7 rfl rfl)
theorem dL_law_1089 : decode cL_law 1089 = .ok (.aload_n 3, 1) := dk_45 (dk_at dksL_law_42 10 rfl rfl)
theorem dL_law_1090 : decode cL_law 1090 = .ok (.getfield 67, 3) := dk_180 0 67 (dk_at dksL_law_42 11 rfl rfl)
theorem dL_law_1093 : decode cL_law 1093 = .ok (.aload 6, 2) := dk_25 6 (dk_at dksL_law_42 14 rfl rfl)
theorem dL_law_1095 : decode cL_law 1095 = .ok (.invokevirtual 166, 3) := dk_182 0 166 (dk_at dksL_law_42 16 rfl rfl)
theorem dL_law_1098 : decode cL_law 1098 = .ok (.ifCond .ne 5, 3) := dk_154 0 5 (dk_at dksL_law_42 19 rfl rfl)
theorem dL_law_1101 : decode cL_law 1101 = .ok (.iconst 0, 1) := dk_3 (dk_at dksL_law_42 22 rfl rfl)
theorem dL_law_1102 : decode cL_law 1102 = .ok (.ireturn, 1) := dk_172 (dk_at dksL_law_42 23 rfl rfl)
theorem dL_law_1103 : decode cL_law 1103 = .ok (.goto 545, 3) := dk_167 2 33 (dk_at dksL_law_43 0 rfl rfl)
theorem dL_law_1106 : decode cL_law 1106 = .ok (.aload_n 1, 1) := dk_43 (dk_at dksL_law_43 3 rfl rfl)
theorem dL_law_1107 : decode cL_law 1107 = .ok (.aload_n 0, 1) := dk_42 (dk_at dksL_law_43 4 rfl rfl)
theorem dL_law_1108 : decode cL_law 1108 = .ok (.iload 4, 2) := dk_21 4 (dk_at dksL_law_43 5 rfl rfl)
theorem dL_law_1110 : decode cL_law 1110 = .ok (.iconst 1, 1) := dk_4 (dk_at dksL_law_43 7 rfl rfl)
theorem dL_law_1111 : decode cL_law 1111 = .ok (.iadd, 1) := dk_96 (dk_at dksL_law_43 8 rfl rfl)
theorem dL_law_1112 : decode cL_law 1112 = .ok (.iaload, 1) := dk_46 (dk_at dksL_law_43 9 rfl rfl)
theorem dL_law_1113 : decode cL_law 1113 = .ok (.aload_n 0, 1) := dk_42 (dk_at dksL_law_43 10 rfl rfl)
theorem dL_law_1114 : decode cL_law 1114 = .ok (.iload 4, 2) := dk_21 4 (dk_at dksL_law_43 11 rfl rfl)
theorem dL_law_1116 : decode cL_law 1116 = .ok (.iconst 2, 1) := dk_5 (dk_at dksL_law_43 13 rfl rfl)
theorem dL_law_1117 : decode cL_law 1117 = .ok (.iadd, 1) := dk_96 (dk_at dksL_law_43 14 rfl rfl)
theorem dL_law_1118 : decode cL_law 1118 = .ok (.iaload, 1) := dk_46 (dk_at dksL_law_43 15 rfl rfl)
theorem dL_law_1119 : decode cL_law 1119 = .ok (.aload_n 3, 1) := dk_45 (dk_at dksL_law_43 16 rfl rfl)
theorem dL_law_1120 : decode cL_law 1120 = .ok (.invokestatic 172, 3) := dk_184 0 172 (dk_at dksL_law_43 17 rfl rfl)
theorem dL_law_1123 : decode cL_law 1123 = .ok (.istore 5, 2) := dk_54 5 (dk_at dksL_law_43 20 rfl rfl)
theorem dL_law_1125 : decode cL_law 1125 = .ok (.aload_n 2, 1) := dk_44 (dk_at dksL_law_43 22 rfl rfl)
theorem dL_law_1126 : decode cL_law 1126 = .ok (.aload_n 0, 1) := dk_42 (dk_at dksL_law_43 23 rfl rfl)
theorem dL_law_1127 : decode cL_law 1127 = .ok (.iload 4, 2) := dk_21 4 (dk_at dksL_law_44 0 rfl rfl)
theorem dL_law_1129 : decode cL_law 1129 = .ok (.iconst 1, 1) := dk_4 (dk_at dksL_law_44 2 rfl rfl)
theorem dL_law_1130 : decode cL_law 1130 = .ok (.iadd, 1) := dk_96 (dk_at dksL_law_44 3 rfl rfl)
theorem dL_law_1131 : decode cL_law 1131 = .ok (.iaload, 1) := dk_46 (dk_at dksL_law_44 4 rfl rfl)
theorem dL_law_1132 : decode cL_law 1132 = .ok (.aload_n 0, 1) := dk_42 (dk_at dksL_law_44 5 rfl rfl)
theorem dL_law_1133 : decode cL_law 1133 = .ok (.iload 4, 2) := dk_21 4 (dk_at dksL_law_44 6 rfl rfl)
theorem dL_law_1135 : decode cL_law 1135 = .ok (.iconst 2, 1) := dk_5 (dk_at dksL_law_44 8 rfl rfl)
theorem dL_law_1136 : decode cL_law 1136 = .ok (.iadd, 1) := dk_96 (dk_at dksL_law_44 9 rfl rfl)
theorem dL_law_1137 : decode cL_law 1137 = .ok (.iaload, 1) := dk_46 (dk_at dksL_law_44 10 rfl rfl)
theorem dL_law_1138 : decode cL_law 1138 = .ok (.invokevirtual 174, 3) := dk_182 0 174 (dk_at dksL_law_44 11 rfl rfl)
theorem dL_law_1141 : decode cL_law 1141 = .ok (.istore 6, 2) := dk_54 6 (dk_at dksL_law_44 14 rfl rfl)
theorem dL_law_1143 : decode cL_law 1143 = .ok (.aload_n 2, 1) := dk_44 (dk_at dksL_law_44 16 rfl rfl)
theorem dL_law_1144 : decode cL_law 1144 = .ok (.invokevirtual 106, 3) := dk_182 0 106 (dk_at dksL_law_44 17 rfl rfl)
theorem dL_law_1147 : decode cL_law 1147 = .ok (.iload 5, 2) := dk_21 5 (dk_at dksL_law_44 20 rfl rfl)
theorem dL_law_1149 : decode cL_law 1149 = .ok (.if_icmp .eq 5, 3) := dk_159 0 5 (dk_at dksL_law_45 0 rfl rfl)
theorem dL_law_1152 : decode cL_law 1152 = .ok (.iconst 0, 1) := dk_3 (dk_at dksL_law_45 3 rfl rfl)
theorem dL_law_1153 : decode cL_law 1153 = .ok (.ireturn, 1) := dk_172 (dk_at dksL_law_45 4 rfl rfl)
theorem dL_law_1154 : decode cL_law 1154 = .ok (.iload 5, 2) := dk_21 5 (dk_at dksL_law_45 5 rfl rfl)
theorem dL_law_1156 : decode cL_law 1156 = .ok (.ifCond .ne 16, 3) := dk_154 0 16 (dk_at dksL_law_45 7 rfl rfl)
theorem dL_law_1159 : decode cL_law 1159 = .ok (.aload_n 3, 1) := dk_45 (dk_at dksL_law_45 10 rfl rfl)
theorem dL_law_1160 : decode cL_law 1160 = .ok (.getfield 13, 3) := dk_180 0 13 (dk_at dksL_law_45 11 rfl rfl)
theorem dL_law_1163 : decode cL_law 1163 = .ok (.iload 6, 2) := dk_21 6 (dk_at dksL_law_45 14 rfl rfl)
theorem dL_law_1165 : decode cL_law 1165 = .ok (.i2l, 1) := dk_133 (dk_at dksL_law_45 16 rfl rfl)
theorem dL_law_1166 : decode cL_law 1166 = .ok (.lcmp, 1) := dk_148 (dk_at dksL_law_45 17 rfl rfl)
theorem dL_law_1167 : decode cL_law 1167 = .ok (.ifCond .eq 5, 3) := dk_153 0 5 (dk_at dksL_law_45 18 rfl rfl)
theorem dL_law_1170 : decode cL_law 1170 = .ok (.iconst 0, 1) := dk_3 (dk_at dksL_law_45 21 rfl rfl)
theorem dL_law_1171 : decode cL_law 1171 = .ok (.ireturn, 1) := dk_172 (dk_at dksL_law_45 22 rfl rfl)
theorem dL_law_1172 : decode cL_law 1172 = .ok (.goto 476, 3) := dk_167 1 220 (dk_at dksL_law_46 0 rfl rfl)
theorem dL_law_1175 : decode cL_law 1175 = .ok (.aload_n 1, 1) := dk_43 (dk_at dksL_law_46 3 rfl rfl)
theorem dL_law_1176 : decode cL_law 1176 = .ok (.aload_n 0, 1) := dk_42 (dk_at dksL_law_46 4 rfl rfl)
theorem dL_law_1177 : decode cL_law 1177 = .ok (.iload 4, 2) := dk_21 4 (dk_at dksL_law_46 5 rfl rfl)
theorem dL_law_1179 : decode cL_law 1179 = .ok (.iconst 1, 1) := dk_4 (dk_at dksL_law_46 7 rfl rfl)
theorem dL_law_1180 : decode cL_law 1180 = .ok (.iadd, 1) := dk_96 (dk_at dksL_law_46 8 rfl rfl)
theorem dL_law_1181 : decode cL_law 1181 = .ok (.iaload, 1) := dk_46 (dk_at dksL_law_46 9 rfl rfl)
theorem dL_law_1182 : decode cL_law 1182 = .ok (.aload_n 3, 1) := dk_45 (dk_at dksL_law_46 10 rfl rfl)
theorem dL_law_1183 : decode cL_law 1183 = .ok (.invokestatic 175, 3) := dk_184 0 175 (dk_at dksL_law_46 11 rfl rfl)
theorem dL_law_1186 : decode cL_law 1186 = .ok (.istore 5, 2) := dk_54 5 (dk_at dksL_law_46 14 rfl rfl)
theorem dL_law_1188 : decode cL_law 1188 = .ok (.aload_n 2, 1) := dk_44 (dk_at dksL_law_46 16 rfl rfl)
theorem dL_law_1189 : decode cL_law 1189 = .ok (.aload_n 0, 1) := dk_42 (dk_at dksL_law_46 17 rfl rfl)
theorem dL_law_1190 : decode cL_law 1190 = .ok (.iload 4, 2) := dk_21 4 (dk_at dksL_law_46 18 rfl rfl)
theorem dL_law_1192 : decode cL_law 1192 = .ok (.iconst 1, 1) := dk_4 (dk_at dksL_law_46 20 rfl rfl)
theorem dL_law_1193 : decode cL_law 1193 = .ok (.iadd, 1) := dk_96 (dk_at dksL_law_46 21 rfl rfl)
theorem dL_law_1194 : decode cL_law 1194 = .ok (.iaload, 1) := dk_46 (dk_at dksL_law_46 22 rfl rfl)
theorem dL_law_1195 : decode cL_law 1195 = .ok (.invokevirtual 177, 3) := dk_182 0 177 (dk_at dksL_law_47 0 rfl rfl)
theorem dL_law_1198 : decode cL_law 1198 = .ok (.istore 6, 2) := dk_54 6 (dk_at dksL_law_47 3 rfl rfl)
theorem dL_law_1200 : decode cL_law 1200 = .ok (.aload_n 2, 1) := dk_44 (dk_at dksL_law_47 5 rfl rfl)
theorem dL_law_1201 : decode cL_law 1201 = .ok (.invokevirtual 106, 3) := dk_182 0 106 (dk_at dksL_law_47 6 rfl rfl)
theorem dL_law_1204 : decode cL_law 1204 = .ok (.iload 5, 2) := dk_21 5 (dk_at dksL_law_47 9 rfl rfl)
theorem dL_law_1206 : decode cL_law 1206 = .ok (.if_icmp .eq 5, 3) := dk_159 0 5 (dk_at dksL_law_47 11 rfl rfl)
theorem dL_law_1209 : decode cL_law 1209 = .ok (.iconst 0, 1) := dk_3 (dk_at dksL_law_47 14 rfl rfl)
theorem dL_law_1210 : decode cL_law 1210 = .ok (.ireturn, 1) := dk_172 (dk_at dksL_law_47 15 rfl rfl)
theorem dL_law_1211 : decode cL_law 1211 = .ok (.iload 5, 2) := dk_21 5 (dk_at dksL_law_47 16 rfl rfl)
theorem dL_law_1213 : decode cL_law 1213 = .ok (.ifCond .ne 16, 3) := dk_154 0 16 (dk_at dksL_law_47 18 rfl rfl)
theorem dL_law_1216 : decode cL_law 1216 = .ok (.aload_n 3, 1) := dk_45 (dk_at dksL_law_47 21 rfl rfl)
theorem dL_law_1217 : decode cL_law 1217 = .ok (.getfield 13, 3) := dk_180 0 13 (dk_at dksL_law_48 0 rfl rfl)
theorem dL_law_1220 : decode cL_law 1220 = .ok (.iload 6, 2) := dk_21 6 (dk_at dksL_law_48 3 rfl rfl)
theorem dL_law_1222 : decode cL_law 1222 = .ok (.i2l, 1) := dk_133 (dk_at dksL_law_48 5 rfl rfl)
theorem dL_law_1223 : decode cL_law 1223 = .ok (.lcmp, 1) := dk_148 (dk_at dksL_law_48 6 rfl rfl)
theorem dL_law_1224 : decode cL_law 1224 = .ok (.ifCond .eq 5, 3) := dk_153 0 5 (dk_at dksL_law_48 7 rfl rfl)
theorem dL_law_1227 : decode cL_law 1227 = .ok (.iconst 0, 1) := dk_3 (dk_at dksL_law_48 10 rfl rfl)
theorem dL_law_1228 : decode cL_law 1228 = .ok (.ireturn, 1) := dk_172 (dk_at dksL_law_48 11 rfl rfl)
theorem dL_law_1229 : decode cL_law 1229 = .ok (.goto 419, 3) := dk_167 1 163 (dk_at dksL_law_48 12 rfl rfl)
theorem dL_law_1232 : decode cL_law 1232 = .ok (.aload_n 1, 1) := dk_43 (dk_at dksL_law_48 15 rfl rfl)
theorem dL_law_1233 : decode cL_law 1233 = .ok (.aload_n 0, 1) := dk_42 (dk_at dksL_law_48 16 rfl rfl)
theorem dL_law_1234 : decode cL_law 1234 = .ok (.iload 4, 2) := dk_21 4 (dk_at dksL_law_48 17 rfl rfl)
theorem dL_law_1236 : decode cL_law 1236 = .ok (.iconst 1, 1) := dk_4 (dk_at dksL_law_48 19 rfl rfl)
theorem dL_law_1237 : decode cL_law 1237 = .ok (.iadd, 1) := dk_96 (dk_at dksL_law_48 20 rfl rfl)
theorem dL_law_1238 : decode cL_law 1238 = .ok (.iaload, 1) := dk_46 (dk_at dksL_law_48 21 rfl rfl)
theorem dL_law_1239 : decode cL_law 1239 = .ok (.aload_n 0, 1) := dk_42 (dk_at dksL_law_48 22 rfl rfl)
theorem dL_law_1240 : decode cL_law 1240 = .ok (.iload 4, 2) := dk_21 4 (dk_at dksL_law_49 0 rfl rfl)
theorem dL_law_1242 : decode cL_law 1242 = .ok (.iconst 2, 1) := dk_5 (dk_at dksL_law_49 2 rfl rfl)
theorem dL_law_1243 : decode cL_law 1243 = .ok (.iadd, 1) := dk_96 (dk_at dksL_law_49 3 rfl rfl)
theorem dL_law_1244 : decode cL_law 1244 = .ok (.iaload, 1) := dk_46 (dk_at dksL_law_49 4 rfl rfl)
theorem dL_law_1245 : decode cL_law 1245 = .ok (.aload_n 3, 1) := dk_45 (dk_at dksL_law_49 5 rfl rfl)
theorem dL_law_1246 : decode cL_law 1246 = .ok (.invokestatic 178, 3) := dk_184 0 178 (dk_at dksL_law_49 6 rfl rfl)
theorem dL_law_1249 : decode cL_law 1249 = .ok (.istore 5, 2) := dk_54 5 (dk_at dksL_law_49 9 rfl rfl)
theorem dL_law_1251 : decode cL_law 1251 = .ok (.aload_n 2, 1) := dk_44 (dk_at dksL_law_49 11 rfl rfl)
theorem dL_law_1252 : decode cL_law 1252 = .ok (.aload_n 0, 1) := dk_42 (dk_at dksL_law_49 12 rfl rfl)
theorem dL_law_1253 : decode cL_law 1253 = .ok (.iload 4, 2) := dk_21 4 (dk_at dksL_law_49 13 rfl rfl)
theorem dL_law_1255 : decode cL_law 1255 = .ok (.iconst 1, 1) := dk_4 (dk_at dksL_law_49 15 rfl rfl)
theorem dL_law_1256 : decode cL_law 1256 = .ok (.iadd, 1) := dk_96 (dk_at dksL_law_49 16 rfl rfl)
theorem dL_law_1257 : decode cL_law 1257 = .ok (.iaload, 1) := dk_46 (dk_at dksL_law_49 17 rfl rfl)
theorem dL_law_1258 : decode cL_law 1258 = .ok (.aload_n 0, 1) := dk_42 (dk_at dksL_law_49 18 rfl rfl)
theorem dL_law_1259 : decode cL_law 1259 = .ok (.iload 4, 2) := dk_21 4 (dk_at dksL_law_49 19 rfl rfl)
theorem dL_law_1261 : decode cL_law 1261 = .ok (.iconst 2, 1) := dk_5 (dk_at dksL_law_49 21 rfl rfl)
theorem dL_law_1262 : decode cL_law 1262 = .ok (.iadd, 1) := dk_96 (dk_at dksL_law_49 22 rfl rfl)
theorem dL_law_1263 : decode cL_law 1263 = .ok (.iaload, 1) := dk_46 (dk_at dksL_law_49 23 rfl rfl)
theorem dL_law_1264 : decode cL_law 1264 = .ok (.invokevirtual 180, 3) := dk_182 0 180 (dk_at dksL_law_50 0 rfl rfl)
theorem dL_law_1267 : decode cL_law 1267 = .ok (.istore 6, 2) := dk_54 6 (dk_at dksL_law_50 3 rfl rfl)
theorem dL_law_1269 : decode cL_law 1269 = .ok (.aload_n 2, 1) := dk_44 (dk_at dksL_law_50 5 rfl rfl)
theorem dL_law_1270 : decode cL_law 1270 = .ok (.invokevirtual 106, 3) := dk_182 0 106 (dk_at dksL_law_50 6 rfl rfl)
theorem dL_law_1273 : decode cL_law 1273 = .ok (.iload 5, 2) := dk_21 5 (dk_at dksL_law_50 9 rfl rfl)
theorem dL_law_1275 : decode cL_law 1275 = .ok (.if_icmp .eq 5, 3) := dk_159 0 5 (dk_at dksL_law_50 11 rfl rfl)
theorem dL_law_1278 : decode cL_law 1278 = .ok (.iconst 0, 1) := dk_3 (dk_at dksL_law_50 14 rfl rfl)
theorem dL_law_1279 : decode cL_law 1279 = .ok (.ireturn, 1) := dk_172 (dk_at dksL_law_50 15 rfl rfl)
theorem dL_law_1280 : decode cL_law 1280 = .ok (.iload 5, 2) := dk_21 5 (dk_at dksL_law_50 16 rfl rfl)
theorem dL_law_1282 : decode cL_law 1282 = .ok (.ifCond .ne 16, 3) := dk_154 0 16 (dk_at dksL_law_50 18 rfl rfl)
theorem dL_law_1285 : decode cL_law 1285 = .ok (.aload_n 3, 1) := dk_45 (dk_at dksL_law_50 21 rfl rfl)
theorem dL_law_1286 : decode cL_law 1286 = .ok (.getfield 13, 3) := dk_180 0 13 (dk_at dksL_law_51 0 rfl rfl)
theorem dL_law_1289 : decode cL_law 1289 = .ok (.iload 6, 2) := dk_21 6 (dk_at dksL_law_51 3 rfl rfl)
theorem dL_law_1291 : decode cL_law 1291 = .ok (.i2l, 1) := dk_133 (dk_at dksL_law_51 5 rfl rfl)
theorem dL_law_1292 : decode cL_law 1292 = .ok (.lcmp, 1) := dk_148 (dk_at dksL_law_51 6 rfl rfl)
theorem dL_law_1293 : decode cL_law 1293 = .ok (.ifCond .eq 5, 3) := dk_153 0 5 (dk_at dksL_law_51 7 rfl rfl)
theorem dL_law_1296 : decode cL_law 1296 = .ok (.iconst 0, 1) := dk_3 (dk_at dksL_law_51 10 rfl rfl)
theorem dL_law_1297 : decode cL_law 1297 = .ok (.ireturn, 1) := dk_172 (dk_at dksL_law_51 11 rfl rfl)
theorem dL_law_1298 : decode cL_law 1298 = .ok (.goto 350, 3) := dk_167 1 94 (dk_at dksL_law_51 12 rfl rfl)
theorem dL_law_1301 : decode cL_law 1301 = .ok (.aload_n 1, 1) := dk_43 (dk_at dksL_law_51 15 rfl rfl)
theorem dL_law_1302 : decode cL_law 1302 = .ok (.aload_n 0, 1) := dk_42 (dk_at dksL_law_51 16 rfl rfl)
theorem dL_law_1303 : decode cL_law 1303 = .ok (.iload 4, 2) := dk_21 4 (dk_at dksL_law_51 17 rfl rfl)
theorem dL_law_1305 : decode cL_law 1305 = .ok (.iconst 1, 1) := dk_4 (dk_at dksL_law_51 19 rfl rfl)
theorem dL_law_1306 : decode cL_law 1306 = .ok (.iadd, 1) := dk_96 (dk_at dksL_law_51 20 rfl rfl)
theorem dL_law_1307 : decode cL_law 1307 = .ok (.iaload, 1) := dk_46 (dk_at dksL_law_51 21 rfl rfl)
theorem dL_law_1308 : decode cL_law 1308 = .ok (.ifCond .eq 7, 3) := dk_153 0 7 (dk_at dksL_law_52 0 rfl rfl)
theorem dL_law_1311 : decode cL_law 1311 = .ok (.iconst 1, 1) := dk_4 (dk_at dksL_law_52 3 rfl rfl)
theorem dL_law_1312 : decode cL_law 1312 = .ok (.goto 4, 3) := dk_167 0 4 (dk_at dksL_law_52 4 rfl rfl)
theorem dL_law_1315 : decode cL_law 1315 = .ok (.iconst 0, 1) := dk_3 (dk_at dksL_law_52 7 rfl rfl)
theorem dL_law_1316 : decode cL_law 1316 = .ok (.aload_n 0, 1) := dk_42 (dk_at dksL_law_52 8 rfl rfl)
theorem dL_law_1317 : decode cL_law 1317 = .ok (.iload 4, 2) := dk_21 4 (dk_at dksL_law_52 9 rfl rfl)
theorem dL_law_1319 : decode cL_law 1319 = .ok (.iconst 2, 1) := dk_5 (dk_at dksL_law_52 11 rfl rfl)
theorem dL_law_1320 : decode cL_law 1320 = .ok (.iadd, 1) := dk_96 (dk_at dksL_law_52 12 rfl rfl)
theorem dL_law_1321 : decode cL_law 1321 = .ok (.iaload, 1) := dk_46 (dk_at dksL_law_52 13 rfl rfl)
theorem dL_law_1322 : decode cL_law 1322 = .ok (.aload_n 0, 1) := dk_42 (dk_at dksL_law_52 14 rfl rfl)
theorem dL_law_1323 : decode cL_law 1323 = .ok (.iload 4, 2) := dk_21 4 (dk_at dksL_law_52 15 rfl rfl)
theorem dL_law_1325 : decode cL_law 1325 = .ok (.iconst 3, 1) := dk_6 (dk_at dksL_law_52 17 rfl rfl)
theorem dL_law_1326 : decode cL_law 1326 = .ok (.iadd, 1) := dk_96 (dk_at dksL_law_52 18 rfl rfl)
theorem dL_law_1327 : decode cL_law 1327 = .ok (.iaload, 1) := dk_46 (dk_at dksL_law_52 19 rfl rfl)
theorem dL_law_1328 : decode cL_law 1328 = .ok (.aload_n 3, 1) := dk_45 (dk_at dksL_law_52 20 rfl rfl)
theorem dL_law_1329 : decode cL_law 1329 = .ok (.invokestatic 181, 3) := dk_184 0 181 (dk_at dksL_law_52 21 rfl rfl)
theorem dL_law_1332 : decode cL_law 1332 = .ok (.istore 5, 2) := dk_54 5 (dk_at dksL_law_53 0 rfl rfl)
theorem dL_law_1334 : decode cL_law 1334 = .ok (.aload_n 2, 1) := dk_44 (dk_at dksL_law_53 2 rfl rfl)
theorem dL_law_1335 : decode cL_law 1335 = .ok (.aload_n 0, 1) := dk_42 (dk_at dksL_law_53 3 rfl rfl)
theorem dL_law_1336 : decode cL_law 1336 = .ok (.iload 4, 2) := dk_21 4 (dk_at dksL_law_53 4 rfl rfl)
theorem dL_law_1338 : decode cL_law 1338 = .ok (.iconst 1, 1) := dk_4 (dk_at dksL_law_53 6 rfl rfl)
theorem dL_law_1339 : decode cL_law 1339 = .ok (.iadd, 1) := dk_96 (dk_at dksL_law_53 7 rfl rfl)
theorem dL_law_1340 : decode cL_law 1340 = .ok (.iaload, 1) := dk_46 (dk_at dksL_law_53 8 rfl rfl)
theorem dL_law_1341 : decode cL_law 1341 = .ok (.ifCond .eq 7, 3) := dk_153 0 7 (dk_at dksL_law_53 9 rfl rfl)
theorem dL_law_1344 : decode cL_law 1344 = .ok (.iconst 1, 1) := dk_4 (dk_at dksL_law_53 12 rfl rfl)
theorem dL_law_1345 : decode cL_law 1345 = .ok (.goto 4, 3) := dk_167 0 4 (dk_at dksL_law_53 13 rfl rfl)
theorem dL_law_1348 : decode cL_law 1348 = .ok (.iconst 0, 1) := dk_3 (dk_at dksL_law_53 16 rfl rfl)
theorem dL_law_1349 : decode cL_law 1349 = .ok (.aload_n 0, 1) := dk_42 (dk_at dksL_law_53 17 rfl rfl)
theorem dL_law_1350 : decode cL_law 1350 = .ok (.iload 4, 2) := dk_21 4 (dk_at dksL_law_53 18 rfl rfl)
theorem dL_law_1352 : decode cL_law 1352 = .ok (.iconst 2, 1) := dk_5 (dk_at dksL_law_53 20 rfl rfl)
theorem dL_law_1353 : decode cL_law 1353 = .ok (.iadd, 1) := dk_96 (dk_at dksL_law_53 21 rfl rfl)
theorem dL_law_1354 : decode cL_law 1354 = .ok (.iaload, 1) := dk_46 (dk_at dksL_law_53 22 rfl rfl)
theorem dL_law_1355 : decode cL_law 1355 = .ok (.aload_n 0, 1) := dk_42 (dk_at dksL_law_53 23 rfl rfl)
theorem dL_law_1356 : decode cL_law 1356 = .ok (.iload 4, 2) := dk_21 4 (dk_at dksL_law_54 0 rfl rfl)
theorem dL_law_1358 : decode cL_law 1358 = .ok (.iconst 3, 1) := dk_6 (dk_at dksL_law_54 2 rfl rfl)
theorem dL_law_1359 : decode cL_law 1359 = .ok (.iadd, 1) := dk_96 (dk_at dksL_law_54 3 rfl rfl)
theorem dL_law_1360 : decode cL_law 1360 = .ok (.iaload, 1) := dk_46 (dk_at dksL_law_54 4 rfl rfl)
theorem dL_law_1361 : decode cL_law 1361 = .ok (.invokevirtual 184, 3) := dk_182 0 184 (dk_at dksL_law_54 5 rfl rfl)
theorem dL_law_1364 : decode cL_law 1364 = .ok (.istore 6, 2) := dk_54 6 (dk_at dksL_law_54 8 rfl rfl)
theorem dL_law_1366 : decode cL_law 1366 = .ok (.aload_n 2, 1) := dk_44 (dk_at dksL_law_54 10 rfl rfl)
theorem dL_law_1367 : decode cL_law 1367 = .ok (.invokevirtual 106, 3) := dk_182 0 106 (dk_at dksL_law_54 11 rfl rfl)
theorem dL_law_1370 : decode cL_law 1370 = .ok (.iload 5, 2) := dk_21 5 (dk_at dksL_law_54 14 rfl rfl)
theorem dL_law_1372 : decode cL_law 1372 = .ok (.if_icmp .eq 5, 3) := dk_159 0 5 (dk_at dksL_law_54 16 rfl rfl)
theorem dL_law_1375 : decode cL_law 1375 = .ok (.iconst 0, 1) := dk_3 (dk_at dksL_law_54 19 rfl rfl)
theorem dL_law_1376 : decode cL_law 1376 = .ok (.ireturn, 1) := dk_172 (dk_at dksL_law_54 20 rfl rfl)
theorem dL_law_1377 : decode cL_law 1377 = .ok (.iload 5, 2) := dk_21 5 (dk_at dksL_law_54 21 rfl rfl)
theorem dL_law_1379 : decode cL_law 1379 = .ok (.ifCond .ne 16, 3) := dk_154 0 16 (dk_at dksL_law_55 0 rfl rfl)
theorem dL_law_1382 : decode cL_law 1382 = .ok (.aload_n 3, 1) := dk_45 (dk_at dksL_law_55 3 rfl rfl)
theorem dL_law_1383 : decode cL_law 1383 = .ok (.getfield 13, 3) := dk_180 0 13 (dk_at dksL_law_55 4 rfl rfl)
theorem dL_law_1386 : decode cL_law 1386 = .ok (.iload 6, 2) := dk_21 6 (dk_at dksL_law_55 7 rfl rfl)
theorem dL_law_1388 : decode cL_law 1388 = .ok (.i2l, 1) := dk_133 (dk_at dksL_law_55 9 rfl rfl)
theorem dL_law_1389 : decode cL_law 1389 = .ok (.lcmp, 1) := dk_148 (dk_at dksL_law_55 10 rfl rfl)
theorem dL_law_1390 : decode cL_law 1390 = .ok (.ifCond .eq 5, 3) := dk_153 0 5 (dk_at dksL_law_55 11 rfl rfl)
theorem dL_law_1393 : decode cL_law 1393 = .ok (.iconst 0, 1) := dk_3 (dk_at dksL_law_55 14 rfl rfl)
theorem dL_law_1394 : decode cL_law 1394 = .ok (.ireturn, 1) := dk_172 (dk_at dksL_law_55 15 rfl rfl)
theorem dL_law_1395 : decode cL_law 1395 = .ok (.goto 253, 3) := dk_167 0 253 (dk_at dksL_law_55 16 rfl rfl)
theorem dL_law_1398 : decode cL_law 1398 = .ok (.aload_n 1, 1) := dk_43 (dk_at dksL_law_55 19 rfl rfl)
theorem dL_law_1399 : decode cL_law 1399 = .ok (.aload_n 0, 1) := dk_42 (dk_at dksL_law_55 20 rfl rfl)
theorem dL_law_1400 : decode cL_law 1400 = .ok (.iload 4, 2) := dk_21 4 (dk_at dksL_law_55 21 rfl rfl)
theorem dL_law_1402 : decode cL_law 1402 = .ok (.iconst 1, 1) := dk_4 (dk_at dksL_law_55 23 rfl rfl)
theorem dL_law_1403 : decode cL_law 1403 = .ok (.iadd, 1) := dk_96 (dk_at dksL_law_56 0 rfl rfl)
theorem dL_law_1404 : decode cL_law 1404 = .ok (.iaload, 1) := dk_46 (dk_at dksL_law_56 1 rfl rfl)
theorem dL_law_1405 : decode cL_law 1405 = .ok (.ifCond .eq 7, 3) := dk_153 0 7 (dk_at dksL_law_56 2 rfl rfl)
theorem dL_law_1408 : decode cL_law 1408 = .ok (.iconst 1, 1) := dk_4 (dk_at dksL_law_56 5 rfl rfl)
theorem dL_law_1409 : decode cL_law 1409 = .ok (.goto 4, 3) := dk_167 0 4 (dk_at dksL_law_56 6 rfl rfl)
theorem dL_law_1412 : decode cL_law 1412 = .ok (.iconst 0, 1) := dk_3 (dk_at dksL_law_56 9 rfl rfl)
theorem dL_law_1413 : decode cL_law 1413 = .ok (.aload_n 0, 1) := dk_42 (dk_at dksL_law_56 10 rfl rfl)
theorem dL_law_1414 : decode cL_law 1414 = .ok (.iload 4, 2) := dk_21 4 (dk_at dksL_law_56 11 rfl rfl)
theorem dL_law_1416 : decode cL_law 1416 = .ok (.iconst 2, 1) := dk_5 (dk_at dksL_law_56 13 rfl rfl)
theorem dL_law_1417 : decode cL_law 1417 = .ok (.iadd, 1) := dk_96 (dk_at dksL_law_56 14 rfl rfl)
theorem dL_law_1418 : decode cL_law 1418 = .ok (.iaload, 1) := dk_46 (dk_at dksL_law_56 15 rfl rfl)
theorem dL_law_1419 : decode cL_law 1419 = .ok (.aload_n 3, 1) := dk_45 (dk_at dksL_law_56 16 rfl rfl)
theorem dL_law_1420 : decode cL_law 1420 = .ok (.invokestatic 185, 3) := dk_184 0 185 (dk_at dksL_law_56 17 rfl rfl)
theorem dL_law_1423 : decode cL_law 1423 = .ok (.istore 5, 2) := dk_54 5 (dk_at dksL_law_56 20 rfl rfl)
theorem dL_law_1425 : decode cL_law 1425 = .ok (.aload_n 2, 1) := dk_44 (dk_at dksL_law_56 22 rfl rfl)
theorem dL_law_1426 : decode cL_law 1426 = .ok (.aload_n 0, 1) := dk_42 (dk_at dksL_law_56 23 rfl rfl)
theorem dL_law_1427 : decode cL_law 1427 = .ok (.iload 4, 2) := dk_21 4 (dk_at dksL_law_57 0 rfl rfl)
theorem dL_law_1429 : decode cL_law 1429 = .ok (.iconst 1, 1) := dk_4 (dk_at dksL_law_57 2 rfl rfl)
theorem dL_law_1430 : decode cL_law 1430 = .ok (.iadd, 1) := dk_96 (dk_at dksL_law_57 3 rfl rfl)
theorem dL_law_1431 : decode cL_law 1431 = .ok (.iaload, 1) := dk_46 (dk_at dksL_law_57 4 rfl rfl)
theorem dL_law_1432 : decode cL_law 1432 = .ok (.ifCond .eq 7, 3) := dk_153 0 7 (dk_at dksL_law_57 5 rfl rfl)
theorem dL_law_1435 : decode cL_law 1435 = .ok (.iconst 1, 1) := dk_4 (dk_at dksL_law_57 8 rfl rfl)
theorem dL_law_1436 : decode cL_law 1436 = .ok (.goto 4, 3) := dk_167 0 4 (dk_at dksL_law_57 9 rfl rfl)
theorem dL_law_1439 : decode cL_law 1439 = .ok (.iconst 0, 1) := dk_3 (dk_at dksL_law_57 12 rfl rfl)
theorem dL_law_1440 : decode cL_law 1440 = .ok (.aload_n 0, 1) := dk_42 (dk_at dksL_law_57 13 rfl rfl)
theorem dL_law_1441 : decode cL_law 1441 = .ok (.iload 4, 2) := dk_21 4 (dk_at dksL_law_57 14 rfl rfl)
theorem dL_law_1443 : decode cL_law 1443 = .ok (.iconst 2, 1) := dk_5 (dk_at dksL_law_57 16 rfl rfl)
theorem dL_law_1444 : decode cL_law 1444 = .ok (.iadd, 1) := dk_96 (dk_at dksL_law_57 17 rfl rfl)
theorem dL_law_1445 : decode cL_law 1445 = .ok (.iaload, 1) := dk_46 (dk_at dksL_law_57 18 rfl rfl)
theorem dL_law_1446 : decode cL_law 1446 = .ok (.invokevirtual 188, 3) := dk_182 0 188 (dk_at dksL_law_57 19 rfl rfl)
theorem dL_law_1449 : decode cL_law 1449 = .ok (.istore 6, 2) := dk_54 6 (dk_at dksL_law_57 22 rfl rfl)
theorem dL_law_1451 : decode cL_law 1451 = .ok (.aload_n 2, 1) := dk_44 (dk_at dksL_law_58 0 rfl rfl)
theorem dL_law_1452 : decode cL_law 1452 = .ok (.invokevirtual 106, 3) := dk_182 0 106 (dk_at dksL_law_58 1 rfl rfl)
theorem dL_law_1455 : decode cL_law 1455 = .ok (.iload 5, 2) := dk_21 5 (dk_at dksL_law_58 4 rfl rfl)
theorem dL_law_1457 : decode cL_law 1457 = .ok (.if_icmp .eq 5, 3) := dk_159 0 5 (dk_at dksL_law_58 6 rfl rfl)
theorem dL_law_1460 : decode cL_law 1460 = .ok (.iconst 0, 1) := dk_3 (dk_at dksL_law_58 9 rfl rfl)
theorem dL_law_1461 : decode cL_law 1461 = .ok (.ireturn, 1) := dk_172 (dk_at dksL_law_58 10 rfl rfl)
theorem dL_law_1462 : decode cL_law 1462 = .ok (.iload 5, 2) := dk_21 5 (dk_at dksL_law_58 11 rfl rfl)
theorem dL_law_1464 : decode cL_law 1464 = .ok (.ifCond .ne 16, 3) := dk_154 0 16 (dk_at dksL_law_58 13 rfl rfl)
theorem dL_law_1467 : decode cL_law 1467 = .ok (.aload_n 3, 1) := dk_45 (dk_at dksL_law_58 16 rfl rfl)
theorem dL_law_1468 : decode cL_law 1468 = .ok (.getfield 13, 3) := dk_180 0 13 (dk_at dksL_law_58 17 rfl rfl)
theorem dL_law_1471 : decode cL_law 1471 = .ok (.iload 6, 2) := dk_21 6 (dk_at dksL_law_58 20 rfl rfl)
theorem dL_law_1473 : decode cL_law 1473 = .ok (.i2l, 1) := dk_133 (dk_at dksL_law_58 22 rfl rfl)
theorem dL_law_1474 : decode cL_law 1474 = .ok (.lcmp, 1) := dk_148 (dk_at dksL_law_58 23 rfl rfl)
theorem dL_law_1475 : decode cL_law 1475 = .ok (.ifCond .eq 5, 3) := dk_153 0 5 (dk_at dksL_law_59 0 rfl rfl)
theorem dL_law_1478 : decode cL_law 1478 = .ok (.iconst 0, 1) := dk_3 (dk_at dksL_law_59 3 rfl rfl)
theorem dL_law_1479 : decode cL_law 1479 = .ok (.ireturn, 1) := dk_172 (dk_at dksL_law_59 4 rfl rfl)
theorem dL_law_1480 : decode cL_law 1480 = .ok (.goto 168, 3) := dk_167 0 168 (dk_at dksL_law_59 5 rfl rfl)
theorem dL_law_1483 : decode cL_law 1483 = .ok (.aload_n 1, 1) := dk_43 (dk_at dksL_law_59 8 rfl rfl)
theorem dL_law_1484 : decode cL_law 1484 = .ok (.aload_n 0, 1) := dk_42 (dk_at dksL_law_59 9 rfl rfl)
theorem dL_law_1485 : decode cL_law 1485 = .ok (.iload 4, 2) := dk_21 4 (dk_at dksL_law_59 10 rfl rfl)
theorem dL_law_1487 : decode cL_law 1487 = .ok (.iconst 1, 1) := dk_4 (dk_at dksL_law_59 12 rfl rfl)
theorem dL_law_1488 : decode cL_law 1488 = .ok (.iadd, 1) := dk_96 (dk_at dksL_law_59 13 rfl rfl)
theorem dL_law_1489 : decode cL_law 1489 = .ok (.iaload, 1) := dk_46 (dk_at dksL_law_59 14 rfl rfl)
theorem dL_law_1490 : decode cL_law 1490 = .ok (.aload_n 0, 1) := dk_42 (dk_at dksL_law_59 15 rfl rfl)
theorem dL_law_1491 : decode cL_law 1491 = .ok (.iload 4, 2) := dk_21 4 (dk_at dksL_law_59 16 rfl rfl)
theorem dL_law_1493 : decode cL_law 1493 = .ok (.iconst 2, 1) := dk_5 (dk_at dksL_law_59 18 rfl rfl)
theorem dL_law_1494 : decode cL_law 1494 = .ok (.iadd, 1) := dk_96 (dk_at dksL_law_59 19 rfl rfl)
theorem dL_law_1495 : decode cL_law 1495 = .ok (.iaload, 1) := dk_46 (dk_at dksL_law_59 20 rfl rfl)
theorem dL_law_1496 : decode cL_law 1496 = .ok (.aload_n 0, 1) := dk_42 (dk_at dksL_law_59 21 rfl rfl)
theorem dL_law_1497 : decode cL_law 1497 = .ok (.iload 4, 2) := dk_21 4 (dk_at dksL_law_59 22 rfl rfl)
theorem dL_law_1499 : decode cL_law 1499 = .ok (.iconst 3, 1) := dk_6 (dk_at dksL_law_60 0 rfl rfl)
theorem dL_law_1500 : decode cL_law 1500 = .ok (.iadd, 1) := dk_96 (dk_at dksL_law_60 1 rfl rfl)
theorem dL_law_1501 : decode cL_law 1501 = .ok (.iaload, 1) := dk_46 (dk_at dksL_law_60 2 rfl rfl)
theorem dL_law_1502 : decode cL_law 1502 = .ok (.aload_n 3, 1) := dk_45 (dk_at dksL_law_60 3 rfl rfl)
theorem dL_law_1503 : decode cL_law 1503 = .ok (.invokestatic 189, 3) := dk_184 0 189 (dk_at dksL_law_60 4 rfl rfl)
theorem dL_law_1506 : decode cL_law 1506 = .ok (.istore 5, 2) := dk_54 5 (dk_at dksL_law_60 7 rfl rfl)
theorem dL_law_1508 : decode cL_law 1508 = .ok (.aload_n 2, 1) := dk_44 (dk_at dksL_law_60 9 rfl rfl)
theorem dL_law_1509 : decode cL_law 1509 = .ok (.aload_n 0, 1) := dk_42 (dk_at dksL_law_60 10 rfl rfl)
theorem dL_law_1510 : decode cL_law 1510 = .ok (.iload 4, 2) := dk_21 4 (dk_at dksL_law_60 11 rfl rfl)
theorem dL_law_1512 : decode cL_law 1512 = .ok (.iconst 1, 1) := dk_4 (dk_at dksL_law_60 13 rfl rfl)
theorem dL_law_1513 : decode cL_law 1513 = .ok (.iadd, 1) := dk_96 (dk_at dksL_law_60 14 rfl rfl)
theorem dL_law_1514 : decode cL_law 1514 = .ok (.iaload, 1) := dk_46 (dk_at dksL_law_60 15 rfl rfl)
theorem dL_law_1515 : decode cL_law 1515 = .ok (.aload_n 0, 1) := dk_42 (dk_at dksL_law_60 16 rfl rfl)
theorem dL_law_1516 : decode cL_law 1516 = .ok (.iload 4, 2) := dk_21 4 (dk_at dksL_law_60 17 rfl rfl)
theorem dL_law_1518 : decode cL_law 1518 = .ok (.iconst 2, 1) := dk_5 (dk_at dksL_law_60 19 rfl rfl)
theorem dL_law_1519 : decode cL_law 1519 = .ok (.iadd, 1) := dk_96 (dk_at dksL_law_60 20 rfl rfl)
theorem dL_law_1520 : decode cL_law 1520 = .ok (.iaload, 1) := dk_46 (dk_at dksL_law_60 21 rfl rfl)
theorem dL_law_1521 : decode cL_law 1521 = .ok (.aload_n 0, 1) := dk_42 (dk_at dksL_law_60 22 rfl rfl)
theorem dL_law_1522 : decode cL_law 1522 = .ok (.iload 4, 2) := dk_21 4 (dk_at dksL_law_61 0 rfl rfl)
theorem dL_law_1524 : decode cL_law 1524 = .ok (.iconst 3, 1) := dk_6 (dk_at dksL_law_61 2 rfl rfl)
theorem dL_law_1525 : decode cL_law 1525 = .ok (.iadd, 1) := dk_96 (dk_at dksL_law_61 3 rfl rfl)
theorem dL_law_1526 : decode cL_law 1526 = .ok (.iaload, 1) := dk_46 (dk_at dksL_law_61 4 rfl rfl)
theorem dL_law_1527 : decode cL_law 1527 = .ok (.invokevirtual 192, 3) := dk_182 0 192 (dk_at dksL_law_61 5 rfl rfl)
theorem dL_law_1530 : decode cL_law 1530 = .ok (.istore 6, 2) := dk_54 6 (dk_at dksL_law_61 8 rfl rfl)
theorem dL_law_1532 : decode cL_law 1532 = .ok (.aload_n 2, 1) := dk_44 (dk_at dksL_law_61 10 rfl rfl)
theorem dL_law_1533 : decode cL_law 1533 = .ok (.invokevirtual 106, 3) := dk_182 0 106 (dk_at dksL_law_61 11 rfl rfl)
theorem dL_law_1536 : decode cL_law 1536 = .ok (.iload 5, 2) := dk_21 5 (dk_at dksL_law_61 14 rfl rfl)
theorem dL_law_1538 : decode cL_law 1538 = .ok (.if_icmp .eq 5, 3) := dk_159 0 5 (dk_at dksL_law_61 16 rfl rfl)
theorem dL_law_1541 : decode cL_law 1541 = .ok (.iconst 0, 1) := dk_3 (dk_at dksL_law_61 19 rfl rfl)
theorem dL_law_1542 : decode cL_law 1542 = .ok (.ireturn, 1) := dk_172 (dk_at dksL_law_61 20 rfl rfl)
theorem dL_law_1543 : decode cL_law 1543 = .ok (.iload 5, 2) := dk_21 5 (dk_at dksL_law_61 21 rfl rfl)
theorem dL_law_1545 : decode cL_law 1545 = .ok (.ifCond .ne 16, 3) := dk_154 0 16 (dk_at dksL_law_62 0 rfl rfl)
theorem dL_law_1548 : decode cL_law 1548 = .ok (.aload_n 3, 1) := dk_45 (dk_at dksL_law_62 3 rfl rfl)
theorem dL_law_1549 : decode cL_law 1549 = .ok (.getfield 13, 3) := dk_180 0 13 (dk_at dksL_law_62 4 rfl rfl)
theorem dL_law_1552 : decode cL_law 1552 = .ok (.iload 6, 2) := dk_21 6 (dk_at dksL_law_62 7 rfl rfl)
theorem dL_law_1554 : decode cL_law 1554 = .ok (.i2l, 1) := dk_133 (dk_at dksL_law_62 9 rfl rfl)
theorem dL_law_1555 : decode cL_law 1555 = .ok (.lcmp, 1) := dk_148 (dk_at dksL_law_62 10 rfl rfl)
theorem dL_law_1556 : decode cL_law 1556 = .ok (.ifCond .eq 5, 3) := dk_153 0 5 (dk_at dksL_law_62 11 rfl rfl)
theorem dL_law_1559 : decode cL_law 1559 = .ok (.iconst 0, 1) := dk_3 (dk_at dksL_law_62 14 rfl rfl)
theorem dL_law_1560 : decode cL_law 1560 = .ok (.ireturn, 1) := dk_172 (dk_at dksL_law_62 15 rfl rfl)
theorem dL_law_1561 : decode cL_law 1561 = .ok (.goto 87, 3) := dk_167 0 87 (dk_at dksL_law_62 16 rfl rfl)
theorem dL_law_1564 : decode cL_law 1564 = .ok (.aload_n 1, 1) := dk_43 (dk_at dksL_law_62 19 rfl rfl)
theorem dL_law_1565 : decode cL_law 1565 = .ok (.aload_n 0, 1) := dk_42 (dk_at dksL_law_62 20 rfl rfl)
theorem dL_law_1566 : decode cL_law 1566 = .ok (.iload 4, 2) := dk_21 4 (dk_at dksL_law_62 21 rfl rfl)
theorem dL_law_1568 : decode cL_law 1568 = .ok (.iconst 1, 1) := dk_4 (dk_at dksL_law_62 23 rfl rfl)
theorem dL_law_1569 : decode cL_law 1569 = .ok (.iadd, 1) := dk_96 (dk_at dksL_law_63 0 rfl rfl)
theorem dL_law_1570 : decode cL_law 1570 = .ok (.iaload, 1) := dk_46 (dk_at dksL_law_63 1 rfl rfl)
theorem dL_law_1571 : decode cL_law 1571 = .ok (.aload_n 3, 1) := dk_45 (dk_at dksL_law_63 2 rfl rfl)
theorem dL_law_1572 : decode cL_law 1572 = .ok (.invokestatic 193, 3) := dk_184 0 193 (dk_at dksL_law_63 3 rfl rfl)
theorem dL_law_1575 : decode cL_law 1575 = .ok (.istore 5, 2) := dk_54 5 (dk_at dksL_law_63 6 rfl rfl)
theorem dL_law_1577 : decode cL_law 1577 = .ok (.aload_n 2, 1) := dk_44 (dk_at dksL_law_63 8 rfl rfl)
theorem dL_law_1578 : decode cL_law 1578 = .ok (.aload_n 0, 1) := dk_42 (dk_at dksL_law_63 9 rfl rfl)
theorem dL_law_1579 : decode cL_law 1579 = .ok (.iload 4, 2) := dk_21 4 (dk_at dksL_law_63 10 rfl rfl)
theorem dL_law_1581 : decode cL_law 1581 = .ok (.iconst 1, 1) := dk_4 (dk_at dksL_law_63 12 rfl rfl)
theorem dL_law_1582 : decode cL_law 1582 = .ok (.iadd, 1) := dk_96 (dk_at dksL_law_63 13 rfl rfl)
theorem dL_law_1583 : decode cL_law 1583 = .ok (.iaload, 1) := dk_46 (dk_at dksL_law_63 14 rfl rfl)
theorem dL_law_1584 : decode cL_law 1584 = .ok (.invokevirtual 195, 3) := dk_182 0 195 (dk_at dksL_law_63 15 rfl rfl)
theorem dL_law_1587 : decode cL_law 1587 = .ok (.istore 6, 2) := dk_54 6 (dk_at dksL_law_63 18 rfl rfl)
theorem dL_law_1589 : decode cL_law 1589 = .ok (.aload_n 2, 1) := dk_44 (dk_at dksL_law_63 20 rfl rfl)
theorem dL_law_1590 : decode cL_law 1590 = .ok (.invokevirtual 106, 3) := dk_182 0 106 (dk_at dksL_law_63 21 rfl rfl)
theorem dL_law_1593 : decode cL_law 1593 = .ok (.iload 5, 2) := dk_21 5 (dk_at dksL_law_64 0 rfl rfl)
theorem dL_law_1595 : decode cL_law 1595 = .ok (.if_icmp .eq 5, 3) := dk_159 0 5 (dk_at dksL_law_64 2 rfl rfl)
theorem dL_law_1598 : decode cL_law 1598 = .ok (.iconst 0, 1) := dk_3 (dk_at dksL_law_64 5 rfl rfl)
theorem dL_law_1599 : decode cL_law 1599 = .ok (.ireturn, 1) := dk_172 (dk_at dksL_law_64 6 rfl rfl)
theorem dL_law_1600 : decode cL_law 1600 = .ok (.iload 5, 2) := dk_21 5 (dk_at dksL_law_64 7 rfl rfl)
theorem dL_law_1602 : decode cL_law 1602 = .ok (.ifCond .ne 16, 3) := dk_154 0 16 (dk_at dksL_law_64 9 rfl rfl)
theorem dL_law_1605 : decode cL_law 1605 = .ok (.aload_n 3, 1) := dk_45 (dk_at dksL_law_64 12 rfl rfl)
theorem dL_law_1606 : decode cL_law 1606 = .ok (.getfield 13, 3) := dk_180 0 13 (dk_at dksL_law_64 13 rfl rfl)
theorem dL_law_1609 : decode cL_law 1609 = .ok (.iload 6, 2) := dk_21 6 (dk_at dksL_law_64 16 rfl rfl)
theorem dL_law_1611 : decode cL_law 1611 = .ok (.i2l, 1) := dk_133 (dk_at dksL_law_64 18 rfl rfl)
theorem dL_law_1612 : decode cL_law 1612 = .ok (.lcmp, 1) := dk_148 (dk_at dksL_law_64 19 rfl rfl)
theorem dL_law_1613 : decode cL_law 1613 = .ok (.ifCond .eq 5, 3) := dk_153 0 5 (dk_at dksL_law_64 20 rfl rfl)
theorem dL_law_1616 : decode cL_law 1616 = .ok (.iconst 0, 1) := dk_3 (dk_at dksL_law_64 23 rfl rfl)
theorem dL_law_1617 : decode cL_law 1617 = .ok (.ireturn, 1) := dk_172 (dk_at dksL_law_65 0 rfl rfl)
theorem dL_law_1618 : decode cL_law 1618 = .ok (.goto 30, 3) := dk_167 0 30 (dk_at dksL_law_65 1 rfl rfl)
theorem dL_law_1621 : decode cL_law 1621 = .ok (.aload_n 1, 1) := dk_43 (dk_at dksL_law_65 4 rfl rfl)
theorem dL_law_1622 : decode cL_law 1622 = .ok (.invokevirtual 196, 3) := dk_182 0 196 (dk_at dksL_law_65 5 rfl rfl)
theorem dL_law_1625 : decode cL_law 1625 = .ok (.aload_n 2, 1) := dk_44 (dk_at dksL_law_65 8 rfl rfl)
theorem dL_law_1626 : decode cL_law 1626 = .ok (.invokevirtual 200, 3) := dk_182 0 200 (dk_at dksL_law_65 9 rfl rfl)
theorem dL_law_1629 : decode cL_law 1629 = .ok (.if_icmp .eq 19, 3) := dk_159 0 19 (dk_at dksL_law_65 12 rfl rfl)
theorem dL_law_1632 : decode cL_law 1632 = .ok (.iconst 0, 1) := dk_3 (dk_at dksL_law_65 15 rfl rfl)
theorem dL_law_1633 : decode cL_law 1633 = .ok (.ireturn, 1) := dk_172 (dk_at dksL_law_65 16 rfl rfl)
theorem dL_law_1634 : decode cL_law 1634 = .ok (.aload_n 1, 1) := dk_43 (dk_at dksL_law_65 17 rfl rfl)
theorem dL_law_1635 : decode cL_law 1635 = .ok (.invokevirtual 201, 3) := dk_182 0 201 (dk_at dksL_law_65 18 rfl rfl)
theorem dL_law_1638 : decode cL_law 1638 = .ok (.aload_n 2, 1) := dk_44 (dk_at dksL_law_65 21 rfl rfl)
theorem dL_law_1639 : decode cL_law 1639 = .ok (.invokevirtual 205, 3) := dk_182 0 205 (dk_at dksL_law_66 0 rfl rfl)
theorem dL_law_1642 : decode cL_law 1642 = .ok (.lcmp, 1) := dk_148 (dk_at dksL_law_66 3 rfl rfl)
theorem dL_law_1643 : decode cL_law 1643 = .ok (.ifCond .eq 5, 3) := dk_153 0 5 (dk_at dksL_law_66 4 rfl rfl)
theorem dL_law_1646 : decode cL_law 1646 = .ok (.iconst 0, 1) := dk_3 (dk_at dksL_law_66 7 rfl rfl)
theorem dL_law_1647 : decode cL_law 1647 = .ok (.ireturn, 1) := dk_172 (dk_at dksL_law_66 8 rfl rfl)
theorem dL_law_1648 : decode cL_law 1648 = .ok (.iinc 4 4, 3) := dk_132 4 4 (dk_at dksL_law_66 9 rfl rfl)
theorem dL_law_1651 : decode cL_law 1651 = .ok (.goto (-1624), 3) := dk_167 249 168 (dk_at dksL_law_66 12 rfl rfl)
theorem dL_law_1654 : decode cL_law 1654 = .ok (.iconst 1, 1) := dk_4 (dk_at dksL_law_66 15 rfl rfl)
theorem dL_law_1655 : decode cL_law 1655 = .ok (.ireturn, 1) := dk_172 (dk_at dksL_law_66 16 rfl rfl)
