/-! java/lang/AbstractStringBuilder -/
set_option maxRecDepth 100000
def RJ20 : String := "java/lang/AbstractStringBuilder"
abbrev cJ20_init : ByteArray := prog_19_method_2_code
def yJ20_init : MethodName := ⟨RJ20, "<init>", "(I)V"⟩
def dkwJ20_init_1 : List UInt8 := [167, 0, 16, 42, 27, 184, 0, 26, 181, 0, 15, 42, 4, 181, 0, 22, 177]
abbrev dktJ20_init_1 : List UInt8 := dkwJ20_init_1 ++ []
def dkwJ20_init_0 : List UInt8 := [42, 183, 0, 3, 178, 0, 18, 153, 0, 18, 42, 27, 188, 8, 181, 0, 15, 42, 3, 181, 0, 22]
abbrev dktJ20_init_0 : List UInt8 := dkwJ20_init_0 ++ dktJ20_init_1
theorem dksJ20_init_0 : cJ20_init.data.toList.drop 0 = dktJ20_init_0 := by decide +kernel
theorem dksJ20_init_1 : cJ20_init.data.toList.drop 22 = dktJ20_init_1 := dk_seg dksJ20_init_0 22 rfl rfl
theorem dJ20_init_0 : decode cJ20_init 0 = .ok (.aload_n 0, 1) := dk_42 (dk_at dksJ20_init_0 0 rfl rfl)
theorem dJ20_init_1 : decode cJ20_init 1 = .ok (.invokespecial 3, 3) := dk_183 0 3 (dk_at dksJ20_init_0 1 rfl rfl)
theorem dJ20_init_4 : decode cJ20_init 4 = .ok (.getstatic 18, 3) := dk_178 0 18 (dk_at dksJ20_init_0 4 rfl rfl)
theorem dJ20_init_7 : decode cJ20_init 7 = .ok (.ifCond .eq 18, 3) := dk_153 0 18 (dk_at dksJ20_init_0 7 rfl rfl)
theorem dJ20_init_10 : decode cJ20_init 10 = .ok (.aload_n 0, 1) := dk_42 (dk_at dksJ20_init_0 10 rfl rfl)
theorem dJ20_init_11 : decode cJ20_init 11 = .ok (.iload_n 1, 1) := dk_27 (dk_at dksJ20_init_0 11 rfl rfl)
theorem dJ20_init_12 : decode cJ20_init 12 = .ok (.newarray .byte, 2) := dk_188_8 (dk_at dksJ20_init_0 12 rfl rfl)
theorem dJ20_init_14 : decode cJ20_init 14 = .ok (.putfield 15, 3) := dk_181 0 15 (dk_at dksJ20_init_0 14 rfl rfl)
theorem dJ20_init_17 : decode cJ20_init 17 = .ok (.aload_n 0, 1) := dk_42 (dk_at dksJ20_init_0 17 rfl rfl)
theorem dJ20_init_18 : decode cJ20_init 18 = .ok (.iconst 0, 1) := dk_3 (dk_at dksJ20_init_0 18 rfl rfl)
theorem dJ20_init_19 : decode cJ20_init 19 = .ok (.putfield 22, 3) := dk_181 0 22 (dk_at dksJ20_init_0 19 rfl rfl)
theorem dJ20_init_22 : decode cJ20_init 22 = .ok (.goto 16, 3) := dk_167 0 16 (dk_at dksJ20_init_1 0 rfl rfl)
theorem dJ20_init_25 : decode cJ20_init 25 = .ok (.aload_n 0, 1) := dk_42 (dk_at dksJ20_init_1 3 rfl rfl)
theorem dJ20_init_26 : decode cJ20_init 26 = .ok (.iload_n 1, 1) := dk_27 (dk_at dksJ20_init_1 4 rfl rfl)
theorem dJ20_init_27 : decode cJ20_init 27 = .ok (.invokestatic 26, 3) := dk_184 0 26 (dk_at dksJ20_init_1 5 rfl rfl)
theorem dJ20_init_30 : decode cJ20_init 30 = .ok (.putfield 15, 3) := dk_181 0 15 (dk_at dksJ20_init_1 8 rfl rfl)
theorem dJ20_init_33 : decode cJ20_init 33 = .ok (.aload_n 0, 1) := dk_42 (dk_at dksJ20_init_1 11 rfl rfl)
theorem dJ20_init_34 : decode cJ20_init 34 = .ok (.iconst 1, 1) := dk_4 (dk_at dksJ20_init_1 12 rfl rfl)
theorem dJ20_init_35 : decode cJ20_init 35 = .ok (.putfield 22, 3) := dk_181 0 22 (dk_at dksJ20_init_1 13 rfl rfl)
theorem dJ20_init_38 : decode cJ20_init 38 = .ok (.return_, 1) := dk_177 (dk_at dksJ20_init_1 16 rfl rfl)
abbrev cJ20_append : ByteArray := prog_19_method_22_code
def yJ20_append : MethodName := ⟨RJ20, "append", "(Ljava/lang/String;)Ljava/lang/AbstractStringBuilder;"⟩
def dkwJ20_append_1 : List UInt8 := [42, 42, 180, 0, 79, 43, 182, 0, 208, 42, 89, 180, 0, 79, 28, 96, 181, 0, 79, 42, 176]
abbrev dktJ20_append_1 : List UInt8 := dkwJ20_append_1 ++ []
def dkwJ20_append_0 : List UInt8 := [43, 199, 0, 8, 42, 182, 0, 204, 176, 43, 182, 0, 32, 61, 42, 42, 180, 0, 79, 28, 96, 182, 0, 100]
abbrev dktJ20_append_0 : List UInt8 := dkwJ20_append_0 ++ dktJ20_append_1
theorem dksJ20_append_0 : cJ20_append.data.toList.drop 0 = dktJ20_append_0 := by decide +kernel
theorem dksJ20_append_1 : cJ20_append.data.toList.drop 24 = dktJ20_append_1 := dk_seg dksJ20_append_0 24 rfl rfl
theorem dJ20_append_0 : decode cJ20_append 0 = .ok (.aload_n 1, 1) := dk_43 (dk_at dksJ20_append_0 0 rfl rfl)
theorem dJ20_append_1 : decode cJ20_append 1 = .ok (.ifnonnull 8, 3) := dk_199 0 8 (dk_at dksJ20_append_0 1 rfl rfl)
theorem dJ20_append_4 : decode cJ20_append 4 = .ok (.aload_n 0, 1) := dk_42 (dk_at dksJ20_append_0 4 rfl rfl)
theorem dJ20_append_5 : decode cJ20_append 5 = .ok (.invokevirtual 204, 3) := dk_182 0 204 (dk_at dksJ20_append_0 5 rfl rfl)
theorem dJ20_append_8 : decode cJ20_append 8 = .ok (.areturn, 1) := dk_176 (dk_at dksJ20_append_0 8 rfl rfl)
theorem dJ20_append_9 : decode cJ20_append 9 = .ok (.aload_n 1, 1) := dk_43 (dk_at dksJ20_append_0 9 rfl rfl)
theorem dJ20_append_10 : decode cJ20_append 10 = .ok (.invokevirtual 32, 3) := dk_182 0 32 (dk_at dksJ20_append_0 10 rfl rfl)
theorem dJ20_append_13 : decode cJ20_append 13 = .ok (.istore_n 2, 1) := dk_61 (dk_at dksJ20_append_0 13 rfl rfl)
theorem dJ20_append_14 : decode cJ20_append 14 = .ok (.aload_n 0, 1) := dk_42 (dk_at dksJ20_append_0 14 rfl rfl)
theorem dJ20_append_15 : decode cJ20_append 15 = .ok (.aload_n 0, 1) := dk_42 (dk_at dksJ20_append_0 15 rfl rfl)
theorem dJ20_append_16 : decode cJ20_append 16 = .ok (.getfield 79, 3) := dk_180 0 79 (dk_at dksJ20_append_0 16 rfl rfl)
theorem dJ20_append_19 : decode cJ20_append 19 = .ok (.iload_n 2, 1) := dk_28 (dk_at dksJ20_append_0 19 rfl rfl)
theorem dJ20_append_20 : decode cJ20_append 20 = .ok (.iadd, 1) := dk_96 (dk_at dksJ20_append_0 20 rfl rfl)
theorem dJ20_append_21 : decode cJ20_append 21 = .ok (.invokevirtual 100, 3) := dk_182 0 100 (dk_at dksJ20_append_0 21 rfl rfl)
theorem dJ20_append_24 : decode cJ20_append 24 = .ok (.aload_n 0, 1) := dk_42 (dk_at dksJ20_append_1 0 rfl rfl)
theorem dJ20_append_25 : decode cJ20_append 25 = .ok (.aload_n 0, 1) := dk_42 (dk_at dksJ20_append_1 1 rfl rfl)
theorem dJ20_append_26 : decode cJ20_append 26 = .ok (.getfield 79, 3) := dk_180 0 79 (dk_at dksJ20_append_1 2 rfl rfl)
theorem dJ20_append_29 : decode cJ20_append 29 = .ok (.aload_n 1, 1) := dk_43 (dk_at dksJ20_append_1 5 rfl rfl)
theorem dJ20_append_30 : decode cJ20_append 30 = .ok (.invokevirtual 208, 3) := dk_182 0 208 (dk_at dksJ20_append_1 6 rfl rfl)
theorem dJ20_append_33 : decode cJ20_append 33 = .ok (.aload_n 0, 1) := dk_42 (dk_at dksJ20_append_1 9 rfl rfl)
theorem dJ20_append_34 : decode cJ20_append 34 = .ok (.dup, 1) := dk_89 (dk_at dksJ20_append_1 10 rfl rfl)
theorem dJ20_append_35 : decode cJ20_append 35 = .ok (.getfield 79, 3) := dk_180 0 79 (dk_at dksJ20_append_1 11 rfl rfl)
theorem dJ20_append_38 : decode cJ20_append 38 = .ok (.iload_n 2, 1) := dk_28 (dk_at dksJ20_append_1 14 rfl rfl)
theorem dJ20_append_39 : decode cJ20_append 39 = .ok (.iadd, 1) := dk_96 (dk_at dksJ20_append_1 15 rfl rfl)
theorem dJ20_append_40 : decode cJ20_append 40 = .ok (.putfield 79, 3) := dk_181 0 79 (dk_at dksJ20_append_1 16 rfl rfl)
theorem dJ20_append_43 : decode cJ20_append 43 = .ok (.aload_n 0, 1) := dk_42 (dk_at dksJ20_append_1 19 rfl rfl)
theorem dJ20_append_44 : decode cJ20_append 44 = .ok (.areturn, 1) := dk_176 (dk_at dksJ20_append_1 20 rfl rfl)
abbrev cJ20_appendNull : ByteArray := prog_19_method_26_code
def yJ20_appendNull : MethodName := ⟨RJ20, "appendNull", "()Ljava/lang/AbstractStringBuilder;"⟩
def dkwJ20_appendNull_3 : List UInt8 := [184, 0, 226, 60, 42, 27, 181, 0, 79, 42, 176]
abbrev dktJ20_appendNull_3 : List UInt8 := dkwJ20_appendNull_3 ++ []
def dkwJ20_appendNull_2 : List UInt8 := [16, 108, 84, 44, 27, 132, 1, 1, 16, 108, 84, 167, 0, 17, 44, 27, 16, 110, 16, 117, 16, 108, 16, 108]
abbrev dktJ20_appendNull_2 : List UInt8 := dkwJ20_appendNull_2 ++ dktJ20_appendNull_3
def dkwJ20_appendNull_1 : List UInt8 := [153, 0, 38, 44, 27, 132, 1, 1, 16, 110, 84, 44, 27, 132, 1, 1, 16, 117, 84, 44, 27, 132, 1, 1]
abbrev dktJ20_appendNull_1 : List UInt8 := dkwJ20_appendNull_1 ++ dktJ20_appendNull_2
def dkwJ20_appendNull_0 : List UInt8 := [42, 42, 180, 0, 79, 7, 96, 182, 0, 100, 42, 180, 0, 79, 60, 42, 180, 0, 15, 77, 42, 182, 0, 83]
abbrev dktJ20_appendNull_0 : List UInt8 := dkwJ20_appendNull_0 ++ dktJ20_appendNull_1
theorem dksJ20_appendNull_0 : cJ20_appendNull.data.toList.drop 0 = dktJ20_appendNull_0 := by decide +kernel
theorem dksJ20_appendNull_1 : cJ20_appendNull.data.toList.drop 24 = dktJ20_appendNull_1 := dk_seg dksJ20_appendNull_0 24 rfl rfl
theorem dksJ20_appendNull_2 : cJ20_appendNull.data.toList.drop 48 = dktJ20_appendNull_2 := dk_seg dksJ20_appendNull_1 24 rfl rfl
theorem dksJ20_appendNull_3 : cJ20_appendNull.data.toList.drop 72 = dktJ20_appendNull_3 := dk_seg dksJ20_appendNull_2 24 rfl rfl
theorem dJ20_appendNull_0 : decode cJ20_appendNull 0 = .ok (.aload_n 0, 1) := dk_42 (dk_at dksJ20_appendNull_0 0 rfl rfl)
theorem dJ20_appendNull_1 : decode cJ20_appendNull 1 = .ok (.aload_n 0, 1) := dk_42 (dk_at dksJ20_appendNull_0 1 rfl rfl)
theorem dJ20_appendNull_2 : decode cJ20_appendNull 2 = .ok (.getfield 79, 3) := dk_180 0 79 (dk_at dksJ20_appendNull_0 2 rfl rfl)
theorem dJ20_appendNull_5 : decode cJ20_appendNull 5 = .ok (.iconst 4, 1) := dk_7 (dk_at dksJ20_appendNull_0 5 rfl rfl)
theorem dJ20_appendNull_6 : decode cJ20_appendNull 6 = .ok (.iadd, 1) := dk_96 (dk_at dksJ20_appendNull_0 6 rfl rfl)
theorem dJ20_appendNull_7 : decode cJ20_appendNull 7 = .ok (.invokevirtual 100, 3) := dk_182 0 100 (dk_at dksJ20_appendNull_0 7 rfl rfl)
theorem dJ20_appendNull_10 : decode cJ20_appendNull 10 = .ok (.aload_n 0, 1) := dk_42 (dk_at dksJ20_appendNull_0 10 rfl rfl)
theorem dJ20_appendNull_11 : decode cJ20_appendNull 11 = .ok (.getfield 79, 3) := dk_180 0 79 (dk_at dksJ20_appendNull_0 11 rfl rfl)
theorem dJ20_appendNull_14 : decode cJ20_appendNull 14 = .ok (.istore_n 1, 1) := dk_60 (dk_at dksJ20_appendNull_0 14 rfl rfl)
theorem dJ20_appendNull_15 : decode cJ20_appendNull 15 = .ok (.aload_n 0, 1) := dk_42 (dk_at dksJ20_appendNull_0 15 rfl rfl)
theorem dJ20_appendNull_16 : decode cJ20_appendNull 16 = .ok (.getfield 15, 3) := dk_180 0 15 (dk_at dksJ20_appendNull_0 16 rfl rfl)
theorem dJ20_appendNull_19 : decode cJ20_appendNull 19 = .ok (.astore_n 2, 1) := dk_77 (dk_at dksJ20_appendNull_0 19 rfl rfl)
theorem dJ20_appendNull_20 : decode cJ20_appendNull 20 = .ok (.aload_n 0, 1) := dk_42 (dk_at dksJ20_appendNull_0 20 rfl rfl)
theorem dJ20_appendNull_21 : decode cJ20_appendNull 21 = .ok (.invokevirtual 83, 3) := dk_182 0 83 (dk_at dksJ20_appendNull_0 21 rfl rfl)
theorem dJ20_appendNull_24 : decode cJ20_appendNull 24 = .ok (.ifCond .eq 38, 3) := dk_153 0 38 (dk_at dksJ20_appendNull_1 0 rfl rfl)
theorem dJ20_appendNull_27 : decode cJ20_appendNull 27 = .ok (.aload_n 2, 1) := dk_44 (dk_at dksJ20_appendNull_1 3 rfl rfl)
theorem dJ20_appendNull_28 : decode cJ20_appendNull 28 = .ok (.iload_n 1, 1) := dk_27 (dk_at dksJ20_appendNull_1 4 rfl rfl)
theorem dJ20_appendNull_29 : decode cJ20_appendNull 29 = .ok (.iinc 1 1, 3) := dk_132 1 1 (dk_at dksJ20_appendNull_1 5 rfl rfl)
theorem dJ20_appendNull_32 : decode cJ20_appendNull 32 = .ok (.bipush 110, 2) := dk_16 110 (dk_at dksJ20_appendNull_1 8 rfl rfl)
theorem dJ20_appendNull_34 : decode cJ20_appendNull 34 = .ok (.bastore, 1) := dk_84 (dk_at dksJ20_appendNull_1 10 rfl rfl)
theorem dJ20_appendNull_35 : decode cJ20_appendNull 35 = .ok (.aload_n 2, 1) := dk_44 (dk_at dksJ20_appendNull_1 11 rfl rfl)
theorem dJ20_appendNull_36 : decode cJ20_appendNull 36 = .ok (.iload_n 1, 1) := dk_27 (dk_at dksJ20_appendNull_1 12 rfl rfl)
theorem dJ20_appendNull_37 : decode cJ20_appendNull 37 = .ok (.iinc 1 1, 3) := dk_132 1 1 (dk_at dksJ20_appendNull_1 13 rfl rfl)
theorem dJ20_appendNull_40 : decode cJ20_appendNull 40 = .ok (.bipush 117, 2) := dk_16 117 (dk_at dksJ20_appendNull_1 16 rfl rfl)
theorem dJ20_appendNull_42 : decode cJ20_appendNull 42 = .ok (.bastore, 1) := dk_84 (dk_at dksJ20_appendNull_1 18 rfl rfl)
theorem dJ20_appendNull_43 : decode cJ20_appendNull 43 = .ok (.aload_n 2, 1) := dk_44 (dk_at dksJ20_appendNull_1 19 rfl rfl)
theorem dJ20_appendNull_44 : decode cJ20_appendNull 44 = .ok (.iload_n 1, 1) := dk_27 (dk_at dksJ20_appendNull_1 20 rfl rfl)
theorem dJ20_appendNull_45 : decode cJ20_appendNull 45 = .ok (.iinc 1 1, 3) := dk_132 1 1 (dk_at dksJ20_appendNull_1 21 rfl rfl)
theorem dJ20_appendNull_48 : decode cJ20_appendNull 48 = .ok (.bipush 108, 2) := dk_16 108 (dk_at dksJ20_appendNull_2 0 rfl rfl)
theorem dJ20_appendNull_50 : decode cJ20_appendNull 50 = .ok (.bastore, 1) := dk_84 (dk_at dksJ20_appendNull_2 2 rfl rfl)
theorem dJ20_appendNull_51 : decode cJ20_appendNull 51 = .ok (.aload_n 2, 1) := dk_44 (dk_at dksJ20_appendNull_2 3 rfl rfl)
theorem dJ20_appendNull_52 : decode cJ20_appendNull 52 = .ok (.iload_n 1, 1) := dk_27 (dk_at dksJ20_appendNull_2 4 rfl rfl)
theorem dJ20_appendNull_53 : decode cJ20_appendNull 53 = .ok (.iinc 1 1, 3) := dk_132 1 1 (dk_at dksJ20_appendNull_2 5 rfl rfl)
theorem dJ20_appendNull_56 : decode cJ20_appendNull 56 = .ok (.bipush 108, 2) := dk_16 108 (dk_at dksJ20_appendNull_2 8 rfl rfl)
theorem dJ20_appendNull_58 : decode cJ20_appendNull 58 = .ok (.bastore, 1) := dk_84 (dk_at dksJ20_appendNull_2 10 rfl rfl)
theorem dJ20_appendNull_59 : decode cJ20_appendNull 59 = .ok (.goto 17, 3) := dk_167 0 17 (dk_at dksJ20_appendNull_2 11 rfl rfl)
theorem dJ20_appendNull_62 : decode cJ20_appendNull 62 = .ok (.aload_n 2, 1) := dk_44 (dk_at dksJ20_appendNull_2 14 rfl rfl)
theorem dJ20_appendNull_63 : decode cJ20_appendNull 63 = .ok (.iload_n 1, 1) := dk_27 (dk_at dksJ20_appendNull_2 15 rfl rfl)
theorem dJ20_appendNull_64 : decode cJ20_appendNull 64 = .ok (.bipush 110, 2) := dk_16 110 (dk_at dksJ20_appendNull_2 16 rfl rfl)
theorem dJ20_appendNull_66 : decode cJ20_appendNull 66 = .ok (.bipush 117, 2) := dk_16 117 (dk_at dksJ20_appendNull_2 18 rfl rfl)
theorem dJ20_appendNull_68 : decode cJ20_appendNull 68 = .ok (.bipush 108, 2) := dk_16 108 (dk_at dksJ20_appendNull_2 20 rfl rfl)
theorem dJ20_appendNull_70 : decode cJ20_appendNull 70 = .ok (.bipush 108, 2) := dk_16 108 (dk_at dksJ20_appendNull_2 22 rfl rfl)
theorem dJ20_appendNull_72 : decode cJ20_appendNull 72 = .ok (.invokestatic 226, 3) := dk_184 0 226 (dk_at dksJ20_appendNull_3 0 rfl rfl)
theorem dJ20_appendNull_75 : decode cJ20_appendNull 75 = .ok (.istore_n 1, 1) := dk_60 (dk_at dksJ20_appendNull_3 3 rfl rfl)
theorem dJ20_appendNull_76 : decode cJ20_appendNull 76 = .ok (.aload_n 0, 1) := dk_42 (dk_at dksJ20_appendNull_3 4 rfl rfl)
theorem dJ20_appendNull_77 : decode cJ20_appendNull 77 = .ok (.iload_n 1, 1) := dk_27 (dk_at dksJ20_appendNull_3 5 rfl rfl)
theorem dJ20_appendNull_78 : decode cJ20_appendNull 78 = .ok (.putfield 79, 3) := dk_181 0 79 (dk_at dksJ20_appendNull_3 6 rfl rfl)
theorem dJ20_appendNull_81 : decode cJ20_appendNull 81 = .ok (.aload_n 0, 1) := dk_42 (dk_at dksJ20_appendNull_3 9 rfl rfl)
theorem dJ20_appendNull_82 : decode cJ20_appendNull 82 = .ok (.areturn, 1) := dk_176 (dk_at dksJ20_appendNull_3 10 rfl rfl)
abbrev cJ20_ensureCapacityInternal : ByteArray := prog_19_method_9_code
def yJ20_ensureCapacityInternal : MethodName := ⟨RJ20, "ensureCapacityInternal", "(I)V"⟩
def dkwJ20_ensureCapacityInternal_1 : List UInt8 := [182, 0, 104, 42, 180, 0, 22, 120, 184, 0, 108, 181, 0, 15, 177]
abbrev dktJ20_ensureCapacityInternal_1 : List UInt8 := dkwJ20_ensureCapacityInternal_1 ++ []
def dkwJ20_ensureCapacityInternal_0 : List UInt8 := [42, 180, 0, 15, 190, 42, 180, 0, 22, 122, 61, 27, 28, 100, 158, 0, 24, 42, 42, 180, 0, 15, 42, 27]
abbrev dktJ20_ensureCapacityInternal_0 : List UInt8 := dkwJ20_ensureCapacityInternal_0 ++ dktJ20_ensureCapacityInternal_1
theorem dksJ20_ensureCapacityInternal_0 : cJ20_ensureCapacityInternal.data.toList.drop 0 = dktJ20_ensureCapacityInternal_0 := by decide +kernel
theorem dksJ20_ensureCapacityInternal_1 : cJ20_ensureCapacityInternal.data.toList.drop 24 = dktJ20_ensureCapacityInternal_1 := dk_seg dksJ20_ensureCapacityInternal_0 24 rfl rfl
theorem dJ20_ensureCapacityInternal_0 : decode cJ20_ensureCapacityInternal 0 = .ok (.aload_n 0, 1) := dk_42 (dk_at dksJ20_ensureCapacityInternal_0 0 rfl rfl)
theorem dJ20_ensureCapacityInternal_1 : decode cJ20_ensureCapacityInternal 1 = .ok (.getfield 15, 3) := dk_180 0 15 (dk_at dksJ20_ensureCapacityInternal_0 1 rfl rfl)
theorem dJ20_ensureCapacityInternal_4 : decode cJ20_ensureCapacityInternal 4 = .ok (.arraylength, 1) := dk_190 (dk_at dksJ20_ensureCapacityInternal_0 4 rfl rfl)
theorem dJ20_ensureCapacityInternal_5 : decode cJ20_ensureCapacityInternal 5 = .ok (.aload_n 0, 1) := dk_42 (dk_at dksJ20_ensureCapacityInternal_0 5 rfl rfl)
theorem dJ20_ensureCapacityInternal_6 : decode cJ20_ensureCapacityInternal 6 = .ok (.getfield 22, 3) := dk_180 0 22 (dk_at dksJ20_ensureCapacityInternal_0 6 rfl rfl)
theorem dJ20_ensureCapacityInternal_9 : decode cJ20_ensureCapacityInternal 9 = .ok (.ishr, 1) := dk_122 (dk_at dksJ20_ensureCapacityInternal_0 9 rfl rfl)
theorem dJ20_ensureCapacityInternal_10 : decode cJ20_ensureCapacityInternal 10 = .ok (.istore_n 2, 1) := dk_61 (dk_at dksJ20_ensureCapacityInternal_0 10 rfl rfl)
theorem dJ20_ensureCapacityInternal_11 : decode cJ20_ensureCapacityInternal 11 = .ok (.iload_n 1, 1) := dk_27 (dk_at dksJ20_ensureCapacityInternal_0 11 rfl rfl)
theorem dJ20_ensureCapacityInternal_12 : decode cJ20_ensureCapacityInternal 12 = .ok (.iload_n 2, 1) := dk_28 (dk_at dksJ20_ensureCapacityInternal_0 12 rfl rfl)
theorem dJ20_ensureCapacityInternal_13 : decode cJ20_ensureCapacityInternal 13 = .ok (.isub, 1) := dk_100 (dk_at dksJ20_ensureCapacityInternal_0 13 rfl rfl)
theorem dJ20_ensureCapacityInternal_14 : decode cJ20_ensureCapacityInternal 14 = .ok (.ifCond .le 24, 3) := dk_158 0 24 (dk_at dksJ20_ensureCapacityInternal_0 14 rfl rfl)
theorem dJ20_ensureCapacityInternal_17 : decode cJ20_ensureCapacityInternal 17 = .ok (.aload_n 0, 1) := dk_42 (dk_at dksJ20_ensureCapacityInternal_0 17 rfl rfl)
theorem dJ20_ensureCapacityInternal_18 : decode cJ20_ensureCapacityInternal 18 = .ok (.aload_n 0, 1) := dk_42 (dk_at dksJ20_ensureCapacityInternal_0 18 rfl rfl)
theorem dJ20_ensureCapacityInternal_19 : decode cJ20_ensureCapacityInternal 19 = .ok (.getfield 15, 3) := dk_180 0 15 (dk_at dksJ20_ensureCapacityInternal_0 19 rfl rfl)
theorem dJ20_ensureCapacityInternal_22 : decode cJ20_ensureCapacityInternal 22 = .ok (.aload_n 0, 1) := dk_42 (dk_at dksJ20_ensureCapacityInternal_0 22 rfl rfl)
theorem dJ20_ensureCapacityInternal_23 : decode cJ20_ensureCapacityInternal 23 = .ok (.iload_n 1, 1) := dk_27 (dk_at dksJ20_ensureCapacityInternal_0 23 rfl rfl)
theorem dJ20_ensureCapacityInternal_24 : decode cJ20_ensureCapacityInternal 24 = .ok (.invokevirtual 104, 3) := dk_182 0 104 (dk_at dksJ20_ensureCapacityInternal_1 0 rfl rfl)
theorem dJ20_ensureCapacityInternal_27 : decode cJ20_ensureCapacityInternal 27 = .ok (.aload_n 0, 1) := dk_42 (dk_at dksJ20_ensureCapacityInternal_1 3 rfl rfl)
theorem dJ20_ensureCapacityInternal_28 : decode cJ20_ensureCapacityInternal 28 = .ok (.getfield 22, 3) := dk_180 0 22 (dk_at dksJ20_ensureCapacityInternal_1 4 rfl rfl)
theorem dJ20_ensureCapacityInternal_31 : decode cJ20_ensureCapacityInternal 31 = .ok (.ishl, 1) := dk_120 (dk_at dksJ20_ensureCapacityInternal_1 7 rfl rfl)
theorem dJ20_ensureCapacityInternal_32 : decode cJ20_ensureCapacityInternal 32 = .ok (.invokestatic 108, 3) := dk_184 0 108 (dk_at dksJ20_ensureCapacityInternal_1 8 rfl rfl)
theorem dJ20_ensureCapacityInternal_35 : decode cJ20_ensureCapacityInternal 35 = .ok (.putfield 15, 3) := dk_181 0 15 (dk_at dksJ20_ensureCapacityInternal_1 11 rfl rfl)
theorem dJ20_ensureCapacityInternal_38 : decode cJ20_ensureCapacityInternal 38 = .ok (.return_, 1) := dk_177 (dk_at dksJ20_ensureCapacityInternal_1 14 rfl rfl)
abbrev cJ20_newCapacity : ByteArray := prog_19_method_10_code
def yJ20_newCapacity : MethodName := ⟨RJ20, "newCapacity", "(I)I"⟩
def dkwJ20_newCapacity_2 : List UInt8 := [183, 0, 124, 191, 21, 5, 42, 180, 0, 22, 122, 172]
abbrev dktJ20_newCapacity_2 : List UInt8 := dkwJ20_newCapacity_2 ++ []
def dkwJ20_newCapacity_1 : List UInt8 := [180, 0, 22, 120, 96, 184, 0, 114, 54, 5, 21, 5, 18, 39, 160, 0, 13, 187, 0, 120, 89, 18, 122]
abbrev dktJ20_newCapacity_1 : List UInt8 := dkwJ20_newCapacity_1 ++ dktJ20_newCapacity_2
def dkwJ20_newCapacity_0 : List UInt8 := [42, 180, 0, 15, 190, 61, 27, 42, 180, 0, 22, 120, 62, 29, 28, 100, 54, 4, 28, 21, 4, 28, 5, 42]
abbrev dktJ20_newCapacity_0 : List UInt8 := dkwJ20_newCapacity_0 ++ dktJ20_newCapacity_1
theorem dksJ20_newCapacity_0 : cJ20_newCapacity.data.toList.drop 0 = dktJ20_newCapacity_0 := by decide +kernel
theorem dksJ20_newCapacity_1 : cJ20_newCapacity.data.toList.drop 24 = dktJ20_newCapacity_1 := dk_seg dksJ20_newCapacity_0 24 rfl rfl
theorem dksJ20_newCapacity_2 : cJ20_newCapacity.data.toList.drop 47 = dktJ20_newCapacity_2 := dk_seg dksJ20_newCapacity_1 23 rfl rfl
theorem dJ20_newCapacity_0 : decode cJ20_newCapacity 0 = .ok (.aload_n 0, 1) := dk_42 (dk_at dksJ20_newCapacity_0 0 rfl rfl)
theorem dJ20_newCapacity_1 : decode cJ20_newCapacity 1 = .ok (.getfield 15, 3) := dk_180 0 15 (dk_at dksJ20_newCapacity_0 1 rfl rfl)
theorem dJ20_newCapacity_4 : decode cJ20_newCapacity 4 = .ok (.arraylength, 1) := dk_190 (dk_at dksJ20_newCapacity_0 4 rfl rfl)
theorem dJ20_newCapacity_5 : decode cJ20_newCapacity 5 = .ok (.istore_n 2, 1) := dk_61 (dk_at dksJ20_newCapacity_0 5 rfl rfl)
theorem dJ20_newCapacity_6 : decode cJ20_newCapacity 6 = .ok (.iload_n 1, 1) := dk_27 (dk_at dksJ20_newCapacity_0 6 rfl rfl)
theorem dJ20_newCapacity_7 : decode cJ20_newCapacity 7 = .ok (.aload_n 0, 1) := dk_42 (dk_at dksJ20_newCapacity_0 7 rfl rfl)
theorem dJ20_newCapacity_8 : decode cJ20_newCapacity 8 = .ok (.getfield 22, 3) := dk_180 0 22 (dk_at dksJ20_newCapacity_0 8 rfl rfl)
theorem dJ20_newCapacity_11 : decode cJ20_newCapacity 11 = .ok (.ishl, 1) := dk_120 (dk_at dksJ20_newCapacity_0 11 rfl rfl)
theorem dJ20_newCapacity_12 : decode cJ20_newCapacity 12 = .ok (.istore_n 3, 1) := dk_62 (dk_at dksJ20_newCapacity_0 12 rfl rfl)
theorem dJ20_newCapacity_13 : decode cJ20_newCapacity 13 = .ok (.iload_n 3, 1) := dk_29 (dk_at dksJ20_newCapacity_0 13 rfl rfl)
theorem dJ20_newCapacity_14 : decode cJ20_newCapacity 14 = .ok (.iload_n 2, 1) := dk_28 (dk_at dksJ20_newCapacity_0 14 rfl rfl)
theorem dJ20_newCapacity_15 : decode cJ20_newCapacity 15 = .ok (.isub, 1) := dk_100 (dk_at dksJ20_newCapacity_0 15 rfl rfl)
theorem dJ20_newCapacity_16 : decode cJ20_newCapacity 16 = .ok (.istore 4, 2) := dk_54 4 (dk_at dksJ20_newCapacity_0 16 rfl rfl)
theorem dJ20_newCapacity_18 : decode cJ20_newCapacity 18 = .ok (.iload_n 2, 1) := dk_28 (dk_at dksJ20_newCapacity_0 18 rfl rfl)
theorem dJ20_newCapacity_19 : decode cJ20_newCapacity 19 = .ok (.iload 4, 2) := dk_21 4 (dk_at dksJ20_newCapacity_0 19 rfl rfl)
theorem dJ20_newCapacity_21 : decode cJ20_newCapacity 21 = .ok (.iload_n 2, 1) := dk_28 (dk_at dksJ20_newCapacity_0 21 rfl rfl)
theorem dJ20_newCapacity_22 : decode cJ20_newCapacity 22 = .ok (.iconst 2, 1) := dk_5 (dk_at dksJ20_newCapacity_0 22 rfl rfl)
theorem dJ20_newCapacity_23 : decode cJ20_newCapacity 23 = .ok (.aload_n 0, 1) := dk_42 (dk_at dksJ20_newCapacity_0 23 rfl rfl)
theorem dJ20_newCapacity_24 : decode cJ20_newCapacity 24 = .ok (.getfield 22, 3) := dk_180 0 22 (dk_at dksJ20_newCapacity_1 0 rfl rfl)
theorem dJ20_newCapacity_27 : decode cJ20_newCapacity 27 = .ok (.ishl, 1) := dk_120 (dk_at dksJ20_newCapacity_1 3 rfl rfl)
theorem dJ20_newCapacity_28 : decode cJ20_newCapacity 28 = .ok (.iadd, 1) := dk_96 (dk_at dksJ20_newCapacity_1 4 rfl rfl)
theorem dJ20_newCapacity_29 : decode cJ20_newCapacity 29 = .ok (.invokestatic 114, 3) := dk_184 0 114 (dk_at dksJ20_newCapacity_1 5 rfl rfl)
theorem dJ20_newCapacity_32 : decode cJ20_newCapacity 32 = .ok (.istore 5, 2) := dk_54 5 (dk_at dksJ20_newCapacity_1 8 rfl rfl)
theorem dJ20_newCapacity_34 : decode cJ20_newCapacity 34 = .ok (.iload 5, 2) := dk_21 5 (dk_at dksJ20_newCapacity_1 10 rfl rfl)
theorem dJ20_newCapacity_36 : decode cJ20_newCapacity 36 = .ok (.ldc 39, 2) := dk_18 39 (dk_at dksJ20_newCapacity_1 12 rfl rfl)
theorem dJ20_newCapacity_38 : decode cJ20_newCapacity 38 = .ok (.if_icmp .ne 13, 3) := dk_160 0 13 (dk_at dksJ20_newCapacity_1 14 rfl rfl)
theorem dJ20_newCapacity_41 : decode cJ20_newCapacity 41 = .ok (.new 120, 3) := dk_187 0 120 (dk_at dksJ20_newCapacity_1 17 rfl rfl)
theorem dJ20_newCapacity_44 : decode cJ20_newCapacity 44 = .ok (.dup, 1) := dk_89 (dk_at dksJ20_newCapacity_1 20 rfl rfl)
theorem dJ20_newCapacity_45 : decode cJ20_newCapacity 45 = .ok (.ldc 122, 2) := dk_18 122 (dk_at dksJ20_newCapacity_1 21 rfl rfl)
theorem dJ20_newCapacity_47 : decode cJ20_newCapacity 47 = .ok (.invokespecial 124, 3) := dk_183 0 124 (dk_at dksJ20_newCapacity_2 0 rfl rfl)
theorem dJ20_newCapacity_50 : decode cJ20_newCapacity 50 = .ok (.athrow, 1) := dk_191 (dk_at dksJ20_newCapacity_2 3 rfl rfl)
theorem dJ20_newCapacity_51 : decode cJ20_newCapacity 51 = .ok (.iload 5, 2) := dk_21 5 (dk_at dksJ20_newCapacity_2 4 rfl rfl)
theorem dJ20_newCapacity_53 : decode cJ20_newCapacity 53 = .ok (.aload_n 0, 1) := dk_42 (dk_at dksJ20_newCapacity_2 6 rfl rfl)
theorem dJ20_newCapacity_54 : decode cJ20_newCapacity 54 = .ok (.getfield 22, 3) := dk_180 0 22 (dk_at dksJ20_newCapacity_2 7 rfl rfl)
theorem dJ20_newCapacity_57 : decode cJ20_newCapacity 57 = .ok (.ishr, 1) := dk_122 (dk_at dksJ20_newCapacity_2 10 rfl rfl)
theorem dJ20_newCapacity_58 : decode cJ20_newCapacity 58 = .ok (.ireturn, 1) := dk_172 (dk_at dksJ20_newCapacity_2 11 rfl rfl)
abbrev cJ20_isLatin1 : ByteArray := prog_19_method_68_code
def yJ20_isLatin1 : MethodName := ⟨RJ20, "isLatin1", "()Z"⟩
def dkwJ20_isLatin1_0 : List UInt8 := [178, 0, 18, 153, 0, 14, 42, 180, 0, 22, 154, 0, 7, 4, 167, 0, 4, 3, 172]
abbrev dktJ20_isLatin1_0 : List UInt8 := dkwJ20_isLatin1_0 ++ []
theorem dksJ20_isLatin1_0 : cJ20_isLatin1.data.toList.drop 0 = dktJ20_isLatin1_0 := by decide +kernel
theorem dJ20_isLatin1_0 : decode cJ20_isLatin1 0 = .ok (.getstatic 18, 3) := dk_178 0 18 (dk_at dksJ20_isLatin1_0 0 rfl rfl)
theorem dJ20_isLatin1_3 : decode cJ20_isLatin1 3 = .ok (.ifCond .eq 14, 3) := dk_153 0 14 (dk_at dksJ20_isLatin1_0 3 rfl rfl)
theorem dJ20_isLatin1_6 : decode cJ20_isLatin1 6 = .ok (.aload_n 0, 1) := dk_42 (dk_at dksJ20_isLatin1_0 6 rfl rfl)
theorem dJ20_isLatin1_7 : decode cJ20_isLatin1 7 = .ok (.getfield 22, 3) := dk_180 0 22 (dk_at dksJ20_isLatin1_0 7 rfl rfl)
theorem dJ20_isLatin1_10 : decode cJ20_isLatin1 10 = .ok (.ifCond .ne 7, 3) := dk_154 0 7 (dk_at dksJ20_isLatin1_0 10 rfl rfl)
theorem dJ20_isLatin1_13 : decode cJ20_isLatin1 13 = .ok (.iconst 1, 1) := dk_4 (dk_at dksJ20_isLatin1_0 13 rfl rfl)
theorem dJ20_isLatin1_14 : decode cJ20_isLatin1 14 = .ok (.goto 4, 3) := dk_167 0 4 (dk_at dksJ20_isLatin1_0 14 rfl rfl)
theorem dJ20_isLatin1_17 : decode cJ20_isLatin1 17 = .ok (.iconst 0, 1) := dk_3 (dk_at dksJ20_isLatin1_0 17 rfl rfl)
theorem dJ20_isLatin1_18 : decode cJ20_isLatin1 18 = .ok (.ireturn, 1) := dk_172 (dk_at dksJ20_isLatin1_0 18 rfl rfl)
abbrev cJ20_putStringAt : ByteArray := prog_19_method_73_code
def yJ20_putStringAt : MethodName := ⟨RJ20, "putStringAt", "(ILjava/lang/String;)V"⟩
def dkwJ20_putStringAt_0 : List UInt8 := [42, 44, 182, 1, 141, 44, 42, 180, 0, 15, 27, 42, 180, 0, 22, 182, 1, 143, 177]
abbrev dktJ20_putStringAt_0 : List UInt8 := dkwJ20_putStringAt_0 ++ []
theorem dksJ20_putStringAt_0 : cJ20_putStringAt.data.toList.drop 0 = dktJ20_putStringAt_0 := by decide +kernel
theorem dJ20_putStringAt_0 : decode cJ20_putStringAt 0 = .ok (.aload_n 0, 1) := dk_42 (dk_at dksJ20_putStringAt_0 0 rfl rfl)
theorem dJ20_putStringAt_1 : decode cJ20_putStringAt 1 = .ok (.aload_n 2, 1) := dk_44 (dk_at dksJ20_putStringAt_0 1 rfl rfl)
theorem dJ20_putStringAt_2 : decode cJ20_putStringAt 2 = .ok (.invokevirtual 397, 3) := dk_182 1 141 (dk_at dksJ20_putStringAt_0 2 rfl rfl)
theorem dJ20_putStringAt_5 : decode cJ20_putStringAt 5 = .ok (.aload_n 2, 1) := dk_44 (dk_at dksJ20_putStringAt_0 5 rfl rfl)
theorem dJ20_putStringAt_6 : decode cJ20_putStringAt 6 = .ok (.aload_n 0, 1) := dk_42 (dk_at dksJ20_putStringAt_0 6 rfl rfl)
theorem dJ20_putStringAt_7 : decode cJ20_putStringAt 7 = .ok (.getfield 15, 3) := dk_180 0 15 (dk_at dksJ20_putStringAt_0 7 rfl rfl)
theorem dJ20_putStringAt_10 : decode cJ20_putStringAt 10 = .ok (.iload_n 1, 1) := dk_27 (dk_at dksJ20_putStringAt_0 10 rfl rfl)
theorem dJ20_putStringAt_11 : decode cJ20_putStringAt 11 = .ok (.aload_n 0, 1) := dk_42 (dk_at dksJ20_putStringAt_0 11 rfl rfl)
theorem dJ20_putStringAt_12 : decode cJ20_putStringAt 12 = .ok (.getfield 22, 3) := dk_180 0 22 (dk_at dksJ20_putStringAt_0 12 rfl rfl)
theorem dJ20_putStringAt_15 : decode cJ20_putStringAt 15 = .ok (.invokevirtual 399, 3) := dk_182 1 143 (dk_at dksJ20_putStringAt_0 15 rfl rfl)
theorem dJ20_putStringAt_18 : decode cJ20_putStringAt 18 = .ok (.return_, 1) := dk_177 (dk_at dksJ20_putStringAt_0 18 rfl rfl)
abbrev cJ20_inflateIfNeededFor : ByteArray := prog_19_method_71_code
def yJ20_inflateIfNeededFor : MethodName := ⟨RJ20, "inflateIfNeededFor", "(Ljava/lang/String;)V"⟩
def dkwJ20_inflateIfNeededFor_0 : List UInt8 := [178, 0, 18, 153, 0, 18, 42, 180, 0, 22, 43, 182, 0, 40, 159, 0, 7, 42, 182, 0, 195, 177]
abbrev dktJ20_inflateIfNeededFor_0 : List UInt8 := dkwJ20_inflateIfNeededFor_0 ++ []
theorem dksJ20_inflateIfNeededFor_0 : cJ20_inflateIfNeededFor.data.toList.drop 0 = dktJ20_inflateIfNeededFor_0 := by decide +kernel
theorem dJ20_inflateIfNeededFor_0 : decode cJ20_inflateIfNeededFor 0 = .ok (.getstatic 18, 3) := dk_178 0 18 (dk_at dksJ20_inflateIfNeededFor_0 0 rfl rfl)
theorem dJ20_inflateIfNeededFor_3 : decode cJ20_inflateIfNeededFor 3 = .ok (.ifCond .eq 18, 3) := dk_153 0 18 (dk_at dksJ20_inflateIfNeededFor_0 3 rfl rfl)
theorem dJ20_inflateIfNeededFor_6 : decode cJ20_inflateIfNeededFor 6 = .ok (.aload_n 0, 1) := dk_42 (dk_at dksJ20_inflateIfNeededFor_0 6 rfl rfl)
theorem dJ20_inflateIfNeededFor_7 : decode cJ20_inflateIfNeededFor 7 = .ok (.getfield 22, 3) := dk_180 0 22 (dk_at dksJ20_inflateIfNeededFor_0 7 rfl rfl)
theorem dJ20_inflateIfNeededFor_10 : decode cJ20_inflateIfNeededFor 10 = .ok (.aload_n 1, 1) := dk_43 (dk_at dksJ20_inflateIfNeededFor_0 10 rfl rfl)
theorem dJ20_inflateIfNeededFor_11 : decode cJ20_inflateIfNeededFor 11 = .ok (.invokevirtual 40, 3) := dk_182 0 40 (dk_at dksJ20_inflateIfNeededFor_0 11 rfl rfl)
theorem dJ20_inflateIfNeededFor_14 : decode cJ20_inflateIfNeededFor 14 = .ok (.if_icmp .eq 7, 3) := dk_159 0 7 (dk_at dksJ20_inflateIfNeededFor_0 14 rfl rfl)
theorem dJ20_inflateIfNeededFor_17 : decode cJ20_inflateIfNeededFor 17 = .ok (.aload_n 0, 1) := dk_42 (dk_at dksJ20_inflateIfNeededFor_0 17 rfl rfl)
theorem dJ20_inflateIfNeededFor_18 : decode cJ20_inflateIfNeededFor 18 = .ok (.invokevirtual 195, 3) := dk_182 0 195 (dk_at dksJ20_inflateIfNeededFor_0 18 rfl rfl)
theorem dJ20_inflateIfNeededFor_21 : decode cJ20_inflateIfNeededFor 21 = .ok (.return_, 1) := dk_177 (dk_at dksJ20_inflateIfNeededFor_0 21 rfl rfl)
abbrev cJ20_inflate : ByteArray := prog_19_method_11_code
def yJ20_inflate : MethodName := ⟨RJ20, "inflate", "()V"⟩
def dkwJ20_inflate_1 : List UInt8 := [42, 180, 0, 79, 184, 0, 125, 42, 43, 181, 0, 15, 42, 4, 181, 0, 22, 177]
abbrev dktJ20_inflate_1 : List UInt8 := dkwJ20_inflate_1 ++ []
def dkwJ20_inflate_0 : List UInt8 := [42, 182, 0, 83, 154, 0, 4, 177, 42, 180, 0, 15, 190, 184, 0, 26, 76, 42, 180, 0, 15, 3, 43, 3]
abbrev dktJ20_inflate_0 : List UInt8 := dkwJ20_inflate_0 ++ dktJ20_inflate_1
theorem dksJ20_inflate_0 : cJ20_inflate.data.toList.drop 0 = dktJ20_inflate_0 := by decide +kernel
theorem dksJ20_inflate_1 : cJ20_inflate.data.toList.drop 24 = dktJ20_inflate_1 := dk_seg dksJ20_inflate_0 24 rfl rfl
theorem dJ20_inflate_0 : decode cJ20_inflate 0 = .ok (.aload_n 0, 1) := dk_42 (dk_at dksJ20_inflate_0 0 rfl rfl)
theorem dJ20_inflate_1 : decode cJ20_inflate 1 = .ok (.invokevirtual 83, 3) := dk_182 0 83 (dk_at dksJ20_inflate_0 1 rfl rfl)
theorem dJ20_inflate_4 : decode cJ20_inflate 4 = .ok (.ifCond .ne 4, 3) := dk_154 0 4 (dk_at dksJ20_inflate_0 4 rfl rfl)
theorem dJ20_inflate_7 : decode cJ20_inflate 7 = .ok (.return_, 1) := dk_177 (dk_at dksJ20_inflate_0 7 rfl rfl)
theorem dJ20_inflate_8 : decode cJ20_inflate 8 = .ok (.aload_n 0, 1) := dk_42 (dk_at dksJ20_inflate_0 8 rfl rfl)
theorem dJ20_inflate_9 : decode cJ20_inflate 9 = .ok (.getfield 15, 3) := dk_180 0 15 (dk_at dksJ20_inflate_0 9 rfl rfl)
theorem dJ20_inflate_12 : decode cJ20_inflate 12 = .ok (.arraylength, 1) := dk_190 (dk_at dksJ20_inflate_0 12 rfl rfl)
theorem dJ20_inflate_13 : decode cJ20_inflate 13 = .ok (.invokestatic 26, 3) := dk_184 0 26 (dk_at dksJ20_inflate_0 13 rfl rfl)
theorem dJ20_inflate_16 : decode cJ20_inflate 16 = .ok (.astore_n 1, 1) := dk_76 (dk_at dksJ20_inflate_0 16 rfl rfl)
theorem dJ20_inflate_17 : decode cJ20_inflate 17 = .ok (.aload_n 0, 1) := dk_42 (dk_at dksJ20_inflate_0 17 rfl rfl)
theorem dJ20_inflate_18 : decode cJ20_inflate 18 = .ok (.getfield 15, 3) := dk_180 0 15 (dk_at dksJ20_inflate_0 18 rfl rfl)
theorem dJ20_inflate_21 : decode cJ20_inflate 21 = .ok (.iconst 0, 1) := dk_3 (dk_at dksJ20_inflate_0 21 rfl rfl)
theorem dJ20_inflate_22 : decode cJ20_inflate 22 = .ok (.aload_n 1, 1) := dk_43 (dk_at dksJ20_inflate_0 22 rfl rfl)
theorem dJ20_inflate_23 : decode cJ20_inflate 23 = .ok (.iconst 0, 1) := dk_3 (dk_at dksJ20_inflate_0 23 rfl rfl)
theorem dJ20_inflate_24 : decode cJ20_inflate 24 = .ok (.aload_n 0, 1) := dk_42 (dk_at dksJ20_inflate_1 0 rfl rfl)
theorem dJ20_inflate_25 : decode cJ20_inflate 25 = .ok (.getfield 79, 3) := dk_180 0 79 (dk_at dksJ20_inflate_1 1 rfl rfl)
theorem dJ20_inflate_28 : decode cJ20_inflate 28 = .ok (.invokestatic 125, 3) := dk_184 0 125 (dk_at dksJ20_inflate_1 4 rfl rfl)
theorem dJ20_inflate_31 : decode cJ20_inflate 31 = .ok (.aload_n 0, 1) := dk_42 (dk_at dksJ20_inflate_1 7 rfl rfl)
theorem dJ20_inflate_32 : decode cJ20_inflate 32 = .ok (.aload_n 1, 1) := dk_43 (dk_at dksJ20_inflate_1 8 rfl rfl)
theorem dJ20_inflate_33 : decode cJ20_inflate 33 = .ok (.putfield 15, 3) := dk_181 0 15 (dk_at dksJ20_inflate_1 9 rfl rfl)
theorem dJ20_inflate_36 : decode cJ20_inflate 36 = .ok (.aload_n 0, 1) := dk_42 (dk_at dksJ20_inflate_1 12 rfl rfl)
theorem dJ20_inflate_37 : decode cJ20_inflate 37 = .ok (.iconst 1, 1) := dk_4 (dk_at dksJ20_inflate_1 13 rfl rfl)
theorem dJ20_inflate_38 : decode cJ20_inflate 38 = .ok (.putfield 22, 3) := dk_181 0 22 (dk_at dksJ20_inflate_1 14 rfl rfl)
theorem dJ20_inflate_41 : decode cJ20_inflate 41 = .ok (.return_, 1) := dk_177 (dk_at dksJ20_inflate_1 17 rfl rfl)
abbrev cJ20_append_2 : ByteArray := prog_19_method_32_code
def yJ20_append_2 : MethodName := ⟨RJ20, "append", "(I)Ljava/lang/AbstractStringBuilder;"⟩
def dkwJ20_append_2_2 : List UInt8 := [42, 29, 181, 0, 79, 42, 176]
abbrev dktJ20_append_2_2 : List UInt8 := dkwJ20_append_2_2 ++ []
def dkwJ20_append_2_1 : List UInt8 := [27, 29, 42, 180, 0, 15, 184, 0, 248, 87, 167, 0, 14, 27, 28, 29, 42, 180, 0, 15, 184, 0, 251, 87]
abbrev dktJ20_append_2_1 : List UInt8 := dkwJ20_append_2_1 ++ dktJ20_append_2_2
def dkwJ20_append_2_0 : List UInt8 := [42, 180, 0, 79, 61, 28, 27, 184, 0, 245, 96, 62, 42, 29, 182, 0, 100, 42, 182, 0, 83, 153, 0, 16]
abbrev dktJ20_append_2_0 : List UInt8 := dkwJ20_append_2_0 ++ dktJ20_append_2_1
theorem dksJ20_append_2_0 : cJ20_append_2.data.toList.drop 0 = dktJ20_append_2_0 := by decide +kernel
theorem dksJ20_append_2_1 : cJ20_append_2.data.toList.drop 24 = dktJ20_append_2_1 := dk_seg dksJ20_append_2_0 24 rfl rfl
theorem dksJ20_append_2_2 : cJ20_append_2.data.toList.drop 48 = dktJ20_append_2_2 := dk_seg dksJ20_append_2_1 24 rfl rfl
theorem dJ20_append_2_0 : decode cJ20_append_2 0 = .ok (.aload_n 0, 1) := dk_42 (dk_at dksJ20_append_2_0 0 rfl rfl)
theorem dJ20_append_2_1 : decode cJ20_append_2 1 = .ok (.getfield 79, 3) := dk_180 0 79 (dk_at dksJ20_append_2_0 1 rfl rfl)
theorem dJ20_append_2_4 : decode cJ20_append_2 4 = .ok (.istore_n 2, 1) := dk_61 (dk_at dksJ20_append_2_0 4 rfl rfl)
theorem dJ20_append_2_5 : decode cJ20_append_2 5 = .ok (.iload_n 2, 1) := dk_28 (dk_at dksJ20_append_2_0 5 rfl rfl)
theorem dJ20_append_2_6 : decode cJ20_append_2 6 = .ok (.iload_n 1, 1) := dk_27 (dk_at dksJ20_append_2_0 6 rfl rfl)
theorem dJ20_append_2_7 : decode cJ20_append_2 7 = .ok (.invokestatic 245, 3) := dk_184 0 245 (dk_at dksJ20_append_2_0 7 rfl rfl)
theorem dJ20_append_2_10 : decode cJ20_append_2 10 = .ok (.iadd, 1) := dk_96 (dk_at dksJ20_append_2_0 10 rfl rfl)
theorem dJ20_append_2_11 : decode cJ20_append_2 11 = .ok (.istore_n 3, 1) := dk_62 (dk_at dksJ20_append_2_0 11 rfl rfl)
theorem dJ20_append_2_12 : decode cJ20_append_2 12 = .ok (.aload_n 0, 1) := dk_42 (dk_at dksJ20_append_2_0 12 rfl rfl)
theorem dJ20_append_2_13 : decode cJ20_append_2 13 = .ok (.iload_n 3, 1) := dk_29 (dk_at dksJ20_append_2_0 13 rfl rfl)
theorem dJ20_append_2_14 : decode cJ20_append_2 14 = .ok (.invokevirtual 100, 3) := dk_182 0 100 (dk_at dksJ20_append_2_0 14 rfl rfl)
theorem dJ20_append_2_17 : decode cJ20_append_2 17 = .ok (.aload_n 0, 1) := dk_42 (dk_at dksJ20_append_2_0 17 rfl rfl)
theorem dJ20_append_2_18 : decode cJ20_append_2 18 = .ok (.invokevirtual 83, 3) := dk_182 0 83 (dk_at dksJ20_append_2_0 18 rfl rfl)
theorem dJ20_append_2_21 : decode cJ20_append_2 21 = .ok (.ifCond .eq 16, 3) := dk_153 0 16 (dk_at dksJ20_append_2_0 21 rfl rfl)
theorem dJ20_append_2_24 : decode cJ20_append_2 24 = .ok (.iload_n 1, 1) := dk_27 (dk_at dksJ20_append_2_1 0 rfl rfl)
theorem dJ20_append_2_25 : decode cJ20_append_2 25 = .ok (.iload_n 3, 1) := dk_29 (dk_at dksJ20_append_2_1 1 rfl rfl)
theorem dJ20_append_2_26 : decode cJ20_append_2 26 = .ok (.aload_n 0, 1) := dk_42 (dk_at dksJ20_append_2_1 2 rfl rfl)
theorem dJ20_append_2_27 : decode cJ20_append_2 27 = .ok (.getfield 15, 3) := dk_180 0 15 (dk_at dksJ20_append_2_1 3 rfl rfl)
theorem dJ20_append_2_30 : decode cJ20_append_2 30 = .ok (.invokestatic 248, 3) := dk_184 0 248 (dk_at dksJ20_append_2_1 6 rfl rfl)
theorem dJ20_append_2_33 : decode cJ20_append_2 33 = .ok (.pop, 1) := dk_87 (dk_at dksJ20_append_2_1 9 rfl rfl)
theorem dJ20_append_2_34 : decode cJ20_append_2 34 = .ok (.goto 14, 3) := dk_167 0 14 (dk_at dksJ20_append_2_1 10 rfl rfl)
theorem dJ20_append_2_37 : decode cJ20_append_2 37 = .ok (.iload_n 1, 1) := dk_27 (dk_at dksJ20_append_2_1 13 rfl rfl)
theorem dJ20_append_2_38 : decode cJ20_append_2 38 = .ok (.iload_n 2, 1) := dk_28 (dk_at dksJ20_append_2_1 14 rfl rfl)
theorem dJ20_append_2_39 : decode cJ20_append_2 39 = .ok (.iload_n 3, 1) := dk_29 (dk_at dksJ20_append_2_1 15 rfl rfl)
theorem dJ20_append_2_40 : decode cJ20_append_2 40 = .ok (.aload_n 0, 1) := dk_42 (dk_at dksJ20_append_2_1 16 rfl rfl)
theorem dJ20_append_2_41 : decode cJ20_append_2 41 = .ok (.getfield 15, 3) := dk_180 0 15 (dk_at dksJ20_append_2_1 17 rfl rfl)
theorem dJ20_append_2_44 : decode cJ20_append_2 44 = .ok (.invokestatic 251, 3) := dk_184 0 251 (dk_at dksJ20_append_2_1 20 rfl rfl)
theorem dJ20_append_2_47 : decode cJ20_append_2 47 = .ok (.pop, 1) := dk_87 (dk_at dksJ20_append_2_1 23 rfl rfl)
theorem dJ20_append_2_48 : decode cJ20_append_2 48 = .ok (.aload_n 0, 1) := dk_42 (dk_at dksJ20_append_2_2 0 rfl rfl)
theorem dJ20_append_2_49 : decode cJ20_append_2 49 = .ok (.iload_n 3, 1) := dk_29 (dk_at dksJ20_append_2_2 1 rfl rfl)
theorem dJ20_append_2_50 : decode cJ20_append_2 50 = .ok (.putfield 79, 3) := dk_181 0 79 (dk_at dksJ20_append_2_2 2 rfl rfl)
theorem dJ20_append_2_53 : decode cJ20_append_2 53 = .ok (.aload_n 0, 1) := dk_42 (dk_at dksJ20_append_2_2 5 rfl rfl)
theorem dJ20_append_2_54 : decode cJ20_append_2 54 = .ok (.areturn, 1) := dk_176 (dk_at dksJ20_append_2_2 6 rfl rfl)
abbrev cJ20_getValue : ByteArray := prog_19_method_64_code
def yJ20_getValue : MethodName := ⟨RJ20, "getValue", "()[B"⟩
theorem dJ20_getValue_0 : decode cJ20_getValue 0 = .ok (.aload_n 0, 1) := by decide +kernel
theorem dJ20_getValue_1 : decode cJ20_getValue 1 = .ok (.getfield 15, 3) := by decide +kernel
theorem dJ20_getValue_4 : decode cJ20_getValue 4 = .ok (.areturn, 1) := by decide +kernel
abbrev cJ20_length : ByteArray := prog_19_method_6_code
def yJ20_length : MethodName := ⟨RJ20, "length", "()I"⟩
theorem dJ20_length_0 : decode cJ20_length 0 = .ok (.aload_n 0, 1) := by decide +kernel
theorem dJ20_length_1 : decode cJ20_length 1 = .ok (.getfield 79, 3) := by decide +kernel
theorem dJ20_length_4 : decode cJ20_length 4 = .ok (.ireturn, 1) := by decide +kernel
theorem q101 : (Jvm.Cond.initialized "java/lang/AbstractStringBuilder") ∈ lw_all := lw_g (lw_at lw_m1 38 rfl) rfl
theorem q716 : (Jvm.Cond.instanceMethod ({ cls := "java/lang/AbstractStringBuilder", name := "<init>", desc := "(I)V" } : Jvm.MethodName)) ∈ lw_all := lw_g (lw_at lw_m3 173 rfl) rfl
theorem q717 : (Jvm.Cond.code ({ cls := "java/lang/AbstractStringBuilder", name := "<init>", desc := "(I)V" } : Jvm.MethodName) prog_19_method_2_code (2 : Nat) (Option.none : Option Jvm.ClassFile.FieldType)) ∈ lw_all := lw_g (lw_at lw_m3 174 rfl) rfl
theorem q718 : (Jvm.Cond.methodLink "java/lang/AbstractStringBuilder" (3 : Nat) ({ cls := "java/lang/Object", name := "<init>", desc := "()V" } : Jvm.MethodName)) ∈ lw_all := lw_g (lw_at lw_m3 175 rfl) rfl
theorem q719 : (Jvm.Cond.fieldLink "java/lang/AbstractStringBuilder" (18 : Nat) "java/lang/String" "COMPACT_STRINGS" "Z") ∈ lw_all := lw_g (lw_at lw_m3 176 rfl) rfl
theorem q721 : (Jvm.Cond.methodLink "java/lang/AbstractStringBuilder" (26 : Nat) ({ cls := "java/lang/StringUTF16", name := "newBytesFor", desc := "(I)[B" } : Jvm.MethodName)) ∈ lw_all := lw_g (lw_at lw_m3 178 rfl) rfl
theorem q728 : (Jvm.Cond.fieldLink "java/lang/AbstractStringBuilder" (15 : Nat) "java/lang/AbstractStringBuilder" "value" "[B") ∈ lw_all := lw_g (lw_at lw_m3 185 rfl) rfl
theorem q729 : (Jvm.Cond.fieldLink "java/lang/AbstractStringBuilder" (22 : Nat) "java/lang/AbstractStringBuilder" "coder" "B") ∈ lw_all := lw_g (lw_at lw_m3 186 rfl) rfl
theorem q731 : (Jvm.Cond.fieldLink "java/lang/AbstractStringBuilder" (79 : Nat) "java/lang/AbstractStringBuilder" "count" "I") ∈ lw_all := lw_g (lw_at lw_m3 188 rfl) rfl
theorem q733 : (Jvm.Cond.soleField "java/lang/AbstractStringBuilder" "value") ∈ lw_all := lw_g (lw_at lw_m3 190 rfl) rfl
theorem q735 : (Jvm.Cond.soleField "java/lang/AbstractStringBuilder" "coder") ∈ lw_all := lw_g (lw_at lw_m3 192 rfl) rfl
theorem q737 : (Jvm.Cond.soleField "java/lang/AbstractStringBuilder" "maybeLatin1") ∈ lw_all := lw_g (lw_at lw_m3 194 rfl) rfl
theorem q739 : (Jvm.Cond.soleField "java/lang/AbstractStringBuilder" "count") ∈ lw_all := lw_g (lw_at lw_m3 196 rfl) rfl
theorem q749 : (Jvm.Cond.instanceMethod ({ cls := "java/lang/AbstractStringBuilder", name := "append", desc := "(Ljava/lang/String;)Ljava/lang/AbstractStringBuilder;" } : Jvm.MethodName)) ∈ lw_all := lw_g (lw_at lw_m3 206 rfl) rfl
theorem q750 : (Jvm.Cond.code ({ cls := "java/lang/AbstractStringBuilder", name := "append", desc := "(Ljava/lang/String;)Ljava/lang/AbstractStringBuilder;" } : Jvm.MethodName) prog_19_method_22_code (3 : Nat) (Option.some (Jvm.ClassFile.FieldType.object "java/lang/AbstractStringBuilder"))) ∈ lw_all := lw_g (lw_at lw_m3 207 rfl) rfl
theorem q751 : (Jvm.Cond.methodLink "java/lang/AbstractStringBuilder" (204 : Nat) ({ cls := "java/lang/AbstractStringBuilder", name := "appendNull", desc := "()Ljava/lang/AbstractStringBuilder;" } : Jvm.MethodName)) ∈ lw_all := lw_g (lw_at lw_m3 208 rfl) rfl
theorem q752 : (Jvm.Cond.privateMethod ({ cls := "java/lang/AbstractStringBuilder", name := "appendNull", desc := "()Ljava/lang/AbstractStringBuilder;" } : Jvm.MethodName)) ∈ lw_tbl := lw_at lw_m3 209 rfl
theorem q753 : (Jvm.Cond.instanceMethod ({ cls := "java/lang/AbstractStringBuilder", name := "appendNull", desc := "()Ljava/lang/AbstractStringBuilder;" } : Jvm.MethodName)) ∈ lw_all := lw_g (lw_at lw_m3 210 rfl) rfl
theorem q754 : (Jvm.Cond.code ({ cls := "java/lang/AbstractStringBuilder", name := "appendNull", desc := "()Ljava/lang/AbstractStringBuilder;" } : Jvm.MethodName) prog_19_method_26_code (3 : Nat) (Option.some (Jvm.ClassFile.FieldType.object "java/lang/AbstractStringBuilder"))) ∈ lw_all := lw_g (lw_at lw_m3 211 rfl) rfl
theorem q755 : (Jvm.Cond.methodLink "java/lang/AbstractStringBuilder" (100 : Nat) ({ cls := "java/lang/AbstractStringBuilder", name := "ensureCapacityInternal", desc := "(I)V" } : Jvm.MethodName)) ∈ lw_all := lw_g (lw_at lw_m3 212 rfl) rfl
theorem q756 : (Jvm.Cond.privateMethod ({ cls := "java/lang/AbstractStringBuilder", name := "ensureCapacityInternal", desc := "(I)V" } : Jvm.MethodName)) ∈ lw_tbl := lw_at lw_m3 213 rfl
theorem q757 : (Jvm.Cond.instanceMethod ({ cls := "java/lang/AbstractStringBuilder", name := "ensureCapacityInternal", desc := "(I)V" } : Jvm.MethodName)) ∈ lw_all := lw_g (lw_at lw_m3 214 rfl) rfl
theorem q758 : (Jvm.Cond.code ({ cls := "java/lang/AbstractStringBuilder", name := "ensureCapacityInternal", desc := "(I)V" } : Jvm.MethodName) prog_19_method_9_code (3 : Nat) (Option.none : Option Jvm.ClassFile.FieldType)) ∈ lw_all := lw_g (lw_at lw_m3 215 rfl) rfl
theorem q759 : (Jvm.Cond.methodLink "java/lang/AbstractStringBuilder" (104 : Nat) ({ cls := "java/lang/AbstractStringBuilder", name := "newCapacity", desc := "(I)I" } : Jvm.MethodName)) ∈ lw_all := lw_g (lw_at lw_m3 216 rfl) rfl
theorem q760 : (Jvm.Cond.privateMethod ({ cls := "java/lang/AbstractStringBuilder", name := "newCapacity", desc := "(I)I" } : Jvm.MethodName)) ∈ lw_tbl := lw_at lw_m3 217 rfl
theorem q761 : (Jvm.Cond.instanceMethod ({ cls := "java/lang/AbstractStringBuilder", name := "newCapacity", desc := "(I)I" } : Jvm.MethodName)) ∈ lw_all := lw_g (lw_at lw_m3 218 rfl) rfl
theorem q762 : (Jvm.Cond.code ({ cls := "java/lang/AbstractStringBuilder", name := "newCapacity", desc := "(I)I" } : Jvm.MethodName) prog_19_method_10_code (6 : Nat) (Option.some Jvm.ClassFile.FieldType.int)) ∈ lw_all := lw_g (lw_at lw_m3 219 rfl) rfl
theorem q763 : (Jvm.Cond.methodLink "java/lang/AbstractStringBuilder" (114 : Nat) ({ cls := "jdk/internal/util/ArraysSupport", name := "newLength", desc := "(III)I" } : Jvm.MethodName)) ∈ lw_all := lw_g (lw_at lw_m3 220 rfl) rfl
theorem q764 : (Jvm.Cond.constant "java/lang/AbstractStringBuilder" (39 : Nat) (2147483647 : Int32)) ∈ lw_all := lw_g (lw_at lw_m3 221 rfl) rfl
theorem q765 : (Jvm.Cond.methodLink "java/lang/AbstractStringBuilder" (108 : Nat) ({ cls := "java/util/Arrays", name := "copyOf", desc := "([BI)[B" } : Jvm.MethodName)) ∈ lw_all := lw_g (lw_at lw_m3 222 rfl) rfl
theorem q775 : (Jvm.Cond.methodLink "java/lang/AbstractStringBuilder" (83 : Nat) ({ cls := "java/lang/AbstractStringBuilder", name := "isLatin1", desc := "()Z" } : Jvm.MethodName)) ∈ lw_all := lw_g (lw_at lw_m3 232 rfl) rfl
theorem q776 : (Jvm.Cond.instanceMethod ({ cls := "java/lang/AbstractStringBuilder", name := "isLatin1", desc := "()Z" } : Jvm.MethodName)) ∈ lw_all := lw_g (lw_at lw_m3 233 rfl) rfl
theorem q777 : (Jvm.Cond.sameMethod "java/lang/AbstractStringBuilder" "java/lang/AbstractStringBuilder" "isLatin1" "()Z") ∈ lw_all := lw_g (lw_at lw_m3 234 rfl) rfl
theorem q779 : (Jvm.Cond.code ({ cls := "java/lang/AbstractStringBuilder", name := "isLatin1", desc := "()Z" } : Jvm.MethodName) prog_19_method_68_code (1 : Nat) (Option.some Jvm.ClassFile.FieldType.boolean)) ∈ lw_all := lw_g (lw_at lw_m3 236 rfl) rfl
theorem q780 : (Jvm.Cond.methodLink "java/lang/AbstractStringBuilder" (226 : Nat) ({ cls := "java/lang/StringUTF16", name := "putCharsAt", desc := "([BICCCC)I" } : Jvm.MethodName)) ∈ lw_all := lw_g (lw_at lw_m3 237 rfl) rfl
theorem q806 : (Jvm.Cond.methodLink "java/lang/AbstractStringBuilder" (32 : Nat) ({ cls := "java/lang/String", name := "length", desc := "()I" } : Jvm.MethodName)) ∈ lw_all := lw_g (lw_at lw_m4 23 rfl) rfl
theorem q815 : (Jvm.Cond.methodLink "java/lang/AbstractStringBuilder" (208 : Nat) ({ cls := "java/lang/AbstractStringBuilder", name := "putStringAt", desc := "(ILjava/lang/String;)V" } : Jvm.MethodName)) ∈ lw_all := lw_g (lw_at lw_m4 32 rfl) rfl
theorem q816 : (Jvm.Cond.privateMethod ({ cls := "java/lang/AbstractStringBuilder", name := "putStringAt", desc := "(ILjava/lang/String;)V" } : Jvm.MethodName)) ∈ lw_tbl := lw_at lw_m4 33 rfl
theorem q817 : (Jvm.Cond.instanceMethod ({ cls := "java/lang/AbstractStringBuilder", name := "putStringAt", desc := "(ILjava/lang/String;)V" } : Jvm.MethodName)) ∈ lw_all := lw_g (lw_at lw_m4 34 rfl) rfl
theorem q818 : (Jvm.Cond.code ({ cls := "java/lang/AbstractStringBuilder", name := "putStringAt", desc := "(ILjava/lang/String;)V" } : Jvm.MethodName) prog_19_method_73_code (3 : Nat) (Option.none : Option Jvm.ClassFile.FieldType)) ∈ lw_all := lw_g (lw_at lw_m4 35 rfl) rfl
theorem q819 : (Jvm.Cond.methodLink "java/lang/AbstractStringBuilder" (397 : Nat) ({ cls := "java/lang/AbstractStringBuilder", name := "inflateIfNeededFor", desc := "(Ljava/lang/String;)V" } : Jvm.MethodName)) ∈ lw_all := lw_g (lw_at lw_m4 36 rfl) rfl
theorem q820 : (Jvm.Cond.privateMethod ({ cls := "java/lang/AbstractStringBuilder", name := "inflateIfNeededFor", desc := "(Ljava/lang/String;)V" } : Jvm.MethodName)) ∈ lw_tbl := lw_at lw_m4 37 rfl
theorem q821 : (Jvm.Cond.instanceMethod ({ cls := "java/lang/AbstractStringBuilder", name := "inflateIfNeededFor", desc := "(Ljava/lang/String;)V" } : Jvm.MethodName)) ∈ lw_all := lw_g (lw_at lw_m4 38 rfl) rfl
theorem q822 : (Jvm.Cond.code ({ cls := "java/lang/AbstractStringBuilder", name := "inflateIfNeededFor", desc := "(Ljava/lang/String;)V" } : Jvm.MethodName) prog_19_method_71_code (2 : Nat) (Option.none : Option Jvm.ClassFile.FieldType)) ∈ lw_all := lw_g (lw_at lw_m4 39 rfl) rfl
theorem q823 : (Jvm.Cond.methodLink "java/lang/AbstractStringBuilder" (40 : Nat) ({ cls := "java/lang/String", name := "coder", desc := "()B" } : Jvm.MethodName)) ∈ lw_all := lw_g (lw_at lw_m4 40 rfl) rfl
theorem q824 : (Jvm.Cond.methodLink "java/lang/AbstractStringBuilder" (195 : Nat) ({ cls := "java/lang/AbstractStringBuilder", name := "inflate", desc := "()V" } : Jvm.MethodName)) ∈ lw_all := lw_g (lw_at lw_m4 41 rfl) rfl
theorem q825 : (Jvm.Cond.privateMethod ({ cls := "java/lang/AbstractStringBuilder", name := "inflate", desc := "()V" } : Jvm.MethodName)) ∈ lw_tbl := lw_at lw_m4 42 rfl
theorem q826 : (Jvm.Cond.instanceMethod ({ cls := "java/lang/AbstractStringBuilder", name := "inflate", desc := "()V" } : Jvm.MethodName)) ∈ lw_all := lw_g (lw_at lw_m4 43 rfl) rfl
theorem q827 : (Jvm.Cond.code ({ cls := "java/lang/AbstractStringBuilder", name := "inflate", desc := "()V" } : Jvm.MethodName) prog_19_method_11_code (2 : Nat) (Option.none : Option Jvm.ClassFile.FieldType)) ∈ lw_all := lw_g (lw_at lw_m4 44 rfl) rfl
theorem q828 : (Jvm.Cond.methodLink "java/lang/AbstractStringBuilder" (125 : Nat) ({ cls := "java/lang/StringLatin1", name := "inflate", desc := "([BI[BII)V" } : Jvm.MethodName)) ∈ lw_all := lw_g (lw_at lw_m4 45 rfl) rfl
theorem q843 : (Jvm.Cond.methodLink "java/lang/AbstractStringBuilder" (399 : Nat) ({ cls := "java/lang/String", name := "getBytes", desc := "([BIB)V" } : Jvm.MethodName)) ∈ lw_all := lw_g (lw_at lw_m4 60 rfl) rfl
theorem q855 : (Jvm.Cond.instanceMethod ({ cls := "java/lang/AbstractStringBuilder", name := "append", desc := "(I)Ljava/lang/AbstractStringBuilder;" } : Jvm.MethodName)) ∈ lw_all := lw_g (lw_at lw_m4 72 rfl) rfl
theorem q856 : (Jvm.Cond.code ({ cls := "java/lang/AbstractStringBuilder", name := "append", desc := "(I)Ljava/lang/AbstractStringBuilder;" } : Jvm.MethodName) prog_19_method_32_code (4 : Nat) (Option.some (Jvm.ClassFile.FieldType.object "java/lang/AbstractStringBuilder"))) ∈ lw_all := lw_g (lw_at lw_m4 73 rfl) rfl
theorem q857 : (Jvm.Cond.methodLink "java/lang/AbstractStringBuilder" (245 : Nat) ({ cls := "java/lang/Integer", name := "stringSize", desc := "(I)I" } : Jvm.MethodName)) ∈ lw_all := lw_g (lw_at lw_m4 74 rfl) rfl
theorem q860 : (Jvm.Cond.methodLink "java/lang/AbstractStringBuilder" (248 : Nat) ({ cls := "java/lang/Integer", name := "getChars", desc := "(II[B)I" } : Jvm.MethodName)) ∈ lw_all := lw_g (lw_at lw_m4 77 rfl) rfl
theorem q867 : (Jvm.Cond.methodLink "java/lang/AbstractStringBuilder" (251 : Nat) ({ cls := "java/lang/StringUTF16", name := "getChars", desc := "(III[B)I" } : Jvm.MethodName)) ∈ lw_all := lw_g (lw_at lw_m4 84 rfl) rfl
theorem q889 : (Jvm.Cond.instanceMethod ({ cls := "java/lang/AbstractStringBuilder", name := "getValue", desc := "()[B" } : Jvm.MethodName)) ∈ lw_all := lw_g (lw_at lw_m4 106 rfl) rfl
theorem q890 : (Jvm.Cond.sameMethod "java/lang/AbstractStringBuilder" "java/lang/AbstractStringBuilder" "getValue" "()[B") ∈ lw_all := lw_g (lw_at lw_m4 107 rfl) rfl
theorem q892 : (Jvm.Cond.code ({ cls := "java/lang/AbstractStringBuilder", name := "getValue", desc := "()[B" } : Jvm.MethodName) prog_19_method_64_code (1 : Nat) (Option.some (Jvm.ClassFile.FieldType.array Jvm.ClassFile.FieldType.byte))) ∈ lw_all := lw_g (lw_at lw_m4 109 rfl) rfl
theorem q894 : (Jvm.Cond.instanceMethod ({ cls := "java/lang/AbstractStringBuilder", name := "length", desc := "()I" } : Jvm.MethodName)) ∈ lw_all := lw_g (lw_at lw_m4 111 rfl) rfl
theorem q895 : (Jvm.Cond.sameMethod "java/lang/AbstractStringBuilder" "java/lang/AbstractStringBuilder" "length" "()I") ∈ lw_all := lw_g (lw_at lw_m4 112 rfl) rfl
theorem q900 : (Jvm.Cond.code ({ cls := "java/lang/AbstractStringBuilder", name := "length", desc := "()I" } : Jvm.MethodName) prog_19_method_6_code (1 : Nat) (Option.some Jvm.ClassFile.FieldType.int)) ∈ lw_all := lw_g (lw_at lw_m4 117 rfl) rfl
theorem q2050 : (Jvm.Cond.sameMethod "java/lang/AbstractStringBuilder" "java/lang/AbstractStringBuilder" "append" "(Ljava/lang/String;)Ljava/lang/AbstractStringBuilder;") ∈ lw_all := lw_g (lw_at lw_m9 67 rfl) rfl
theorem q2051 : (Jvm.Cond.sameMethod "java/lang/AbstractStringBuilder" "java/lang/AbstractStringBuilder" "appendNull" "()Ljava/lang/AbstractStringBuilder;") ∈ lw_all := lw_g (lw_at lw_m9 68 rfl) rfl
theorem q2052 : (Jvm.Cond.sameMethod "java/lang/AbstractStringBuilder" "java/lang/AbstractStringBuilder" "ensureCapacityInternal" "(I)V") ∈ lw_all := lw_g (lw_at lw_m9 69 rfl) rfl
theorem q2053 : (Jvm.Cond.sameMethod "java/lang/AbstractStringBuilder" "java/lang/AbstractStringBuilder" "newCapacity" "(I)I") ∈ lw_all := lw_g (lw_at lw_m9 70 rfl) rfl
theorem q2054 : (Jvm.Cond.sameMethod "java/lang/AbstractStringBuilder" "java/lang/AbstractStringBuilder" "putStringAt" "(ILjava/lang/String;)V") ∈ lw_all := lw_g (lw_at lw_m9 71 rfl) rfl
theorem q2055 : (Jvm.Cond.sameMethod "java/lang/AbstractStringBuilder" "java/lang/AbstractStringBuilder" "inflateIfNeededFor" "(Ljava/lang/String;)V") ∈ lw_all := lw_g (lw_at lw_m9 72 rfl) rfl
theorem q2056 : (Jvm.Cond.sameMethod "java/lang/AbstractStringBuilder" "java/lang/AbstractStringBuilder" "inflate" "()V") ∈ lw_all := lw_g (lw_at lw_m9 73 rfl) rfl
theorem q2057 : (Jvm.Cond.sameMethod "java/lang/AbstractStringBuilder" "java/lang/AbstractStringBuilder" "append" "(I)Ljava/lang/AbstractStringBuilder;") ∈ lw_all := lw_g (lw_at lw_m9 74 rfl) rfl
/-! java/lang/StringBuilder -/
set_option maxRecDepth 100000
def RJ21 : String := "java/lang/StringBuilder"
def TJ21 : u_T := fun k => match k with
  | 0 => ("java/lang/AbstractStringBuilder", "value", "[B", false)
  | 1 => ("java/lang/AbstractStringBuilder", "coder", "B", false)
  | 2 => ("java/lang/AbstractStringBuilder", "maybeLatin1", "Z", false)
  | _ => ("java/lang/AbstractStringBuilder", "count", "I", false)
def tyJ21 : Nat → FieldType := fun k => match k with
  | 0 => .array .byte
  | 1 => .byte
  | 2 => .boolean
  | _ => .int
abbrev wsJ210 : List Cond := u_ws RJ21 TJ21 4
theorem nmJ21 : ∀ a, a < 4 → ∀ b, b < 4 → a ≠ b → (TJ21 a).2.1 ≠ (TJ21 b).2.1 := by decide +kernel
theorem tyJ21_ok : ∀ k, k < 4 → parseFieldDescriptor (TJ21 k).2.2.1 = some (tyJ21 k) := by decide +kernel
abbrev cJ21_init : ByteArray := prog_36_method_1_code
def yJ21_init : MethodName := ⟨RJ21, "<init>", "()V"⟩
def dkwJ21_init_0 : List UInt8 := [42, 16, 16, 183, 0, 1, 177]
abbrev dktJ21_init_0 : List UInt8 := dkwJ21_init_0 ++ []
theorem dksJ21_init_0 : cJ21_init.data.toList.drop 0 = dktJ21_init_0 := by decide +kernel
theorem dJ21_init_0 : decode cJ21_init 0 = .ok (.aload_n 0, 1) := dk_42 (dk_at dksJ21_init_0 0 rfl rfl)
theorem dJ21_init_1 : decode cJ21_init 1 = .ok (.bipush 16, 2) := dk_16 16 (dk_at dksJ21_init_0 1 rfl rfl)
theorem dJ21_init_3 : decode cJ21_init 3 = .ok (.invokespecial 1, 3) := dk_183 0 1 (dk_at dksJ21_init_0 3 rfl rfl)
theorem dJ21_init_6 : decode cJ21_init 6 = .ok (.return_, 1) := dk_177 (dk_at dksJ21_init_0 6 rfl rfl)
abbrev cJ21_append : ByteArray := prog_36_method_7_code
def yJ21_append : MethodName := ⟨RJ21, "append", "(Ljava/lang/String;)Ljava/lang/StringBuilder;"⟩
def dkwJ21_append_0 : List UInt8 := [42, 43, 183, 0, 29, 87, 42, 176]
abbrev dktJ21_append_0 : List UInt8 := dkwJ21_append_0 ++ []
theorem dksJ21_append_0 : cJ21_append.data.toList.drop 0 = dktJ21_append_0 := by decide +kernel
theorem dJ21_append_0 : decode cJ21_append 0 = .ok (.aload_n 0, 1) := dk_42 (dk_at dksJ21_append_0 0 rfl rfl)
theorem dJ21_append_1 : decode cJ21_append 1 = .ok (.aload_n 1, 1) := dk_43 (dk_at dksJ21_append_0 1 rfl rfl)
theorem dJ21_append_2 : decode cJ21_append 2 = .ok (.invokespecial 29, 3) := dk_183 0 29 (dk_at dksJ21_append_0 2 rfl rfl)
theorem dJ21_append_5 : decode cJ21_append 5 = .ok (.pop, 1) := dk_87 (dk_at dksJ21_append_0 5 rfl rfl)
theorem dJ21_append_6 : decode cJ21_append 6 = .ok (.aload_n 0, 1) := dk_42 (dk_at dksJ21_append_0 6 rfl rfl)
theorem dJ21_append_7 : decode cJ21_append 7 = .ok (.areturn, 1) := dk_176 (dk_at dksJ21_append_0 7 rfl rfl)
abbrev cJ21_append_2 : ByteArray := prog_36_method_15_code
def yJ21_append_2 : MethodName := ⟨RJ21, "append", "(I)Ljava/lang/StringBuilder;"⟩
def dkwJ21_append_2_0 : List UInt8 := [42, 27, 183, 0, 53, 87, 42, 176]
abbrev dktJ21_append_2_0 : List UInt8 := dkwJ21_append_2_0 ++ []
theorem dksJ21_append_2_0 : cJ21_append_2.data.toList.drop 0 = dktJ21_append_2_0 := by decide +kernel
theorem dJ21_append_2_0 : decode cJ21_append_2 0 = .ok (.aload_n 0, 1) := dk_42 (dk_at dksJ21_append_2_0 0 rfl rfl)
theorem dJ21_append_2_1 : decode cJ21_append_2 1 = .ok (.iload_n 1, 1) := dk_27 (dk_at dksJ21_append_2_0 1 rfl rfl)
theorem dJ21_append_2_2 : decode cJ21_append_2 2 = .ok (.invokespecial 53, 3) := dk_183 0 53 (dk_at dksJ21_append_2_0 2 rfl rfl)
theorem dJ21_append_2_5 : decode cJ21_append_2 5 = .ok (.pop, 1) := dk_87 (dk_at dksJ21_append_2_0 5 rfl rfl)
theorem dJ21_append_2_6 : decode cJ21_append_2 6 = .ok (.aload_n 0, 1) := dk_42 (dk_at dksJ21_append_2_0 6 rfl rfl)
theorem dJ21_append_2_7 : decode cJ21_append_2 7 = .ok (.areturn, 1) := dk_176 (dk_at dksJ21_append_2_0 7 rfl rfl)
abbrev cJ21_toString : ByteArray := prog_36_method_42_code
def yJ21_toString : MethodName := ⟨RJ21, "toString", "()Ljava/lang/String;"⟩
def dkwJ21_toString_0 : List UInt8 := [187, 0, 18, 89, 42, 183, 0, 137, 176]
abbrev dktJ21_toString_0 : List UInt8 := dkwJ21_toString_0 ++ []
theorem dksJ21_toString_0 : cJ21_toString.data.toList.drop 0 = dktJ21_toString_0 := by decide +kernel
theorem dJ21_toString_0 : decode cJ21_toString 0 = .ok (.new 18, 3) := dk_187 0 18 (dk_at dksJ21_toString_0 0 rfl rfl)
theorem dJ21_toString_3 : decode cJ21_toString 3 = .ok (.dup, 1) := dk_89 (dk_at dksJ21_toString_0 3 rfl rfl)
theorem dJ21_toString_4 : decode cJ21_toString 4 = .ok (.aload_n 0, 1) := dk_42 (dk_at dksJ21_toString_0 4 rfl rfl)
theorem dJ21_toString_5 : decode cJ21_toString 5 = .ok (.invokespecial 137, 3) := dk_183 0 137 (dk_at dksJ21_toString_0 5 rfl rfl)
theorem dJ21_toString_8 : decode cJ21_toString 8 = .ok (.areturn, 1) := dk_176 (dk_at dksJ21_toString_0 8 rfl rfl)
abbrev cJ21_length : ByteArray := prog_36_method_93_code
def yJ21_length : MethodName := ⟨RJ21, "length", "()I"⟩
theorem dJ21_length_0 : decode cJ21_length 0 = .ok (.aload_n 0, 1) := by decide +kernel
theorem dJ21_length_1 : decode cJ21_length 1 = .ok (.invokespecial 343, 3) := by decide +kernel
theorem dJ21_length_4 : decode cJ21_length 4 = .ok (.ireturn, 1) := by decide +kernel
theorem q102 : (Jvm.Cond.initialized "java/lang/StringBuilder") ∈ lw_all := lw_g (lw_at lw_m1 39 rfl) rfl
theorem q271 : (Jvm.Cond.selects "java/lang/StringBuilder" ({ cls := "java/lang/Object", name := "getClass", desc := "()Ljava/lang/Class;" } : Jvm.MethodName) ({ cls := "java/lang/Object", name := "getClass", desc := "()Ljava/lang/Class;" } : Jvm.MethodName)) ∈ lw_all := lw_g (lw_at lw_m1 208 rfl) rfl
theorem q711 : (Jvm.Cond.instantiable "java/lang/StringBuilder" (4 : Nat)) ∈ lw_all := lw_g (lw_at lw_m3 168 rfl) rfl
theorem q713 : (Jvm.Cond.instanceMethod ({ cls := "java/lang/StringBuilder", name := "<init>", desc := "()V" } : Jvm.MethodName)) ∈ lw_all := lw_g (lw_at lw_m3 170 rfl) rfl
theorem q714 : (Jvm.Cond.code ({ cls := "java/lang/StringBuilder", name := "<init>", desc := "()V" } : Jvm.MethodName) prog_36_method_1_code (1 : Nat) (Option.none : Option Jvm.ClassFile.FieldType)) ∈ lw_all := lw_g (lw_at lw_m3 171 rfl) rfl
theorem q715 : (Jvm.Cond.methodLink "java/lang/StringBuilder" (1 : Nat) ({ cls := "java/lang/AbstractStringBuilder", name := "<init>", desc := "(I)V" } : Jvm.MethodName)) ∈ lw_all := lw_g (lw_at lw_m3 172 rfl) rfl
theorem q732 : (Jvm.Cond.lays "java/lang/StringBuilder" "java/lang/AbstractStringBuilder" "value" "[B") ∈ lw_all := lw_g (lw_at lw_m3 189 rfl) rfl
theorem q734 : (Jvm.Cond.lays "java/lang/StringBuilder" "java/lang/AbstractStringBuilder" "coder" "B") ∈ lw_all := lw_g (lw_at lw_m3 191 rfl) rfl
theorem q736 : (Jvm.Cond.lays "java/lang/StringBuilder" "java/lang/AbstractStringBuilder" "maybeLatin1" "Z") ∈ lw_all := lw_g (lw_at lw_m3 193 rfl) rfl
theorem q738 : (Jvm.Cond.lays "java/lang/StringBuilder" "java/lang/AbstractStringBuilder" "count" "I") ∈ lw_all := lw_g (lw_at lw_m3 195 rfl) rfl
theorem q740 : (Jvm.Cond.superclass "java/lang/StringBuilder" "java/lang/AbstractStringBuilder") ∈ lw_all := lw_g (lw_at lw_m3 197 rfl) rfl
theorem q745 : (Jvm.Cond.instanceMethod ({ cls := "java/lang/StringBuilder", name := "append", desc := "(Ljava/lang/String;)Ljava/lang/StringBuilder;" } : Jvm.MethodName)) ∈ lw_all := lw_g (lw_at lw_m3 202 rfl) rfl
theorem q746 : (Jvm.Cond.selects "java/lang/StringBuilder" ({ cls := "java/lang/StringBuilder", name := "append", desc := "(Ljava/lang/String;)Ljava/lang/StringBuilder;" } : Jvm.MethodName) ({ cls := "java/lang/StringBuilder", name := "append", desc := "(Ljava/lang/String;)Ljava/lang/StringBuilder;" } : Jvm.MethodName)) ∈ lw_all := lw_g (lw_at lw_m3 203 rfl) rfl
theorem q747 : (Jvm.Cond.code ({ cls := "java/lang/StringBuilder", name := "append", desc := "(Ljava/lang/String;)Ljava/lang/StringBuilder;" } : Jvm.MethodName) prog_36_method_7_code (2 : Nat) (Option.some (Jvm.ClassFile.FieldType.object "java/lang/StringBuilder"))) ∈ lw_all := lw_g (lw_at lw_m3 204 rfl) rfl
theorem q748 : (Jvm.Cond.methodLink "java/lang/StringBuilder" (29 : Nat) ({ cls := "java/lang/AbstractStringBuilder", name := "append", desc := "(Ljava/lang/String;)Ljava/lang/AbstractStringBuilder;" } : Jvm.MethodName)) ∈ lw_all := lw_g (lw_at lw_m3 205 rfl) rfl
theorem q778 : (Jvm.Cond.selects "java/lang/StringBuilder" ({ cls := "java/lang/AbstractStringBuilder", name := "isLatin1", desc := "()Z" } : Jvm.MethodName) ({ cls := "java/lang/AbstractStringBuilder", name := "isLatin1", desc := "()Z" } : Jvm.MethodName)) ∈ lw_all := lw_g (lw_at lw_m3 235 rfl) rfl
theorem q851 : (Jvm.Cond.instanceMethod ({ cls := "java/lang/StringBuilder", name := "append", desc := "(I)Ljava/lang/StringBuilder;" } : Jvm.MethodName)) ∈ lw_all := lw_g (lw_at lw_m4 68 rfl) rfl
theorem q852 : (Jvm.Cond.selects "java/lang/StringBuilder" ({ cls := "java/lang/StringBuilder", name := "append", desc := "(I)Ljava/lang/StringBuilder;" } : Jvm.MethodName) ({ cls := "java/lang/StringBuilder", name := "append", desc := "(I)Ljava/lang/StringBuilder;" } : Jvm.MethodName)) ∈ lw_all := lw_g (lw_at lw_m4 69 rfl) rfl
theorem q853 : (Jvm.Cond.code ({ cls := "java/lang/StringBuilder", name := "append", desc := "(I)Ljava/lang/StringBuilder;" } : Jvm.MethodName) prog_36_method_15_code (2 : Nat) (Option.some (Jvm.ClassFile.FieldType.object "java/lang/StringBuilder"))) ∈ lw_all := lw_g (lw_at lw_m4 70 rfl) rfl
theorem q854 : (Jvm.Cond.methodLink "java/lang/StringBuilder" (53 : Nat) ({ cls := "java/lang/AbstractStringBuilder", name := "append", desc := "(I)Ljava/lang/AbstractStringBuilder;" } : Jvm.MethodName)) ∈ lw_all := lw_g (lw_at lw_m4 71 rfl) rfl
theorem q876 : (Jvm.Cond.instanceMethod ({ cls := "java/lang/StringBuilder", name := "toString", desc := "()Ljava/lang/String;" } : Jvm.MethodName)) ∈ lw_all := lw_g (lw_at lw_m4 93 rfl) rfl
theorem q877 : (Jvm.Cond.selects "java/lang/StringBuilder" ({ cls := "java/lang/StringBuilder", name := "toString", desc := "()Ljava/lang/String;" } : Jvm.MethodName) ({ cls := "java/lang/StringBuilder", name := "toString", desc := "()Ljava/lang/String;" } : Jvm.MethodName)) ∈ lw_all := lw_g (lw_at lw_m4 94 rfl) rfl
theorem q878 : (Jvm.Cond.code ({ cls := "java/lang/StringBuilder", name := "toString", desc := "()Ljava/lang/String;" } : Jvm.MethodName) prog_36_method_42_code (1 : Nat) (Option.some (Jvm.ClassFile.FieldType.object "java/lang/String"))) ∈ lw_all := lw_g (lw_at lw_m4 95 rfl) rfl
theorem q879 : (Jvm.Cond.classLink "java/lang/StringBuilder" (18 : Nat) "java/lang/String") ∈ lw_all := lw_g (lw_at lw_m4 96 rfl) rfl
theorem q881 : (Jvm.Cond.methodLink "java/lang/StringBuilder" (137 : Nat) ({ cls := "java/lang/String", name := "<init>", desc := "(Ljava/lang/StringBuilder;)V" } : Jvm.MethodName)) ∈ lw_all := lw_g (lw_at lw_m4 98 rfl) rfl
theorem q891 : (Jvm.Cond.selects "java/lang/StringBuilder" ({ cls := "java/lang/AbstractStringBuilder", name := "getValue", desc := "()[B" } : Jvm.MethodName) ({ cls := "java/lang/AbstractStringBuilder", name := "getValue", desc := "()[B" } : Jvm.MethodName)) ∈ lw_all := lw_g (lw_at lw_m4 108 rfl) rfl
theorem q896 : (Jvm.Cond.selects "java/lang/StringBuilder" ({ cls := "java/lang/AbstractStringBuilder", name := "length", desc := "()I" } : Jvm.MethodName) ({ cls := "java/lang/StringBuilder", name := "length", desc := "()I" } : Jvm.MethodName)) ∈ lw_all := lw_g (lw_at lw_m4 113 rfl) rfl
theorem q897 : (Jvm.Cond.instanceMethod ({ cls := "java/lang/StringBuilder", name := "length", desc := "()I" } : Jvm.MethodName)) ∈ lw_all := lw_g (lw_at lw_m4 114 rfl) rfl
theorem q898 : (Jvm.Cond.code ({ cls := "java/lang/StringBuilder", name := "length", desc := "()I" } : Jvm.MethodName) prog_36_method_93_code (1 : Nat) (Option.some Jvm.ClassFile.FieldType.int)) ∈ lw_all := lw_g (lw_at lw_m4 115 rfl) rfl
theorem q899 : (Jvm.Cond.methodLink "java/lang/StringBuilder" (343 : Nat) ({ cls := "java/lang/AbstractStringBuilder", name := "length", desc := "()I" } : Jvm.MethodName)) ∈ lw_all := lw_g (lw_at lw_m4 116 rfl) rfl
theorem q1559 : (Jvm.Cond.selects "java/lang/StringBuilder" ({ cls := "java/lang/Object", name := "equals", desc := "(Ljava/lang/Object;)Z" } : Jvm.MethodName) ({ cls := "java/lang/Object", name := "equals", desc := "(Ljava/lang/Object;)Z" } : Jvm.MethodName)) ∈ lw_all := lw_g (lw_at lw_m7 56 rfl) rfl
theorem q2084 : (Jvm.Cond.castable "java/lang/StringBuilder" "java/lang/Object") ∈ lw_tbl := lw_at lw_m9 101 rfl
theorem in_J21 : ∀ w ∈ wsJ210, w ∈ lw_all := lw_in wsJ210 [732, 734, 736, 738] (by decide +kernel) (by decide +kernel)
/-! java/lang/StringUTF16 -/
set_option maxRecDepth 100000
def RJ22 : String := "java/lang/StringUTF16"
abbrev cJ22_newBytesFor : ByteArray := prog_38_method_2_code
def yJ22_newBytesFor : MethodName := ⟨RJ22, "newBytesFor", "(I)[B"⟩
def dkwJ22_newBytesFor_0 : List UInt8 := [26, 184, 0, 11, 188, 8, 176]
abbrev dktJ22_newBytesFor_0 : List UInt8 := dkwJ22_newBytesFor_0 ++ []
theorem dksJ22_newBytesFor_0 : cJ22_newBytesFor.data.toList.drop 0 = dktJ22_newBytesFor_0 := by decide +kernel
theorem dJ22_newBytesFor_0 : decode cJ22_newBytesFor 0 = .ok (.iload_n 0, 1) := dk_26 (dk_at dksJ22_newBytesFor_0 0 rfl rfl)
theorem dJ22_newBytesFor_1 : decode cJ22_newBytesFor 1 = .ok (.invokestatic 11, 3) := dk_184 0 11 (dk_at dksJ22_newBytesFor_0 1 rfl rfl)
theorem dJ22_newBytesFor_4 : decode cJ22_newBytesFor 4 = .ok (.newarray .byte, 2) := dk_188_8 (dk_at dksJ22_newBytesFor_0 4 rfl rfl)
theorem dJ22_newBytesFor_6 : decode cJ22_newBytesFor 6 = .ok (.areturn, 1) := dk_176 (dk_at dksJ22_newBytesFor_0 6 rfl rfl)
abbrev cJ22_newBytesLength : ByteArray := prog_38_method_3_code
def yJ22_newBytesLength : MethodName := ⟨RJ22, "newBytesLength", "(I)I"⟩
def dkwJ22_newBytesLength_2 : List UInt8 := [182, 0, 32, 182, 0, 37, 183, 0, 41, 191, 26, 4, 120, 172]
abbrev dktJ22_newBytesLength_2 : List UInt8 := dkwJ22_newBytesLength_2 ++ []
def dkwJ22_newBytesLength_1 : List UInt8 := [187, 0, 23, 89, 183, 0, 25, 18, 26, 182, 0, 28, 26, 182, 0, 32, 18, 35, 182, 0, 28, 18, 20]
abbrev dktJ22_newBytesLength_1 : List UInt8 := dkwJ22_newBytesLength_1 ++ dktJ22_newBytesLength_2
def dkwJ22_newBytesLength_0 : List UInt8 := [26, 156, 0, 11, 187, 0, 17, 89, 183, 0, 19, 191, 26, 18, 20, 161, 0, 40, 187, 0, 21, 89]
abbrev dktJ22_newBytesLength_0 : List UInt8 := dkwJ22_newBytesLength_0 ++ dktJ22_newBytesLength_1
theorem dksJ22_newBytesLength_0 : cJ22_newBytesLength.data.toList.drop 0 = dktJ22_newBytesLength_0 := by decide +kernel
theorem dksJ22_newBytesLength_1 : cJ22_newBytesLength.data.toList.drop 22 = dktJ22_newBytesLength_1 := dk_seg dksJ22_newBytesLength_0 22 rfl rfl
theorem dksJ22_newBytesLength_2 : cJ22_newBytesLength.data.toList.drop 45 = dktJ22_newBytesLength_2 := dk_seg dksJ22_newBytesLength_1 23 rfl rfl
theorem dJ22_newBytesLength_0 : decode cJ22_newBytesLength 0 = .ok (.iload_n 0, 1) := dk_26 (dk_at dksJ22_newBytesLength_0 0 rfl rfl)
theorem dJ22_newBytesLength_1 : decode cJ22_newBytesLength 1 = .ok (.ifCond .ge 11, 3) := dk_156 0 11 (dk_at dksJ22_newBytesLength_0 1 rfl rfl)
theorem dJ22_newBytesLength_4 : decode cJ22_newBytesLength 4 = .ok (.new 17, 3) := dk_187 0 17 (dk_at dksJ22_newBytesLength_0 4 rfl rfl)
theorem dJ22_newBytesLength_7 : decode cJ22_newBytesLength 7 = .ok (.dup, 1) := dk_89 (dk_at dksJ22_newBytesLength_0 7 rfl rfl)
theorem dJ22_newBytesLength_8 : decode cJ22_newBytesLength 8 = .ok (.invokespecial 19, 3) := dk_183 0 19 (dk_at dksJ22_newBytesLength_0 8 rfl rfl)
theorem dJ22_newBytesLength_11 : decode cJ22_newBytesLength 11 = .ok (.athrow, 1) := dk_191 (dk_at dksJ22_newBytesLength_0 11 rfl rfl)
theorem dJ22_newBytesLength_12 : decode cJ22_newBytesLength 12 = .ok (.iload_n 0, 1) := dk_26 (dk_at dksJ22_newBytesLength_0 12 rfl rfl)
theorem dJ22_newBytesLength_13 : decode cJ22_newBytesLength 13 = .ok (.ldc 20, 2) := dk_18 20 (dk_at dksJ22_newBytesLength_0 13 rfl rfl)
theorem dJ22_newBytesLength_15 : decode cJ22_newBytesLength 15 = .ok (.if_icmp .lt 40, 3) := dk_161 0 40 (dk_at dksJ22_newBytesLength_0 15 rfl rfl)
theorem dJ22_newBytesLength_18 : decode cJ22_newBytesLength 18 = .ok (.new 21, 3) := dk_187 0 21 (dk_at dksJ22_newBytesLength_0 18 rfl rfl)
theorem dJ22_newBytesLength_21 : decode cJ22_newBytesLength 21 = .ok (.dup, 1) := dk_89 (dk_at dksJ22_newBytesLength_0 21 rfl rfl)
theorem dJ22_newBytesLength_22 : decode cJ22_newBytesLength 22 = .ok (.new 23, 3) := dk_187 0 23 (dk_at dksJ22_newBytesLength_1 0 rfl rfl)
theorem dJ22_newBytesLength_25 : decode cJ22_newBytesLength 25 = .ok (.dup, 1) := dk_89 (dk_at dksJ22_newBytesLength_1 3 rfl rfl)
theorem dJ22_newBytesLength_26 : decode cJ22_newBytesLength 26 = .ok (.invokespecial 25, 3) := dk_183 0 25 (dk_at dksJ22_newBytesLength_1 4 rfl rfl)
theorem dJ22_newBytesLength_29 : decode cJ22_newBytesLength 29 = .ok (.ldc 26, 2) := dk_18 26 (dk_at dksJ22_newBytesLength_1 7 rfl rfl)
theorem dJ22_newBytesLength_31 : decode cJ22_newBytesLength 31 = .ok (.invokevirtual 28, 3) := dk_182 0 28 (dk_at dksJ22_newBytesLength_1 9 rfl rfl)
theorem dJ22_newBytesLength_34 : decode cJ22_newBytesLength 34 = .ok (.iload_n 0, 1) := dk_26 (dk_at dksJ22_newBytesLength_1 12 rfl rfl)
theorem dJ22_newBytesLength_35 : decode cJ22_newBytesLength 35 = .ok (.invokevirtual 32, 3) := dk_182 0 32 (dk_at dksJ22_newBytesLength_1 13 rfl rfl)
theorem dJ22_newBytesLength_38 : decode cJ22_newBytesLength 38 = .ok (.ldc 35, 2) := dk_18 35 (dk_at dksJ22_newBytesLength_1 16 rfl rfl)
theorem dJ22_newBytesLength_40 : decode cJ22_newBytesLength 40 = .ok (.invokevirtual 28, 3) := dk_182 0 28 (dk_at dksJ22_newBytesLength_1 18 rfl rfl)
theorem dJ22_newBytesLength_43 : decode cJ22_newBytesLength 43 = .ok (.ldc 20, 2) := dk_18 20 (dk_at dksJ22_newBytesLength_1 21 rfl rfl)
theorem dJ22_newBytesLength_45 : decode cJ22_newBytesLength 45 = .ok (.invokevirtual 32, 3) := dk_182 0 32 (dk_at dksJ22_newBytesLength_2 0 rfl rfl)
theorem dJ22_newBytesLength_48 : decode cJ22_newBytesLength 48 = .ok (.invokevirtual 37, 3) := dk_182 0 37 (dk_at dksJ22_newBytesLength_2 3 rfl rfl)
theorem dJ22_newBytesLength_51 : decode cJ22_newBytesLength 51 = .ok (.invokespecial 41, 3) := dk_183 0 41 (dk_at dksJ22_newBytesLength_2 6 rfl rfl)
theorem dJ22_newBytesLength_54 : decode cJ22_newBytesLength 54 = .ok (.athrow, 1) := dk_191 (dk_at dksJ22_newBytesLength_2 9 rfl rfl)
theorem dJ22_newBytesLength_55 : decode cJ22_newBytesLength 55 = .ok (.iload_n 0, 1) := dk_26 (dk_at dksJ22_newBytesLength_2 10 rfl rfl)
theorem dJ22_newBytesLength_56 : decode cJ22_newBytesLength 56 = .ok (.iconst 1, 1) := dk_4 (dk_at dksJ22_newBytesLength_2 11 rfl rfl)
theorem dJ22_newBytesLength_57 : decode cJ22_newBytesLength 57 = .ok (.ishl, 1) := dk_120 (dk_at dksJ22_newBytesLength_2 12 rfl rfl)
theorem dJ22_newBytesLength_58 : decode cJ22_newBytesLength 58 = .ok (.ireturn, 1) := dk_172 (dk_at dksJ22_newBytesLength_2 13 rfl rfl)
abbrev cJ22_putCharsAt : ByteArray := prog_38_method_81_code
def yJ22_putCharsAt : MethodName := ⟨RJ22, "putCharsAt", "([BICCCC)I"⟩
def dkwJ22_putCharsAt_3 : List UInt8 := [21, 6, 172]
abbrev dktJ22_putCharsAt_3 : List UInt8 := dkwJ22_putCharsAt_3 ++ []
def dkwJ22_putCharsAt_2 : List UInt8 := [184, 0, 111, 178, 0, 44, 154, 0, 17, 27, 21, 6, 159, 0, 11, 187, 0, 52, 89, 183, 0, 66, 191]
abbrev dktJ22_putCharsAt_2 : List UInt8 := dkwJ22_putCharsAt_2 ++ dktJ22_putCharsAt_3
def dkwJ22_putCharsAt_1 : List UInt8 := [132, 1, 1, 29, 184, 0, 111, 42, 27, 132, 1, 1, 21, 4, 184, 0, 111, 42, 27, 132, 1, 1, 21, 5]
abbrev dktJ22_putCharsAt_1 : List UInt8 := dkwJ22_putCharsAt_1 ++ dktJ22_putCharsAt_2
def dkwJ22_putCharsAt_0 : List UInt8 := [27, 7, 96, 54, 6, 27, 21, 6, 42, 184, 0, 96, 42, 27, 132, 1, 1, 28, 184, 0, 111, 42, 27]
abbrev dktJ22_putCharsAt_0 : List UInt8 := dkwJ22_putCharsAt_0 ++ dktJ22_putCharsAt_1
theorem dksJ22_putCharsAt_0 : cJ22_putCharsAt.data.toList.drop 0 = dktJ22_putCharsAt_0 := by decide +kernel
theorem dksJ22_putCharsAt_1 : cJ22_putCharsAt.data.toList.drop 23 = dktJ22_putCharsAt_1 := dk_seg dksJ22_putCharsAt_0 23 rfl rfl
theorem dksJ22_putCharsAt_2 : cJ22_putCharsAt.data.toList.drop 47 = dktJ22_putCharsAt_2 := dk_seg dksJ22_putCharsAt_1 24 rfl rfl
theorem dksJ22_putCharsAt_3 : cJ22_putCharsAt.data.toList.drop 70 = dktJ22_putCharsAt_3 := dk_seg dksJ22_putCharsAt_2 23 rfl rfl
theorem dJ22_putCharsAt_0 : decode cJ22_putCharsAt 0 = .ok (.iload_n 1, 1) := dk_27 (dk_at dksJ22_putCharsAt_0 0 rfl rfl)
theorem dJ22_putCharsAt_1 : decode cJ22_putCharsAt 1 = .ok (.iconst 4, 1) := dk_7 (dk_at dksJ22_putCharsAt_0 1 rfl rfl)
theorem dJ22_putCharsAt_2 : decode cJ22_putCharsAt 2 = .ok (.iadd, 1) := dk_96 (dk_at dksJ22_putCharsAt_0 2 rfl rfl)
theorem dJ22_putCharsAt_3 : decode cJ22_putCharsAt 3 = .ok (.istore 6, 2) := dk_54 6 (dk_at dksJ22_putCharsAt_0 3 rfl rfl)
theorem dJ22_putCharsAt_5 : decode cJ22_putCharsAt 5 = .ok (.iload_n 1, 1) := dk_27 (dk_at dksJ22_putCharsAt_0 5 rfl rfl)
theorem dJ22_putCharsAt_6 : decode cJ22_putCharsAt 6 = .ok (.iload 6, 2) := dk_21 6 (dk_at dksJ22_putCharsAt_0 6 rfl rfl)
theorem dJ22_putCharsAt_8 : decode cJ22_putCharsAt 8 = .ok (.aload_n 0, 1) := dk_42 (dk_at dksJ22_putCharsAt_0 8 rfl rfl)
theorem dJ22_putCharsAt_9 : decode cJ22_putCharsAt 9 = .ok (.invokestatic 96, 3) := dk_184 0 96 (dk_at dksJ22_putCharsAt_0 9 rfl rfl)
theorem dJ22_putCharsAt_12 : decode cJ22_putCharsAt 12 = .ok (.aload_n 0, 1) := dk_42 (dk_at dksJ22_putCharsAt_0 12 rfl rfl)
theorem dJ22_putCharsAt_13 : decode cJ22_putCharsAt 13 = .ok (.iload_n 1, 1) := dk_27 (dk_at dksJ22_putCharsAt_0 13 rfl rfl)
theorem dJ22_putCharsAt_14 : decode cJ22_putCharsAt 14 = .ok (.iinc 1 1, 3) := dk_132 1 1 (dk_at dksJ22_putCharsAt_0 14 rfl rfl)
theorem dJ22_putCharsAt_17 : decode cJ22_putCharsAt 17 = .ok (.iload_n 2, 1) := dk_28 (dk_at dksJ22_putCharsAt_0 17 rfl rfl)
theorem dJ22_putCharsAt_18 : decode cJ22_putCharsAt 18 = .ok (.invokestatic 111, 3) := dk_184 0 111 (dk_at dksJ22_putCharsAt_0 18 rfl rfl)
theorem dJ22_putCharsAt_21 : decode cJ22_putCharsAt 21 = .ok (.aload_n 0, 1) := dk_42 (dk_at dksJ22_putCharsAt_0 21 rfl rfl)
theorem dJ22_putCharsAt_22 : decode cJ22_putCharsAt 22 = .ok (.iload_n 1, 1) := dk_27 (dk_at dksJ22_putCharsAt_0 22 rfl rfl)
theorem dJ22_putCharsAt_23 : decode cJ22_putCharsAt 23 = .ok (.iinc 1 1, 3) := dk_132 1 1 (dk_at dksJ22_putCharsAt_1 0 rfl rfl)
theorem dJ22_putCharsAt_26 : decode cJ22_putCharsAt 26 = .ok (.iload_n 3, 1) := dk_29 (dk_at dksJ22_putCharsAt_1 3 rfl rfl)
theorem dJ22_putCharsAt_27 : decode cJ22_putCharsAt 27 = .ok (.invokestatic 111, 3) := dk_184 0 111 (dk_at dksJ22_putCharsAt_1 4 rfl rfl)
theorem dJ22_putCharsAt_30 : decode cJ22_putCharsAt 30 = .ok (.aload_n 0, 1) := dk_42 (dk_at dksJ22_putCharsAt_1 7 rfl rfl)
theorem dJ22_putCharsAt_31 : decode cJ22_putCharsAt 31 = .ok (.iload_n 1, 1) := dk_27 (dk_at dksJ22_putCharsAt_1 8 rfl rfl)
theorem dJ22_putCharsAt_32 : decode cJ22_putCharsAt 32 = .ok (.iinc 1 1, 3) := dk_132 1 1 (dk_at dksJ22_putCharsAt_1 9 rfl rfl)
theorem dJ22_putCharsAt_35 : decode cJ22_putCharsAt 35 = .ok (.iload 4, 2) := dk_21 4 (dk_at dksJ22_putCharsAt_1 12 rfl rfl)
theorem dJ22_putCharsAt_37 : decode cJ22_putCharsAt 37 = .ok (.invokestatic 111, 3) := dk_184 0 111 (dk_at dksJ22_putCharsAt_1 14 rfl rfl)
theorem dJ22_putCharsAt_40 : decode cJ22_putCharsAt 40 = .ok (.aload_n 0, 1) := dk_42 (dk_at dksJ22_putCharsAt_1 17 rfl rfl)
theorem dJ22_putCharsAt_41 : decode cJ22_putCharsAt 41 = .ok (.iload_n 1, 1) := dk_27 (dk_at dksJ22_putCharsAt_1 18 rfl rfl)
theorem dJ22_putCharsAt_42 : decode cJ22_putCharsAt 42 = .ok (.iinc 1 1, 3) := dk_132 1 1 (dk_at dksJ22_putCharsAt_1 19 rfl rfl)
theorem dJ22_putCharsAt_45 : decode cJ22_putCharsAt 45 = .ok (.iload 5, 2) := dk_21 5 (dk_at dksJ22_putCharsAt_1 22 rfl rfl)
theorem dJ22_putCharsAt_47 : decode cJ22_putCharsAt 47 = .ok (.invokestatic 111, 3) := dk_184 0 111 (dk_at dksJ22_putCharsAt_2 0 rfl rfl)
theorem dJ22_putCharsAt_50 : decode cJ22_putCharsAt 50 = .ok (.getstatic 44, 3) := dk_178 0 44 (dk_at dksJ22_putCharsAt_2 3 rfl rfl)
theorem dJ22_putCharsAt_53 : decode cJ22_putCharsAt 53 = .ok (.ifCond .ne 17, 3) := dk_154 0 17 (dk_at dksJ22_putCharsAt_2 6 rfl rfl)
theorem dJ22_putCharsAt_56 : decode cJ22_putCharsAt 56 = .ok (.iload_n 1, 1) := dk_27 (dk_at dksJ22_putCharsAt_2 9 rfl rfl)
theorem dJ22_putCharsAt_57 : decode cJ22_putCharsAt 57 = .ok (.iload 6, 2) := dk_21 6 (dk_at dksJ22_putCharsAt_2 10 rfl rfl)
theorem dJ22_putCharsAt_59 : decode cJ22_putCharsAt 59 = .ok (.if_icmp .eq 11, 3) := dk_159 0 11 (dk_at dksJ22_putCharsAt_2 12 rfl rfl)
theorem dJ22_putCharsAt_62 : decode cJ22_putCharsAt 62 = .ok (.new 52, 3) := dk_187 0 52 (dk_at dksJ22_putCharsAt_2 15 rfl rfl)
theorem dJ22_putCharsAt_65 : decode cJ22_putCharsAt 65 = .ok (.dup, 1) := dk_89 (dk_at dksJ22_putCharsAt_2 18 rfl rfl)
theorem dJ22_putCharsAt_66 : decode cJ22_putCharsAt 66 = .ok (.invokespecial 66, 3) := dk_183 0 66 (dk_at dksJ22_putCharsAt_2 19 rfl rfl)
theorem dJ22_putCharsAt_69 : decode cJ22_putCharsAt 69 = .ok (.athrow, 1) := dk_191 (dk_at dksJ22_putCharsAt_2 22 rfl rfl)
theorem dJ22_putCharsAt_70 : decode cJ22_putCharsAt 70 = .ok (.iload 6, 2) := dk_21 6 (dk_at dksJ22_putCharsAt_3 0 rfl rfl)
theorem dJ22_putCharsAt_72 : decode cJ22_putCharsAt 72 = .ok (.ireturn, 1) := dk_172 (dk_at dksJ22_putCharsAt_3 2 rfl rfl)
abbrev cJ22_checkBoundsBeginEnd : ByteArray := prog_38_method_93_code
def yJ22_checkBoundsBeginEnd : MethodName := ⟨RJ22, "checkBoundsBeginEnd", "(II[B)V"⟩
def dkwJ22_checkBoundsBeginEnd_0 : List UInt8 := [26, 27, 44, 184, 0, 48, 184, 0, 241, 177]
abbrev dktJ22_checkBoundsBeginEnd_0 : List UInt8 := dkwJ22_checkBoundsBeginEnd_0 ++ []
theorem dksJ22_checkBoundsBeginEnd_0 : cJ22_checkBoundsBeginEnd.data.toList.drop 0 = dktJ22_checkBoundsBeginEnd_0 := by decide +kernel
theorem dJ22_checkBoundsBeginEnd_0 : decode cJ22_checkBoundsBeginEnd 0 = .ok (.iload_n 0, 1) := dk_26 (dk_at dksJ22_checkBoundsBeginEnd_0 0 rfl rfl)
theorem dJ22_checkBoundsBeginEnd_1 : decode cJ22_checkBoundsBeginEnd 1 = .ok (.iload_n 1, 1) := dk_27 (dk_at dksJ22_checkBoundsBeginEnd_0 1 rfl rfl)
theorem dJ22_checkBoundsBeginEnd_2 : decode cJ22_checkBoundsBeginEnd 2 = .ok (.aload_n 2, 1) := dk_44 (dk_at dksJ22_checkBoundsBeginEnd_0 2 rfl rfl)
theorem dJ22_checkBoundsBeginEnd_3 : decode cJ22_checkBoundsBeginEnd 3 = .ok (.invokestatic 48, 3) := dk_184 0 48 (dk_at dksJ22_checkBoundsBeginEnd_0 3 rfl rfl)
theorem dJ22_checkBoundsBeginEnd_6 : decode cJ22_checkBoundsBeginEnd 6 = .ok (.invokestatic 241, 3) := dk_184 0 241 (dk_at dksJ22_checkBoundsBeginEnd_0 6 rfl rfl)
theorem dJ22_checkBoundsBeginEnd_9 : decode cJ22_checkBoundsBeginEnd 9 = .ok (.return_, 1) := dk_177 (dk_at dksJ22_checkBoundsBeginEnd_0 9 rfl rfl)
abbrev cJ22_length : ByteArray := prog_38_method_6_code
def yJ22_length : MethodName := ⟨RJ22, "length", "([B)I"⟩
def dkwJ22_length_0 : List UInt8 := [42, 190, 4, 122, 172]
abbrev dktJ22_length_0 : List UInt8 := dkwJ22_length_0 ++ []
theorem dksJ22_length_0 : cJ22_length.data.toList.drop 0 = dktJ22_length_0 := by decide +kernel
theorem dJ22_length_0 : decode cJ22_length 0 = .ok (.aload_n 0, 1) := dk_42 (dk_at dksJ22_length_0 0 rfl rfl)
theorem dJ22_length_1 : decode cJ22_length 1 = .ok (.arraylength, 1) := dk_190 (dk_at dksJ22_length_0 1 rfl rfl)
theorem dJ22_length_2 : decode cJ22_length 2 = .ok (.iconst 1, 1) := dk_4 (dk_at dksJ22_length_0 2 rfl rfl)
theorem dJ22_length_3 : decode cJ22_length 3 = .ok (.ishr, 1) := dk_122 (dk_at dksJ22_length_0 3 rfl rfl)
theorem dJ22_length_4 : decode cJ22_length 4 = .ok (.ireturn, 1) := dk_172 (dk_at dksJ22_length_0 4 rfl rfl)
abbrev cJ22_putChar : ByteArray := prog_38_method_4_code
def yJ22_putChar : MethodName := ⟨RJ22, "putChar", "([BII)V"⟩
def dkwJ22_putChar_2 : List UInt8 := [178, 0, 63, 122, 145, 84, 177]
abbrev dktJ22_putChar_2 : List UInt8 := dkwJ22_putChar_2 ++ []
def dkwJ22_putChar_1 : List UInt8 := [183, 0, 56, 191, 27, 4, 120, 60, 42, 27, 132, 1, 1, 28, 178, 0, 59, 122, 145, 84, 42, 27, 28]
abbrev dktJ22_putChar_1 : List UInt8 := dkwJ22_putChar_1 ++ dktJ22_putChar_2
def dkwJ22_putChar_0 : List UInt8 := [178, 0, 44, 154, 0, 25, 27, 155, 0, 11, 27, 42, 184, 0, 48, 161, 0, 13, 187, 0, 52, 89, 18, 54]
abbrev dktJ22_putChar_0 : List UInt8 := dkwJ22_putChar_0 ++ dktJ22_putChar_1
theorem dksJ22_putChar_0 : cJ22_putChar.data.toList.drop 0 = dktJ22_putChar_0 := by decide +kernel
theorem dksJ22_putChar_1 : cJ22_putChar.data.toList.drop 24 = dktJ22_putChar_1 := dk_seg dksJ22_putChar_0 24 rfl rfl
theorem dksJ22_putChar_2 : cJ22_putChar.data.toList.drop 47 = dktJ22_putChar_2 := dk_seg dksJ22_putChar_1 23 rfl rfl
theorem dJ22_putChar_0 : decode cJ22_putChar 0 = .ok (.getstatic 44, 3) := dk_178 0 44 (dk_at dksJ22_putChar_0 0 rfl rfl)
theorem dJ22_putChar_3 : decode cJ22_putChar 3 = .ok (.ifCond .ne 25, 3) := dk_154 0 25 (dk_at dksJ22_putChar_0 3 rfl rfl)
theorem dJ22_putChar_6 : decode cJ22_putChar 6 = .ok (.iload_n 1, 1) := dk_27 (dk_at dksJ22_putChar_0 6 rfl rfl)
theorem dJ22_putChar_7 : decode cJ22_putChar 7 = .ok (.ifCond .lt 11, 3) := dk_155 0 11 (dk_at dksJ22_putChar_0 7 rfl rfl)
theorem dJ22_putChar_10 : decode cJ22_putChar 10 = .ok (.iload_n 1, 1) := dk_27 (dk_at dksJ22_putChar_0 10 rfl rfl)
theorem dJ22_putChar_11 : decode cJ22_putChar 11 = .ok (.aload_n 0, 1) := dk_42 (dk_at dksJ22_putChar_0 11 rfl rfl)
theorem dJ22_putChar_12 : decode cJ22_putChar 12 = .ok (.invokestatic 48, 3) := dk_184 0 48 (dk_at dksJ22_putChar_0 12 rfl rfl)
theorem dJ22_putChar_15 : decode cJ22_putChar 15 = .ok (.if_icmp .lt 13, 3) := dk_161 0 13 (dk_at dksJ22_putChar_0 15 rfl rfl)
theorem dJ22_putChar_18 : decode cJ22_putChar 18 = .ok (.new 52, 3) := dk_187 0 52 (dk_at dksJ22_putChar_0 18 rfl rfl)
theorem dJ22_putChar_21 : decode cJ22_putChar 21 = .ok (.dup, 1) := dk_89 (dk_at dksJ22_putChar_0 21 rfl rfl)
theorem dJ22_putChar_22 : decode cJ22_putChar 22 = .ok (.ldc 54, 2) := dk_18 54 (dk_at dksJ22_putChar_0 22 rfl rfl)
theorem dJ22_putChar_24 : decode cJ22_putChar 24 = .ok (.invokespecial 56, 3) := dk_183 0 56 (dk_at dksJ22_putChar_1 0 rfl rfl)
theorem dJ22_putChar_27 : decode cJ22_putChar 27 = .ok (.athrow, 1) := dk_191 (dk_at dksJ22_putChar_1 3 rfl rfl)
theorem dJ22_putChar_28 : decode cJ22_putChar 28 = .ok (.iload_n 1, 1) := dk_27 (dk_at dksJ22_putChar_1 4 rfl rfl)
theorem dJ22_putChar_29 : decode cJ22_putChar 29 = .ok (.iconst 1, 1) := dk_4 (dk_at dksJ22_putChar_1 5 rfl rfl)
theorem dJ22_putChar_30 : decode cJ22_putChar 30 = .ok (.ishl, 1) := dk_120 (dk_at dksJ22_putChar_1 6 rfl rfl)
theorem dJ22_putChar_31 : decode cJ22_putChar 31 = .ok (.istore_n 1, 1) := dk_60 (dk_at dksJ22_putChar_1 7 rfl rfl)
theorem dJ22_putChar_32 : decode cJ22_putChar 32 = .ok (.aload_n 0, 1) := dk_42 (dk_at dksJ22_putChar_1 8 rfl rfl)
theorem dJ22_putChar_33 : decode cJ22_putChar 33 = .ok (.iload_n 1, 1) := dk_27 (dk_at dksJ22_putChar_1 9 rfl rfl)
theorem dJ22_putChar_34 : decode cJ22_putChar 34 = .ok (.iinc 1 1, 3) := dk_132 1 1 (dk_at dksJ22_putChar_1 10 rfl rfl)
theorem dJ22_putChar_37 : decode cJ22_putChar 37 = .ok (.iload_n 2, 1) := dk_28 (dk_at dksJ22_putChar_1 13 rfl rfl)
theorem dJ22_putChar_38 : decode cJ22_putChar 38 = .ok (.getstatic 59, 3) := dk_178 0 59 (dk_at dksJ22_putChar_1 14 rfl rfl)
theorem dJ22_putChar_41 : decode cJ22_putChar 41 = .ok (.ishr, 1) := dk_122 (dk_at dksJ22_putChar_1 17 rfl rfl)
theorem dJ22_putChar_42 : decode cJ22_putChar 42 = .ok (.i2b, 1) := dk_145 (dk_at dksJ22_putChar_1 18 rfl rfl)
theorem dJ22_putChar_43 : decode cJ22_putChar 43 = .ok (.bastore, 1) := dk_84 (dk_at dksJ22_putChar_1 19 rfl rfl)
theorem dJ22_putChar_44 : decode cJ22_putChar 44 = .ok (.aload_n 0, 1) := dk_42 (dk_at dksJ22_putChar_1 20 rfl rfl)
theorem dJ22_putChar_45 : decode cJ22_putChar 45 = .ok (.iload_n 1, 1) := dk_27 (dk_at dksJ22_putChar_1 21 rfl rfl)
theorem dJ22_putChar_46 : decode cJ22_putChar 46 = .ok (.iload_n 2, 1) := dk_28 (dk_at dksJ22_putChar_1 22 rfl rfl)
theorem dJ22_putChar_47 : decode cJ22_putChar 47 = .ok (.getstatic 63, 3) := dk_178 0 63 (dk_at dksJ22_putChar_2 0 rfl rfl)
theorem dJ22_putChar_50 : decode cJ22_putChar 50 = .ok (.ishr, 1) := dk_122 (dk_at dksJ22_putChar_2 3 rfl rfl)
theorem dJ22_putChar_51 : decode cJ22_putChar 51 = .ok (.i2b, 1) := dk_145 (dk_at dksJ22_putChar_2 4 rfl rfl)
theorem dJ22_putChar_52 : decode cJ22_putChar 52 = .ok (.bastore, 1) := dk_84 (dk_at dksJ22_putChar_2 5 rfl rfl)
theorem dJ22_putChar_53 : decode cJ22_putChar 53 = .ok (.return_, 1) := dk_177 (dk_at dksJ22_putChar_2 6 rfl rfl)
abbrev cJ22_inflate : ByteArray := prog_38_method_86_code
def yJ22_inflate : MethodName := ⟨RJ22, "inflate", "([BI[BII)V"⟩
def dkwJ22_inflate_1 : List UInt8 := [132, 1, 1, 51, 17, 0, 255, 126, 184, 0, 111, 132, 5, 1, 167, 255, 228, 177]
abbrev dktJ22_inflate_1 : List UInt8 := dkwJ22_inflate_1 ++ []
def dkwJ22_inflate_0 : List UInt8 := [29, 21, 4, 44, 184, 0, 173, 3, 54, 5, 21, 5, 21, 4, 162, 0, 27, 44, 29, 132, 3, 1, 42, 27]
abbrev dktJ22_inflate_0 : List UInt8 := dkwJ22_inflate_0 ++ dktJ22_inflate_1
theorem dksJ22_inflate_0 : cJ22_inflate.data.toList.drop 0 = dktJ22_inflate_0 := by decide +kernel
theorem dksJ22_inflate_1 : cJ22_inflate.data.toList.drop 24 = dktJ22_inflate_1 := dk_seg dksJ22_inflate_0 24 rfl rfl
theorem dJ22_inflate_0 : decode cJ22_inflate 0 = .ok (.iload_n 3, 1) := dk_29 (dk_at dksJ22_inflate_0 0 rfl rfl)
theorem dJ22_inflate_1 : decode cJ22_inflate 1 = .ok (.iload 4, 2) := dk_21 4 (dk_at dksJ22_inflate_0 1 rfl rfl)
theorem dJ22_inflate_3 : decode cJ22_inflate 3 = .ok (.aload_n 2, 1) := dk_44 (dk_at dksJ22_inflate_0 3 rfl rfl)
theorem dJ22_inflate_4 : decode cJ22_inflate 4 = .ok (.invokestatic 173, 3) := dk_184 0 173 (dk_at dksJ22_inflate_0 4 rfl rfl)
theorem dJ22_inflate_7 : decode cJ22_inflate 7 = .ok (.iconst 0, 1) := dk_3 (dk_at dksJ22_inflate_0 7 rfl rfl)
theorem dJ22_inflate_8 : decode cJ22_inflate 8 = .ok (.istore 5, 2) := dk_54 5 (dk_at dksJ22_inflate_0 8 rfl rfl)
theorem dJ22_inflate_10 : decode cJ22_inflate 10 = .ok (.iload 5, 2) := dk_21 5 (dk_at dksJ22_inflate_0 10 rfl rfl)
theorem dJ22_inflate_12 : decode cJ22_inflate 12 = .ok (.iload 4, 2) := dk_21 4 (dk_at dksJ22_inflate_0 12 rfl rfl)
theorem dJ22_inflate_14 : decode cJ22_inflate 14 = .ok (.if_icmp .ge 27, 3) := dk_162 0 27 (dk_at dksJ22_inflate_0 14 rfl rfl)
theorem dJ22_inflate_17 : decode cJ22_inflate 17 = .ok (.aload_n 2, 1) := dk_44 (dk_at dksJ22_inflate_0 17 rfl rfl)
theorem dJ22_inflate_18 : decode cJ22_inflate 18 = .ok (.iload_n 3, 1) := dk_29 (dk_at dksJ22_inflate_0 18 rfl rfl)
theorem dJ22_inflate_19 : decode cJ22_inflate 19 = .ok (.iinc 3 1, 3) := dk_132 3 1 (dk_at dksJ22_inflate_0 19 rfl rfl)
theorem dJ22_inflate_22 : decode cJ22_inflate 22 = .ok (.aload_n 0, 1) := dk_42 (dk_at dksJ22_inflate_0 22 rfl rfl)
theorem dJ22_inflate_23 : decode cJ22_inflate 23 = .ok (.iload_n 1, 1) := dk_27 (dk_at dksJ22_inflate_0 23 rfl rfl)
theorem dJ22_inflate_24 : decode cJ22_inflate 24 = .ok (.iinc 1 1, 3) := dk_132 1 1 (dk_at dksJ22_inflate_1 0 rfl rfl)
theorem dJ22_inflate_27 : decode cJ22_inflate 27 = .ok (.baload, 1) := dk_51 (dk_at dksJ22_inflate_1 3 rfl rfl)
theorem dJ22_inflate_28 : decode cJ22_inflate 28 = .ok (.sipush 255, 3) := dk_17 0 255 (dk_at dksJ22_inflate_1 4 rfl rfl)
theorem dJ22_inflate_31 : decode cJ22_inflate 31 = .ok (.iand, 1) := dk_126 (dk_at dksJ22_inflate_1 7 rfl rfl)
theorem dJ22_inflate_32 : decode cJ22_inflate 32 = .ok (.invokestatic 111, 3) := dk_184 0 111 (dk_at dksJ22_inflate_1 8 rfl rfl)
theorem dJ22_inflate_35 : decode cJ22_inflate 35 = .ok (.iinc 5 1, 3) := dk_132 5 1 (dk_at dksJ22_inflate_1 11 rfl rfl)
theorem dJ22_inflate_38 : decode cJ22_inflate 38 = .ok (.goto (-28), 3) := dk_167 255 228 (dk_at dksJ22_inflate_1 14 rfl rfl)
theorem dJ22_inflate_41 : decode cJ22_inflate 41 = .ok (.return_, 1) := dk_177 (dk_at dksJ22_inflate_1 17 rfl rfl)
abbrev cJ22_checkBoundsOffCount : ByteArray := prog_38_method_94_code
def yJ22_checkBoundsOffCount : MethodName := ⟨RJ22, "checkBoundsOffCount", "(II[B)V"⟩
def dkwJ22_checkBoundsOffCount_0 : List UInt8 := [26, 27, 44, 184, 0, 48, 184, 1, 163, 87, 177]
abbrev dktJ22_checkBoundsOffCount_0 : List UInt8 := dkwJ22_checkBoundsOffCount_0 ++ []
theorem dksJ22_checkBoundsOffCount_0 : cJ22_checkBoundsOffCount.data.toList.drop 0 = dktJ22_checkBoundsOffCount_0 := by decide +kernel
theorem dJ22_checkBoundsOffCount_0 : decode cJ22_checkBoundsOffCount 0 = .ok (.iload_n 0, 1) := dk_26 (dk_at dksJ22_checkBoundsOffCount_0 0 rfl rfl)
theorem dJ22_checkBoundsOffCount_1 : decode cJ22_checkBoundsOffCount 1 = .ok (.iload_n 1, 1) := dk_27 (dk_at dksJ22_checkBoundsOffCount_0 1 rfl rfl)
theorem dJ22_checkBoundsOffCount_2 : decode cJ22_checkBoundsOffCount 2 = .ok (.aload_n 2, 1) := dk_44 (dk_at dksJ22_checkBoundsOffCount_0 2 rfl rfl)
theorem dJ22_checkBoundsOffCount_3 : decode cJ22_checkBoundsOffCount 3 = .ok (.invokestatic 48, 3) := dk_184 0 48 (dk_at dksJ22_checkBoundsOffCount_0 3 rfl rfl)
theorem dJ22_checkBoundsOffCount_6 : decode cJ22_checkBoundsOffCount 6 = .ok (.invokestatic 419, 3) := dk_184 1 163 (dk_at dksJ22_checkBoundsOffCount_0 6 rfl rfl)
theorem dJ22_checkBoundsOffCount_9 : decode cJ22_checkBoundsOffCount 9 = .ok (.pop, 1) := dk_87 (dk_at dksJ22_checkBoundsOffCount_0 9 rfl rfl)
theorem dJ22_checkBoundsOffCount_10 : decode cJ22_checkBoundsOffCount 10 = .ok (.return_, 1) := dk_177 (dk_at dksJ22_checkBoundsOffCount_0 10 rfl rfl)
abbrev cJ22_getChars : ByteArray := prog_38_method_77_code
def yJ22_getChars : MethodName := ⟨RJ22, "getChars", "(III[B)I"⟩
def dkwJ22_getChars_1 : List UInt8 := [159, 0, 11, 187, 0, 52, 89, 183, 0, 66, 191, 21, 4, 172]
abbrev dktJ22_getChars_1 : List UInt8 := dkwJ22_getChars_1 ++ []
def dkwJ22_getChars_0 : List UInt8 := [27, 28, 45, 184, 0, 96, 26, 28, 45, 184, 1, 137, 54, 4, 178, 0, 44, 154, 0, 17, 27, 21, 4]
abbrev dktJ22_getChars_0 : List UInt8 := dkwJ22_getChars_0 ++ dktJ22_getChars_1
theorem dksJ22_getChars_0 : cJ22_getChars.data.toList.drop 0 = dktJ22_getChars_0 := by decide +kernel
theorem dksJ22_getChars_1 : cJ22_getChars.data.toList.drop 23 = dktJ22_getChars_1 := dk_seg dksJ22_getChars_0 23 rfl rfl
theorem dJ22_getChars_0 : decode cJ22_getChars 0 = .ok (.iload_n 1, 1) := dk_27 (dk_at dksJ22_getChars_0 0 rfl rfl)
theorem dJ22_getChars_1 : decode cJ22_getChars 1 = .ok (.iload_n 2, 1) := dk_28 (dk_at dksJ22_getChars_0 1 rfl rfl)
theorem dJ22_getChars_2 : decode cJ22_getChars 2 = .ok (.aload_n 3, 1) := dk_45 (dk_at dksJ22_getChars_0 2 rfl rfl)
theorem dJ22_getChars_3 : decode cJ22_getChars 3 = .ok (.invokestatic 96, 3) := dk_184 0 96 (dk_at dksJ22_getChars_0 3 rfl rfl)
theorem dJ22_getChars_6 : decode cJ22_getChars 6 = .ok (.iload_n 0, 1) := dk_26 (dk_at dksJ22_getChars_0 6 rfl rfl)
theorem dJ22_getChars_7 : decode cJ22_getChars 7 = .ok (.iload_n 2, 1) := dk_28 (dk_at dksJ22_getChars_0 7 rfl rfl)
theorem dJ22_getChars_8 : decode cJ22_getChars 8 = .ok (.aload_n 3, 1) := dk_45 (dk_at dksJ22_getChars_0 8 rfl rfl)
theorem dJ22_getChars_9 : decode cJ22_getChars 9 = .ok (.invokestatic 393, 3) := dk_184 1 137 (dk_at dksJ22_getChars_0 9 rfl rfl)
theorem dJ22_getChars_12 : decode cJ22_getChars 12 = .ok (.istore 4, 2) := dk_54 4 (dk_at dksJ22_getChars_0 12 rfl rfl)
theorem dJ22_getChars_14 : decode cJ22_getChars 14 = .ok (.getstatic 44, 3) := dk_178 0 44 (dk_at dksJ22_getChars_0 14 rfl rfl)
theorem dJ22_getChars_17 : decode cJ22_getChars 17 = .ok (.ifCond .ne 17, 3) := dk_154 0 17 (dk_at dksJ22_getChars_0 17 rfl rfl)
theorem dJ22_getChars_20 : decode cJ22_getChars 20 = .ok (.iload_n 1, 1) := dk_27 (dk_at dksJ22_getChars_0 20 rfl rfl)
theorem dJ22_getChars_21 : decode cJ22_getChars 21 = .ok (.iload 4, 2) := dk_21 4 (dk_at dksJ22_getChars_0 21 rfl rfl)
theorem dJ22_getChars_23 : decode cJ22_getChars 23 = .ok (.if_icmp .eq 11, 3) := dk_159 0 11 (dk_at dksJ22_getChars_1 0 rfl rfl)
theorem dJ22_getChars_26 : decode cJ22_getChars 26 = .ok (.new 52, 3) := dk_187 0 52 (dk_at dksJ22_getChars_1 3 rfl rfl)
theorem dJ22_getChars_29 : decode cJ22_getChars 29 = .ok (.dup, 1) := dk_89 (dk_at dksJ22_getChars_1 6 rfl rfl)
theorem dJ22_getChars_30 : decode cJ22_getChars 30 = .ok (.invokespecial 66, 3) := dk_183 0 66 (dk_at dksJ22_getChars_1 7 rfl rfl)
theorem dJ22_getChars_33 : decode cJ22_getChars 33 = .ok (.athrow, 1) := dk_191 (dk_at dksJ22_getChars_1 10 rfl rfl)
theorem dJ22_getChars_34 : decode cJ22_getChars 34 = .ok (.iload 4, 2) := dk_21 4 (dk_at dksJ22_getChars_1 11 rfl rfl)
theorem dJ22_getChars_36 : decode cJ22_getChars 36 = .ok (.ireturn, 1) := dk_172 (dk_at dksJ22_getChars_1 13 rfl rfl)
abbrev cJ22_getChars_2 : ByteArray := prog_38_method_89_code
def yJ22_getChars_2 : MethodName := ⟨RJ22, "getChars", "(II[B)I"⟩
def dkwJ22_getChars_2_5 : List UInt8 := [132, 5, 255, 21, 5, 16, 45, 184, 0, 111, 21, 5, 172]
abbrev dktJ22_getChars_2_5 : List UInt8 := dkwJ22_getChars_2_5 ++ []
def dkwJ22_getChars_2_4 : List UInt8 := [162, 0, 18, 44, 132, 5, 255, 21, 5, 178, 1, 151, 26, 116, 51, 184, 0, 111, 21, 6, 153, 0, 14, 44]
abbrev dktJ22_getChars_2_4 : List UInt8 := dkwJ22_getChars_2_4 ++ dktJ22_getChars_2_5
def dkwJ22_getChars_2_3 : List UInt8 := [184, 0, 111, 167, 255, 205, 44, 132, 5, 255, 21, 5, 178, 1, 147, 26, 116, 51, 184, 0, 111, 26, 16, 247]
abbrev dktJ22_getChars_2_3 : List UInt8 := dkwJ22_getChars_2_3 ++ dktJ22_getChars_2_4
def dkwJ22_getChars_2_2 : List UInt8 := [21, 5, 178, 1, 147, 21, 4, 51, 184, 0, 111, 44, 132, 5, 255, 21, 5, 178, 1, 151, 21, 4, 51]
abbrev dktJ22_getChars_2_2 : List UInt8 := dkwJ22_getChars_2_2 ++ dktJ22_getChars_2_3
def dkwJ22_getChars_2_1 : List UInt8 := [16, 156, 163, 0, 51, 26, 16, 100, 108, 62, 29, 16, 100, 104, 26, 100, 54, 4, 29, 59, 44, 132, 5, 255]
abbrev dktJ22_getChars_2_1 : List UInt8 := dkwJ22_getChars_2_1 ++ dktJ22_getChars_2_2
def dkwJ22_getChars_2_0 : List UInt8 := [27, 54, 5, 26, 156, 0, 7, 4, 167, 0, 4, 3, 54, 6, 21, 6, 154, 0, 6, 26, 116, 59, 26]
abbrev dktJ22_getChars_2_0 : List UInt8 := dkwJ22_getChars_2_0 ++ dktJ22_getChars_2_1
theorem dksJ22_getChars_2_0 : cJ22_getChars_2.data.toList.drop 0 = dktJ22_getChars_2_0 := by decide +kernel
theorem dksJ22_getChars_2_1 : cJ22_getChars_2.data.toList.drop 23 = dktJ22_getChars_2_1 := dk_seg dksJ22_getChars_2_0 23 rfl rfl
theorem dksJ22_getChars_2_2 : cJ22_getChars_2.data.toList.drop 47 = dktJ22_getChars_2_2 := dk_seg dksJ22_getChars_2_1 24 rfl rfl
theorem dksJ22_getChars_2_3 : cJ22_getChars_2.data.toList.drop 70 = dktJ22_getChars_2_3 := dk_seg dksJ22_getChars_2_2 23 rfl rfl
theorem dksJ22_getChars_2_4 : cJ22_getChars_2.data.toList.drop 94 = dktJ22_getChars_2_4 := dk_seg dksJ22_getChars_2_3 24 rfl rfl
theorem dksJ22_getChars_2_5 : cJ22_getChars_2.data.toList.drop 118 = dktJ22_getChars_2_5 := dk_seg dksJ22_getChars_2_4 24 rfl rfl
theorem dJ22_getChars_2_0 : decode cJ22_getChars_2 0 = .ok (.iload_n 1, 1) := dk_27 (dk_at dksJ22_getChars_2_0 0 rfl rfl)
theorem dJ22_getChars_2_1 : decode cJ22_getChars_2 1 = .ok (.istore 5, 2) := dk_54 5 (dk_at dksJ22_getChars_2_0 1 rfl rfl)
theorem dJ22_getChars_2_3 : decode cJ22_getChars_2 3 = .ok (.iload_n 0, 1) := dk_26 (dk_at dksJ22_getChars_2_0 3 rfl rfl)
theorem dJ22_getChars_2_4 : decode cJ22_getChars_2 4 = .ok (.ifCond .ge 7, 3) := dk_156 0 7 (dk_at dksJ22_getChars_2_0 4 rfl rfl)
theorem dJ22_getChars_2_7 : decode cJ22_getChars_2 7 = .ok (.iconst 1, 1) := dk_4 (dk_at dksJ22_getChars_2_0 7 rfl rfl)
theorem dJ22_getChars_2_8 : decode cJ22_getChars_2 8 = .ok (.goto 4, 3) := dk_167 0 4 (dk_at dksJ22_getChars_2_0 8 rfl rfl)
theorem dJ22_getChars_2_11 : decode cJ22_getChars_2 11 = .ok (.iconst 0, 1) := dk_3 (dk_at dksJ22_getChars_2_0 11 rfl rfl)
theorem dJ22_getChars_2_12 : decode cJ22_getChars_2 12 = .ok (.istore 6, 2) := dk_54 6 (dk_at dksJ22_getChars_2_0 12 rfl rfl)
theorem dJ22_getChars_2_14 : decode cJ22_getChars_2 14 = .ok (.iload 6, 2) := dk_21 6 (dk_at dksJ22_getChars_2_0 14 rfl rfl)
theorem dJ22_getChars_2_16 : decode cJ22_getChars_2 16 = .ok (.ifCond .ne 6, 3) := dk_154 0 6 (dk_at dksJ22_getChars_2_0 16 rfl rfl)
theorem dJ22_getChars_2_19 : decode cJ22_getChars_2 19 = .ok (.iload_n 0, 1) := dk_26 (dk_at dksJ22_getChars_2_0 19 rfl rfl)
theorem dJ22_getChars_2_20 : decode cJ22_getChars_2 20 = .ok (.ineg, 1) := dk_116 (dk_at dksJ22_getChars_2_0 20 rfl rfl)
theorem dJ22_getChars_2_21 : decode cJ22_getChars_2 21 = .ok (.istore_n 0, 1) := dk_59 (dk_at dksJ22_getChars_2_0 21 rfl rfl)
theorem dJ22_getChars_2_22 : decode cJ22_getChars_2 22 = .ok (.iload_n 0, 1) := dk_26 (dk_at dksJ22_getChars_2_0 22 rfl rfl)
theorem dJ22_getChars_2_23 : decode cJ22_getChars_2 23 = .ok (.bipush (-100), 2) := dk_16 156 (dk_at dksJ22_getChars_2_1 0 rfl rfl)
theorem dJ22_getChars_2_25 : decode cJ22_getChars_2 25 = .ok (.if_icmp .gt 51, 3) := dk_163 0 51 (dk_at dksJ22_getChars_2_1 2 rfl rfl)
theorem dJ22_getChars_2_28 : decode cJ22_getChars_2 28 = .ok (.iload_n 0, 1) := dk_26 (dk_at dksJ22_getChars_2_1 5 rfl rfl)
theorem dJ22_getChars_2_29 : decode cJ22_getChars_2 29 = .ok (.bipush 100, 2) := dk_16 100 (dk_at dksJ22_getChars_2_1 6 rfl rfl)
theorem dJ22_getChars_2_31 : decode cJ22_getChars_2 31 = .ok (.idiv, 1) := dk_108 (dk_at dksJ22_getChars_2_1 8 rfl rfl)
theorem dJ22_getChars_2_32 : decode cJ22_getChars_2 32 = .ok (.istore_n 3, 1) := dk_62 (dk_at dksJ22_getChars_2_1 9 rfl rfl)
theorem dJ22_getChars_2_33 : decode cJ22_getChars_2 33 = .ok (.iload_n 3, 1) := dk_29 (dk_at dksJ22_getChars_2_1 10 rfl rfl)
theorem dJ22_getChars_2_34 : decode cJ22_getChars_2 34 = .ok (.bipush 100, 2) := dk_16 100 (dk_at dksJ22_getChars_2_1 11 rfl rfl)
theorem dJ22_getChars_2_36 : decode cJ22_getChars_2 36 = .ok (.imul, 1) := dk_104 (dk_at dksJ22_getChars_2_1 13 rfl rfl)
theorem dJ22_getChars_2_37 : decode cJ22_getChars_2 37 = .ok (.iload_n 0, 1) := dk_26 (dk_at dksJ22_getChars_2_1 14 rfl rfl)
theorem dJ22_getChars_2_38 : decode cJ22_getChars_2 38 = .ok (.isub, 1) := dk_100 (dk_at dksJ22_getChars_2_1 15 rfl rfl)
theorem dJ22_getChars_2_39 : decode cJ22_getChars_2 39 = .ok (.istore 4, 2) := dk_54 4 (dk_at dksJ22_getChars_2_1 16 rfl rfl)
theorem dJ22_getChars_2_41 : decode cJ22_getChars_2 41 = .ok (.iload_n 3, 1) := dk_29 (dk_at dksJ22_getChars_2_1 18 rfl rfl)
theorem dJ22_getChars_2_42 : decode cJ22_getChars_2 42 = .ok (.istore_n 0, 1) := dk_59 (dk_at dksJ22_getChars_2_1 19 rfl rfl)
theorem dJ22_getChars_2_43 : decode cJ22_getChars_2 43 = .ok (.aload_n 2, 1) := dk_44 (dk_at dksJ22_getChars_2_1 20 rfl rfl)
theorem dJ22_getChars_2_44 : decode cJ22_getChars_2 44 = .ok (.iinc 5 (-1), 3) := dk_132 5 255 (dk_at dksJ22_getChars_2_1 21 rfl rfl)
theorem dJ22_getChars_2_47 : decode cJ22_getChars_2 47 = .ok (.iload 5, 2) := dk_21 5 (dk_at dksJ22_getChars_2_2 0 rfl rfl)
theorem dJ22_getChars_2_49 : decode cJ22_getChars_2 49 = .ok (.getstatic 403, 3) := dk_178 1 147 (dk_at dksJ22_getChars_2_2 2 rfl rfl)
theorem dJ22_getChars_2_52 : decode cJ22_getChars_2 52 = .ok (.iload 4, 2) := dk_21 4 (dk_at dksJ22_getChars_2_2 5 rfl rfl)
theorem dJ22_getChars_2_54 : decode cJ22_getChars_2 54 = .ok (.baload, 1) := dk_51 (dk_at dksJ22_getChars_2_2 7 rfl rfl)
theorem dJ22_getChars_2_55 : decode cJ22_getChars_2 55 = .ok (.invokestatic 111, 3) := dk_184 0 111 (dk_at dksJ22_getChars_2_2 8 rfl rfl)
theorem dJ22_getChars_2_58 : decode cJ22_getChars_2 58 = .ok (.aload_n 2, 1) := dk_44 (dk_at dksJ22_getChars_2_2 11 rfl rfl)
theorem dJ22_getChars_2_59 : decode cJ22_getChars_2 59 = .ok (.iinc 5 (-1), 3) := dk_132 5 255 (dk_at dksJ22_getChars_2_2 12 rfl rfl)
theorem dJ22_getChars_2_62 : decode cJ22_getChars_2 62 = .ok (.iload 5, 2) := dk_21 5 (dk_at dksJ22_getChars_2_2 15 rfl rfl)
theorem dJ22_getChars_2_64 : decode cJ22_getChars_2 64 = .ok (.getstatic 407, 3) := dk_178 1 151 (dk_at dksJ22_getChars_2_2 17 rfl rfl)
theorem dJ22_getChars_2_67 : decode cJ22_getChars_2 67 = .ok (.iload 4, 2) := dk_21 4 (dk_at dksJ22_getChars_2_2 20 rfl rfl)
theorem dJ22_getChars_2_69 : decode cJ22_getChars_2 69 = .ok (.baload, 1) := dk_51 (dk_at dksJ22_getChars_2_2 22 rfl rfl)
theorem dJ22_getChars_2_70 : decode cJ22_getChars_2 70 = .ok (.invokestatic 111, 3) := dk_184 0 111 (dk_at dksJ22_getChars_2_3 0 rfl rfl)
theorem dJ22_getChars_2_73 : decode cJ22_getChars_2 73 = .ok (.goto (-51), 3) := dk_167 255 205 (dk_at dksJ22_getChars_2_3 3 rfl rfl)
theorem dJ22_getChars_2_76 : decode cJ22_getChars_2 76 = .ok (.aload_n 2, 1) := dk_44 (dk_at dksJ22_getChars_2_3 6 rfl rfl)
theorem dJ22_getChars_2_77 : decode cJ22_getChars_2 77 = .ok (.iinc 5 (-1), 3) := dk_132 5 255 (dk_at dksJ22_getChars_2_3 7 rfl rfl)
theorem dJ22_getChars_2_80 : decode cJ22_getChars_2 80 = .ok (.iload 5, 2) := dk_21 5 (dk_at dksJ22_getChars_2_3 10 rfl rfl)
theorem dJ22_getChars_2_82 : decode cJ22_getChars_2 82 = .ok (.getstatic 403, 3) := dk_178 1 147 (dk_at dksJ22_getChars_2_3 12 rfl rfl)
theorem dJ22_getChars_2_85 : decode cJ22_getChars_2 85 = .ok (.iload_n 0, 1) := dk_26 (dk_at dksJ22_getChars_2_3 15 rfl rfl)
theorem dJ22_getChars_2_86 : decode cJ22_getChars_2 86 = .ok (.ineg, 1) := dk_116 (dk_at dksJ22_getChars_2_3 16 rfl rfl)
theorem dJ22_getChars_2_87 : decode cJ22_getChars_2 87 = .ok (.baload, 1) := dk_51 (dk_at dksJ22_getChars_2_3 17 rfl rfl)
theorem dJ22_getChars_2_88 : decode cJ22_getChars_2 88 = .ok (.invokestatic 111, 3) := dk_184 0 111 (dk_at dksJ22_getChars_2_3 18 rfl rfl)
theorem dJ22_getChars_2_91 : decode cJ22_getChars_2 91 = .ok (.iload_n 0, 1) := dk_26 (dk_at dksJ22_getChars_2_3 21 rfl rfl)
theorem dJ22_getChars_2_92 : decode cJ22_getChars_2 92 = .ok (.bipush (-9), 2) := dk_16 247 (dk_at dksJ22_getChars_2_3 22 rfl rfl)
theorem dJ22_getChars_2_94 : decode cJ22_getChars_2 94 = .ok (.if_icmp .ge 18, 3) := dk_162 0 18 (dk_at dksJ22_getChars_2_4 0 rfl rfl)
theorem dJ22_getChars_2_97 : decode cJ22_getChars_2 97 = .ok (.aload_n 2, 1) := dk_44 (dk_at dksJ22_getChars_2_4 3 rfl rfl)
theorem dJ22_getChars_2_98 : decode cJ22_getChars_2 98 = .ok (.iinc 5 (-1), 3) := dk_132 5 255 (dk_at dksJ22_getChars_2_4 4 rfl rfl)
theorem dJ22_getChars_2_101 : decode cJ22_getChars_2 101 = .ok (.iload 5, 2) := dk_21 5 (dk_at dksJ22_getChars_2_4 7 rfl rfl)
theorem dJ22_getChars_2_103 : decode cJ22_getChars_2 103 = .ok (.getstatic 407, 3) := dk_178 1 151 (dk_at dksJ22_getChars_2_4 9 rfl rfl)
theorem dJ22_getChars_2_106 : decode cJ22_getChars_2 106 = .ok (.iload_n 0, 1) := dk_26 (dk_at dksJ22_getChars_2_4 12 rfl rfl)
theorem dJ22_getChars_2_107 : decode cJ22_getChars_2 107 = .ok (.ineg, 1) := dk_116 (dk_at dksJ22_getChars_2_4 13 rfl rfl)
theorem dJ22_getChars_2_108 : decode cJ22_getChars_2 108 = .ok (.baload, 1) := dk_51 (dk_at dksJ22_getChars_2_4 14 rfl rfl)
theorem dJ22_getChars_2_109 : decode cJ22_getChars_2 109 = .ok (.invokestatic 111, 3) := dk_184 0 111 (dk_at dksJ22_getChars_2_4 15 rfl rfl)
theorem dJ22_getChars_2_112 : decode cJ22_getChars_2 112 = .ok (.iload 6, 2) := dk_21 6 (dk_at dksJ22_getChars_2_4 18 rfl rfl)
theorem dJ22_getChars_2_114 : decode cJ22_getChars_2 114 = .ok (.ifCond .eq 14, 3) := dk_153 0 14 (dk_at dksJ22_getChars_2_4 20 rfl rfl)
theorem dJ22_getChars_2_117 : decode cJ22_getChars_2 117 = .ok (.aload_n 2, 1) := dk_44 (dk_at dksJ22_getChars_2_4 23 rfl rfl)
theorem dJ22_getChars_2_118 : decode cJ22_getChars_2 118 = .ok (.iinc 5 (-1), 3) := dk_132 5 255 (dk_at dksJ22_getChars_2_5 0 rfl rfl)
theorem dJ22_getChars_2_121 : decode cJ22_getChars_2 121 = .ok (.iload 5, 2) := dk_21 5 (dk_at dksJ22_getChars_2_5 3 rfl rfl)
theorem dJ22_getChars_2_123 : decode cJ22_getChars_2 123 = .ok (.bipush 45, 2) := dk_16 45 (dk_at dksJ22_getChars_2_5 5 rfl rfl)
theorem dJ22_getChars_2_125 : decode cJ22_getChars_2 125 = .ok (.invokestatic 111, 3) := dk_184 0 111 (dk_at dksJ22_getChars_2_5 7 rfl rfl)
theorem dJ22_getChars_2_128 : decode cJ22_getChars_2 128 = .ok (.iload 5, 2) := dk_21 5 (dk_at dksJ22_getChars_2_5 10 rfl rfl)
theorem dJ22_getChars_2_130 : decode cJ22_getChars_2 130 = .ok (.ireturn, 1) := dk_172 (dk_at dksJ22_getChars_2_5 12 rfl rfl)
abbrev cJ22_compress : ByteArray := prog_38_method_17_code
def yJ22_compress : MethodName := ⟨RJ22, "compress", "([BII)[B"⟩
def dkwJ22_compress_2 : List UInt8 := [25, 5, 3, 45, 3, 28, 184, 0, 123, 28, 159, 0, 6, 25, 5, 176, 45, 176]
abbrev dktJ22_compress_2 : List UInt8 := dkwJ22_compress_2 ++ []
def dkwJ22_compress_1 : List UInt8 := [27, 28, 96, 184, 0, 11, 184, 0, 126, 58, 5, 25, 5, 21, 4, 184, 0, 71, 17, 0, 255, 163, 0, 16]
abbrev dktJ22_compress_1 : List UInt8 := dkwJ22_compress_1 ++ dktJ22_compress_2
def dkwJ22_compress_0 : List UInt8 := [28, 188, 8, 78, 42, 27, 45, 3, 28, 184, 0, 123, 54, 4, 21, 4, 28, 159, 0, 47, 42, 27, 4, 120]
abbrev dktJ22_compress_0 : List UInt8 := dkwJ22_compress_0 ++ dktJ22_compress_1
theorem dksJ22_compress_0 : cJ22_compress.data.toList.drop 0 = dktJ22_compress_0 := by decide +kernel
theorem dksJ22_compress_1 : cJ22_compress.data.toList.drop 24 = dktJ22_compress_1 := dk_seg dksJ22_compress_0 24 rfl rfl
theorem dksJ22_compress_2 : cJ22_compress.data.toList.drop 48 = dktJ22_compress_2 := dk_seg dksJ22_compress_1 24 rfl rfl
theorem dJ22_compress_0 : decode cJ22_compress 0 = .ok (.iload_n 2, 1) := dk_28 (dk_at dksJ22_compress_0 0 rfl rfl)
theorem dJ22_compress_1 : decode cJ22_compress 1 = .ok (.newarray .byte, 2) := dk_188_8 (dk_at dksJ22_compress_0 1 rfl rfl)
theorem dJ22_compress_3 : decode cJ22_compress 3 = .ok (.astore_n 3, 1) := dk_78 (dk_at dksJ22_compress_0 3 rfl rfl)
theorem dJ22_compress_4 : decode cJ22_compress 4 = .ok (.aload_n 0, 1) := dk_42 (dk_at dksJ22_compress_0 4 rfl rfl)
theorem dJ22_compress_5 : decode cJ22_compress 5 = .ok (.iload_n 1, 1) := dk_27 (dk_at dksJ22_compress_0 5 rfl rfl)
theorem dJ22_compress_6 : decode cJ22_compress 6 = .ok (.aload_n 3, 1) := dk_45 (dk_at dksJ22_compress_0 6 rfl rfl)
theorem dJ22_compress_7 : decode cJ22_compress 7 = .ok (.iconst 0, 1) := dk_3 (dk_at dksJ22_compress_0 7 rfl rfl)
theorem dJ22_compress_8 : decode cJ22_compress 8 = .ok (.iload_n 2, 1) := dk_28 (dk_at dksJ22_compress_0 8 rfl rfl)
theorem dJ22_compress_9 : decode cJ22_compress 9 = .ok (.invokestatic 123, 3) := dk_184 0 123 (dk_at dksJ22_compress_0 9 rfl rfl)
theorem dJ22_compress_12 : decode cJ22_compress 12 = .ok (.istore 4, 2) := dk_54 4 (dk_at dksJ22_compress_0 12 rfl rfl)
theorem dJ22_compress_14 : decode cJ22_compress 14 = .ok (.iload 4, 2) := dk_21 4 (dk_at dksJ22_compress_0 14 rfl rfl)
theorem dJ22_compress_16 : decode cJ22_compress 16 = .ok (.iload_n 2, 1) := dk_28 (dk_at dksJ22_compress_0 16 rfl rfl)
theorem dJ22_compress_17 : decode cJ22_compress 17 = .ok (.if_icmp .eq 47, 3) := dk_159 0 47 (dk_at dksJ22_compress_0 17 rfl rfl)
theorem dJ22_compress_20 : decode cJ22_compress 20 = .ok (.aload_n 0, 1) := dk_42 (dk_at dksJ22_compress_0 20 rfl rfl)
theorem dJ22_compress_21 : decode cJ22_compress 21 = .ok (.iload_n 1, 1) := dk_27 (dk_at dksJ22_compress_0 21 rfl rfl)
theorem dJ22_compress_22 : decode cJ22_compress 22 = .ok (.iconst 1, 1) := dk_4 (dk_at dksJ22_compress_0 22 rfl rfl)
theorem dJ22_compress_23 : decode cJ22_compress 23 = .ok (.ishl, 1) := dk_120 (dk_at dksJ22_compress_0 23 rfl rfl)
theorem dJ22_compress_24 : decode cJ22_compress 24 = .ok (.iload_n 1, 1) := dk_27 (dk_at dksJ22_compress_1 0 rfl rfl)
theorem dJ22_compress_25 : decode cJ22_compress 25 = .ok (.iload_n 2, 1) := dk_28 (dk_at dksJ22_compress_1 1 rfl rfl)
theorem dJ22_compress_26 : decode cJ22_compress 26 = .ok (.iadd, 1) := dk_96 (dk_at dksJ22_compress_1 2 rfl rfl)
theorem dJ22_compress_27 : decode cJ22_compress 27 = .ok (.invokestatic 11, 3) := dk_184 0 11 (dk_at dksJ22_compress_1 3 rfl rfl)
theorem dJ22_compress_30 : decode cJ22_compress 30 = .ok (.invokestatic 126, 3) := dk_184 0 126 (dk_at dksJ22_compress_1 6 rfl rfl)
theorem dJ22_compress_33 : decode cJ22_compress 33 = .ok (.astore 5, 2) := dk_58 5 (dk_at dksJ22_compress_1 9 rfl rfl)
theorem dJ22_compress_35 : decode cJ22_compress 35 = .ok (.aload 5, 2) := dk_25 5 (dk_at dksJ22_compress_1 11 rfl rfl)
theorem dJ22_compress_37 : decode cJ22_compress 37 = .ok (.iload 4, 2) := dk_21 4 (dk_at dksJ22_compress_1 13 rfl rfl)
theorem dJ22_compress_39 : decode cJ22_compress 39 = .ok (.invokestatic 71, 3) := dk_184 0 71 (dk_at dksJ22_compress_1 15 rfl rfl)
theorem dJ22_compress_42 : decode cJ22_compress 42 = .ok (.sipush 255, 3) := dk_17 0 255 (dk_at dksJ22_compress_1 18 rfl rfl)
theorem dJ22_compress_45 : decode cJ22_compress 45 = .ok (.if_icmp .gt 16, 3) := dk_163 0 16 (dk_at dksJ22_compress_1 21 rfl rfl)
theorem dJ22_compress_48 : decode cJ22_compress 48 = .ok (.aload 5, 2) := dk_25 5 (dk_at dksJ22_compress_2 0 rfl rfl)
theorem dJ22_compress_50 : decode cJ22_compress 50 = .ok (.iconst 0, 1) := dk_3 (dk_at dksJ22_compress_2 2 rfl rfl)
theorem dJ22_compress_51 : decode cJ22_compress 51 = .ok (.aload_n 3, 1) := dk_45 (dk_at dksJ22_compress_2 3 rfl rfl)
theorem dJ22_compress_52 : decode cJ22_compress 52 = .ok (.iconst 0, 1) := dk_3 (dk_at dksJ22_compress_2 4 rfl rfl)
theorem dJ22_compress_53 : decode cJ22_compress 53 = .ok (.iload_n 2, 1) := dk_28 (dk_at dksJ22_compress_2 5 rfl rfl)
theorem dJ22_compress_54 : decode cJ22_compress 54 = .ok (.invokestatic 123, 3) := dk_184 0 123 (dk_at dksJ22_compress_2 6 rfl rfl)
theorem dJ22_compress_57 : decode cJ22_compress 57 = .ok (.iload_n 2, 1) := dk_28 (dk_at dksJ22_compress_2 9 rfl rfl)
theorem dJ22_compress_58 : decode cJ22_compress 58 = .ok (.if_icmp .eq 6, 3) := dk_159 0 6 (dk_at dksJ22_compress_2 10 rfl rfl)
theorem dJ22_compress_61 : decode cJ22_compress 61 = .ok (.aload 5, 2) := dk_25 5 (dk_at dksJ22_compress_2 13 rfl rfl)
theorem dJ22_compress_63 : decode cJ22_compress 63 = .ok (.areturn, 1) := dk_176 (dk_at dksJ22_compress_2 15 rfl rfl)
theorem dJ22_compress_64 : decode cJ22_compress 64 = .ok (.aload_n 3, 1) := dk_45 (dk_at dksJ22_compress_2 16 rfl rfl)
theorem dJ22_compress_65 : decode cJ22_compress 65 = .ok (.areturn, 1) := dk_176 (dk_at dksJ22_compress_2 17 rfl rfl)
abbrev cJ22_compress_2 : ByteArray := prog_38_method_22_code
def yJ22_compress_2 : MethodName := ⟨RJ22, "compress", "([BI[BII)I"⟩
def dkwJ22_compress_2_2 : List UInt8 := [132, 5, 1, 167, 255, 216, 21, 4, 172]
abbrev dktJ22_compress_2_2 : List UInt8 := dkwJ22_compress_2_2 ++ []
def dkwJ22_compress_2_1 : List UInt8 := [21, 6, 17, 0, 255, 164, 0, 6, 21, 5, 172, 44, 29, 21, 6, 145, 84, 132, 1, 1, 132, 3, 1]
abbrev dktJ22_compress_2_1 : List UInt8 := dkwJ22_compress_2_1 ++ dktJ22_compress_2_2
def dkwJ22_compress_2_0 : List UInt8 := [27, 21, 4, 42, 184, 0, 173, 3, 54, 5, 21, 5, 21, 4, 162, 0, 39, 42, 27, 184, 0, 71, 54, 6]
abbrev dktJ22_compress_2_0 : List UInt8 := dkwJ22_compress_2_0 ++ dktJ22_compress_2_1
theorem dksJ22_compress_2_0 : cJ22_compress_2.data.toList.drop 0 = dktJ22_compress_2_0 := by decide +kernel
theorem dksJ22_compress_2_1 : cJ22_compress_2.data.toList.drop 24 = dktJ22_compress_2_1 := dk_seg dksJ22_compress_2_0 24 rfl rfl
theorem dksJ22_compress_2_2 : cJ22_compress_2.data.toList.drop 47 = dktJ22_compress_2_2 := dk_seg dksJ22_compress_2_1 23 rfl rfl
theorem dJ22_compress_2_0 : decode cJ22_compress_2 0 = .ok (.iload_n 1, 1) := dk_27 (dk_at dksJ22_compress_2_0 0 rfl rfl)
theorem dJ22_compress_2_1 : decode cJ22_compress_2 1 = .ok (.iload 4, 2) := dk_21 4 (dk_at dksJ22_compress_2_0 1 rfl rfl)
theorem dJ22_compress_2_3 : decode cJ22_compress_2 3 = .ok (.aload_n 0, 1) := dk_42 (dk_at dksJ22_compress_2_0 3 rfl rfl)
theorem dJ22_compress_2_4 : decode cJ22_compress_2 4 = .ok (.invokestatic 173, 3) := dk_184 0 173 (dk_at dksJ22_compress_2_0 4 rfl rfl)
theorem dJ22_compress_2_7 : decode cJ22_compress_2 7 = .ok (.iconst 0, 1) := dk_3 (dk_at dksJ22_compress_2_0 7 rfl rfl)
theorem dJ22_compress_2_8 : decode cJ22_compress_2 8 = .ok (.istore 5, 2) := dk_54 5 (dk_at dksJ22_compress_2_0 8 rfl rfl)
theorem dJ22_compress_2_10 : decode cJ22_compress_2 10 = .ok (.iload 5, 2) := dk_21 5 (dk_at dksJ22_compress_2_0 10 rfl rfl)
theorem dJ22_compress_2_12 : decode cJ22_compress_2 12 = .ok (.iload 4, 2) := dk_21 4 (dk_at dksJ22_compress_2_0 12 rfl rfl)
theorem dJ22_compress_2_14 : decode cJ22_compress_2 14 = .ok (.if_icmp .ge 39, 3) := dk_162 0 39 (dk_at dksJ22_compress_2_0 14 rfl rfl)
theorem dJ22_compress_2_17 : decode cJ22_compress_2 17 = .ok (.aload_n 0, 1) := dk_42 (dk_at dksJ22_compress_2_0 17 rfl rfl)
theorem dJ22_compress_2_18 : decode cJ22_compress_2 18 = .ok (.iload_n 1, 1) := dk_27 (dk_at dksJ22_compress_2_0 18 rfl rfl)
theorem dJ22_compress_2_19 : decode cJ22_compress_2 19 = .ok (.invokestatic 71, 3) := dk_184 0 71 (dk_at dksJ22_compress_2_0 19 rfl rfl)
theorem dJ22_compress_2_22 : decode cJ22_compress_2 22 = .ok (.istore 6, 2) := dk_54 6 (dk_at dksJ22_compress_2_0 22 rfl rfl)
theorem dJ22_compress_2_24 : decode cJ22_compress_2 24 = .ok (.iload 6, 2) := dk_21 6 (dk_at dksJ22_compress_2_1 0 rfl rfl)
theorem dJ22_compress_2_26 : decode cJ22_compress_2 26 = .ok (.sipush 255, 3) := dk_17 0 255 (dk_at dksJ22_compress_2_1 2 rfl rfl)
theorem dJ22_compress_2_29 : decode cJ22_compress_2 29 = .ok (.if_icmp .le 6, 3) := dk_164 0 6 (dk_at dksJ22_compress_2_1 5 rfl rfl)
theorem dJ22_compress_2_32 : decode cJ22_compress_2 32 = .ok (.iload 5, 2) := dk_21 5 (dk_at dksJ22_compress_2_1 8 rfl rfl)
theorem dJ22_compress_2_34 : decode cJ22_compress_2 34 = .ok (.ireturn, 1) := dk_172 (dk_at dksJ22_compress_2_1 10 rfl rfl)
theorem dJ22_compress_2_35 : decode cJ22_compress_2 35 = .ok (.aload_n 2, 1) := dk_44 (dk_at dksJ22_compress_2_1 11 rfl rfl)
theorem dJ22_compress_2_36 : decode cJ22_compress_2 36 = .ok (.iload_n 3, 1) := dk_29 (dk_at dksJ22_compress_2_1 12 rfl rfl)
theorem dJ22_compress_2_37 : decode cJ22_compress_2 37 = .ok (.iload 6, 2) := dk_21 6 (dk_at dksJ22_compress_2_1 13 rfl rfl)
theorem dJ22_compress_2_39 : decode cJ22_compress_2 39 = .ok (.i2b, 1) := dk_145 (dk_at dksJ22_compress_2_1 15 rfl rfl)
theorem dJ22_compress_2_40 : decode cJ22_compress_2 40 = .ok (.bastore, 1) := dk_84 (dk_at dksJ22_compress_2_1 16 rfl rfl)
theorem dJ22_compress_2_41 : decode cJ22_compress_2 41 = .ok (.iinc 1 1, 3) := dk_132 1 1 (dk_at dksJ22_compress_2_1 17 rfl rfl)
theorem dJ22_compress_2_44 : decode cJ22_compress_2 44 = .ok (.iinc 3 1, 3) := dk_132 3 1 (dk_at dksJ22_compress_2_1 20 rfl rfl)
theorem dJ22_compress_2_47 : decode cJ22_compress_2 47 = .ok (.iinc 5 1, 3) := dk_132 5 1 (dk_at dksJ22_compress_2_2 0 rfl rfl)
theorem dJ22_compress_2_50 : decode cJ22_compress_2 50 = .ok (.goto (-40), 3) := dk_167 255 216 (dk_at dksJ22_compress_2_2 3 rfl rfl)
theorem dJ22_compress_2_53 : decode cJ22_compress_2 53 = .ok (.iload 4, 2) := dk_21 4 (dk_at dksJ22_compress_2_2 6 rfl rfl)
theorem dJ22_compress_2_55 : decode cJ22_compress_2 55 = .ok (.ireturn, 1) := dk_172 (dk_at dksJ22_compress_2_2 8 rfl rfl)
abbrev cJ22_getChar : ByteArray := prog_38_method_5_code
def yJ22_getChar : MethodName := ⟨RJ22, "getChar", "([BI)C"⟩
def dkwJ22_getChar_2 : List UInt8 := [51, 17, 0, 255, 126, 178, 0, 63, 120, 128, 146, 172]
abbrev dktJ22_getChar_2 : List UInt8 := dkwJ22_getChar_2 ++ []
def dkwJ22_getChar_1 : List UInt8 := [183, 0, 56, 191, 27, 4, 120, 60, 42, 27, 132, 1, 1, 51, 17, 0, 255, 126, 178, 0, 59, 120, 42, 27]
abbrev dktJ22_getChar_1 : List UInt8 := dkwJ22_getChar_1 ++ dktJ22_getChar_2
def dkwJ22_getChar_0 : List UInt8 := [178, 0, 44, 154, 0, 25, 27, 155, 0, 11, 27, 42, 184, 0, 48, 161, 0, 13, 187, 0, 52, 89, 18, 54]
abbrev dktJ22_getChar_0 : List UInt8 := dkwJ22_getChar_0 ++ dktJ22_getChar_1
theorem dksJ22_getChar_0 : cJ22_getChar.data.toList.drop 0 = dktJ22_getChar_0 := by decide +kernel
theorem dksJ22_getChar_1 : cJ22_getChar.data.toList.drop 24 = dktJ22_getChar_1 := dk_seg dksJ22_getChar_0 24 rfl rfl
theorem dksJ22_getChar_2 : cJ22_getChar.data.toList.drop 48 = dktJ22_getChar_2 := dk_seg dksJ22_getChar_1 24 rfl rfl
theorem dJ22_getChar_0 : decode cJ22_getChar 0 = .ok (.getstatic 44, 3) := dk_178 0 44 (dk_at dksJ22_getChar_0 0 rfl rfl)
theorem dJ22_getChar_3 : decode cJ22_getChar 3 = .ok (.ifCond .ne 25, 3) := dk_154 0 25 (dk_at dksJ22_getChar_0 3 rfl rfl)
theorem dJ22_getChar_6 : decode cJ22_getChar 6 = .ok (.iload_n 1, 1) := dk_27 (dk_at dksJ22_getChar_0 6 rfl rfl)
theorem dJ22_getChar_7 : decode cJ22_getChar 7 = .ok (.ifCond .lt 11, 3) := dk_155 0 11 (dk_at dksJ22_getChar_0 7 rfl rfl)
theorem dJ22_getChar_10 : decode cJ22_getChar 10 = .ok (.iload_n 1, 1) := dk_27 (dk_at dksJ22_getChar_0 10 rfl rfl)
theorem dJ22_getChar_11 : decode cJ22_getChar 11 = .ok (.aload_n 0, 1) := dk_42 (dk_at dksJ22_getChar_0 11 rfl rfl)
theorem dJ22_getChar_12 : decode cJ22_getChar 12 = .ok (.invokestatic 48, 3) := dk_184 0 48 (dk_at dksJ22_getChar_0 12 rfl rfl)
theorem dJ22_getChar_15 : decode cJ22_getChar 15 = .ok (.if_icmp .lt 13, 3) := dk_161 0 13 (dk_at dksJ22_getChar_0 15 rfl rfl)
theorem dJ22_getChar_18 : decode cJ22_getChar 18 = .ok (.new 52, 3) := dk_187 0 52 (dk_at dksJ22_getChar_0 18 rfl rfl)
theorem dJ22_getChar_21 : decode cJ22_getChar 21 = .ok (.dup, 1) := dk_89 (dk_at dksJ22_getChar_0 21 rfl rfl)
theorem dJ22_getChar_22 : decode cJ22_getChar 22 = .ok (.ldc 54, 2) := dk_18 54 (dk_at dksJ22_getChar_0 22 rfl rfl)
theorem dJ22_getChar_24 : decode cJ22_getChar 24 = .ok (.invokespecial 56, 3) := dk_183 0 56 (dk_at dksJ22_getChar_1 0 rfl rfl)
theorem dJ22_getChar_27 : decode cJ22_getChar 27 = .ok (.athrow, 1) := dk_191 (dk_at dksJ22_getChar_1 3 rfl rfl)
theorem dJ22_getChar_28 : decode cJ22_getChar 28 = .ok (.iload_n 1, 1) := dk_27 (dk_at dksJ22_getChar_1 4 rfl rfl)
theorem dJ22_getChar_29 : decode cJ22_getChar 29 = .ok (.iconst 1, 1) := dk_4 (dk_at dksJ22_getChar_1 5 rfl rfl)
theorem dJ22_getChar_30 : decode cJ22_getChar 30 = .ok (.ishl, 1) := dk_120 (dk_at dksJ22_getChar_1 6 rfl rfl)
theorem dJ22_getChar_31 : decode cJ22_getChar 31 = .ok (.istore_n 1, 1) := dk_60 (dk_at dksJ22_getChar_1 7 rfl rfl)
theorem dJ22_getChar_32 : decode cJ22_getChar 32 = .ok (.aload_n 0, 1) := dk_42 (dk_at dksJ22_getChar_1 8 rfl rfl)
theorem dJ22_getChar_33 : decode cJ22_getChar 33 = .ok (.iload_n 1, 1) := dk_27 (dk_at dksJ22_getChar_1 9 rfl rfl)
theorem dJ22_getChar_34 : decode cJ22_getChar 34 = .ok (.iinc 1 1, 3) := dk_132 1 1 (dk_at dksJ22_getChar_1 10 rfl rfl)
theorem dJ22_getChar_37 : decode cJ22_getChar 37 = .ok (.baload, 1) := dk_51 (dk_at dksJ22_getChar_1 13 rfl rfl)
theorem dJ22_getChar_38 : decode cJ22_getChar 38 = .ok (.sipush 255, 3) := dk_17 0 255 (dk_at dksJ22_getChar_1 14 rfl rfl)
theorem dJ22_getChar_41 : decode cJ22_getChar 41 = .ok (.iand, 1) := dk_126 (dk_at dksJ22_getChar_1 17 rfl rfl)
theorem dJ22_getChar_42 : decode cJ22_getChar 42 = .ok (.getstatic 59, 3) := dk_178 0 59 (dk_at dksJ22_getChar_1 18 rfl rfl)
theorem dJ22_getChar_45 : decode cJ22_getChar 45 = .ok (.ishl, 1) := dk_120 (dk_at dksJ22_getChar_1 21 rfl rfl)
theorem dJ22_getChar_46 : decode cJ22_getChar 46 = .ok (.aload_n 0, 1) := dk_42 (dk_at dksJ22_getChar_1 22 rfl rfl)
theorem dJ22_getChar_47 : decode cJ22_getChar 47 = .ok (.iload_n 1, 1) := dk_27 (dk_at dksJ22_getChar_1 23 rfl rfl)
theorem dJ22_getChar_48 : decode cJ22_getChar 48 = .ok (.baload, 1) := dk_51 (dk_at dksJ22_getChar_2 0 rfl rfl)
theorem dJ22_getChar_49 : decode cJ22_getChar 49 = .ok (.sipush 255, 3) := dk_17 0 255 (dk_at dksJ22_getChar_2 1 rfl rfl)
theorem dJ22_getChar_52 : decode cJ22_getChar 52 = .ok (.iand, 1) := dk_126 (dk_at dksJ22_getChar_2 4 rfl rfl)
theorem dJ22_getChar_53 : decode cJ22_getChar 53 = .ok (.getstatic 63, 3) := dk_178 0 63 (dk_at dksJ22_getChar_2 5 rfl rfl)
theorem dJ22_getChar_56 : decode cJ22_getChar 56 = .ok (.ishl, 1) := dk_120 (dk_at dksJ22_getChar_2 8 rfl rfl)
theorem dJ22_getChar_57 : decode cJ22_getChar 57 = .ok (.ior, 1) := dk_128 (dk_at dksJ22_getChar_2 9 rfl rfl)
theorem dJ22_getChar_58 : decode cJ22_getChar 58 = .ok (.i2c, 1) := dk_146 (dk_at dksJ22_getChar_2 10 rfl rfl)
theorem dJ22_getChar_59 : decode cJ22_getChar 59 = .ok (.ireturn, 1) := dk_172 (dk_at dksJ22_getChar_2 11 rfl rfl)
abbrev cJ22_coderFromArrayLen : ByteArray := prog_38_method_15_code
def yJ22_coderFromArrayLen : MethodName := ⟨RJ22, "coderFromArrayLen", "([BI)B"⟩
def dkwJ22_coderFromArrayLen_0 : List UInt8 := [27, 42, 190, 100, 16, 31, 124, 145, 172]
abbrev dktJ22_coderFromArrayLen_0 : List UInt8 := dkwJ22_coderFromArrayLen_0 ++ []
theorem dksJ22_coderFromArrayLen_0 : cJ22_coderFromArrayLen.data.toList.drop 0 = dktJ22_coderFromArrayLen_0 := by decide +kernel
theorem dJ22_coderFromArrayLen_0 : decode cJ22_coderFromArrayLen 0 = .ok (.iload_n 1, 1) := dk_27 (dk_at dksJ22_coderFromArrayLen_0 0 rfl rfl)
theorem dJ22_coderFromArrayLen_1 : decode cJ22_coderFromArrayLen 1 = .ok (.aload_n 0, 1) := dk_42 (dk_at dksJ22_coderFromArrayLen_0 1 rfl rfl)
theorem dJ22_coderFromArrayLen_2 : decode cJ22_coderFromArrayLen 2 = .ok (.arraylength, 1) := dk_190 (dk_at dksJ22_coderFromArrayLen_0 2 rfl rfl)
theorem dJ22_coderFromArrayLen_3 : decode cJ22_coderFromArrayLen 3 = .ok (.isub, 1) := dk_100 (dk_at dksJ22_coderFromArrayLen_0 3 rfl rfl)
theorem dJ22_coderFromArrayLen_4 : decode cJ22_coderFromArrayLen 4 = .ok (.bipush 31, 2) := dk_16 31 (dk_at dksJ22_coderFromArrayLen_0 4 rfl rfl)
theorem dJ22_coderFromArrayLen_6 : decode cJ22_coderFromArrayLen 6 = .ok (.iushr, 1) := dk_124 (dk_at dksJ22_coderFromArrayLen_0 6 rfl rfl)
theorem dJ22_coderFromArrayLen_7 : decode cJ22_coderFromArrayLen 7 = .ok (.i2b, 1) := dk_145 (dk_at dksJ22_coderFromArrayLen_0 7 rfl rfl)
theorem dJ22_coderFromArrayLen_8 : decode cJ22_coderFromArrayLen 8 = .ok (.ireturn, 1) := dk_172 (dk_at dksJ22_coderFromArrayLen_0 8 rfl rfl)
theorem q103 : (Jvm.Cond.initialized "java/lang/StringUTF16") ∈ lw_all := lw_g (lw_at lw_m1 40 rfl) rfl
theorem q722 : (Jvm.Cond.static ({ cls := "java/lang/StringUTF16", name := "newBytesFor", desc := "(I)[B" } : Jvm.MethodName)) ∈ lw_all := lw_g (lw_at lw_m3 179 rfl) rfl
theorem q723 : (Jvm.Cond.code ({ cls := "java/lang/StringUTF16", name := "newBytesFor", desc := "(I)[B" } : Jvm.MethodName) prog_38_method_2_code (1 : Nat) (Option.some (Jvm.ClassFile.FieldType.array Jvm.ClassFile.FieldType.byte))) ∈ lw_all := lw_g (lw_at lw_m3 180 rfl) rfl
theorem q724 : (Jvm.Cond.methodLink "java/lang/StringUTF16" (11 : Nat) ({ cls := "java/lang/StringUTF16", name := "newBytesLength", desc := "(I)I" } : Jvm.MethodName)) ∈ lw_all := lw_g (lw_at lw_m3 181 rfl) rfl
theorem q725 : (Jvm.Cond.static ({ cls := "java/lang/StringUTF16", name := "newBytesLength", desc := "(I)I" } : Jvm.MethodName)) ∈ lw_all := lw_g (lw_at lw_m3 182 rfl) rfl
theorem q726 : (Jvm.Cond.code ({ cls := "java/lang/StringUTF16", name := "newBytesLength", desc := "(I)I" } : Jvm.MethodName) prog_38_method_3_code (1 : Nat) (Option.some Jvm.ClassFile.FieldType.int)) ∈ lw_all := lw_g (lw_at lw_m3 183 rfl) rfl
theorem q727 : (Jvm.Cond.constant "java/lang/StringUTF16" (20 : Nat) (1073741823 : Int32)) ∈ lw_all := lw_g (lw_at lw_m3 184 rfl) rfl
theorem q781 : (Jvm.Cond.static ({ cls := "java/lang/StringUTF16", name := "putCharsAt", desc := "([BICCCC)I" } : Jvm.MethodName)) ∈ lw_all := lw_g (lw_at lw_m3 238 rfl) rfl
theorem q782 : (Jvm.Cond.code ({ cls := "java/lang/StringUTF16", name := "putCharsAt", desc := "([BICCCC)I" } : Jvm.MethodName) prog_38_method_81_code (7 : Nat) (Option.some Jvm.ClassFile.FieldType.int)) ∈ lw_all := lw_g (lw_at lw_m3 239 rfl) rfl
theorem q783 : (Jvm.Cond.methodLink "java/lang/StringUTF16" (96 : Nat) ({ cls := "java/lang/StringUTF16", name := "checkBoundsBeginEnd", desc := "(II[B)V" } : Jvm.MethodName)) ∈ lw_all := lw_g (lw_at lw_m4 0 rfl) rfl
theorem q784 : (Jvm.Cond.static ({ cls := "java/lang/StringUTF16", name := "checkBoundsBeginEnd", desc := "(II[B)V" } : Jvm.MethodName)) ∈ lw_all := lw_g (lw_at lw_m4 1 rfl) rfl
theorem q785 : (Jvm.Cond.code ({ cls := "java/lang/StringUTF16", name := "checkBoundsBeginEnd", desc := "(II[B)V" } : Jvm.MethodName) prog_38_method_93_code (3 : Nat) (Option.none : Option Jvm.ClassFile.FieldType)) ∈ lw_all := lw_g (lw_at lw_m4 2 rfl) rfl
theorem q786 : (Jvm.Cond.methodLink "java/lang/StringUTF16" (48 : Nat) ({ cls := "java/lang/StringUTF16", name := "length", desc := "([B)I" } : Jvm.MethodName)) ∈ lw_all := lw_g (lw_at lw_m4 3 rfl) rfl
theorem q787 : (Jvm.Cond.static ({ cls := "java/lang/StringUTF16", name := "length", desc := "([B)I" } : Jvm.MethodName)) ∈ lw_all := lw_g (lw_at lw_m4 4 rfl) rfl
theorem q788 : (Jvm.Cond.code ({ cls := "java/lang/StringUTF16", name := "length", desc := "([B)I" } : Jvm.MethodName) prog_38_method_6_code (1 : Nat) (Option.some Jvm.ClassFile.FieldType.int)) ∈ lw_all := lw_g (lw_at lw_m4 5 rfl) rfl
theorem q789 : (Jvm.Cond.methodLink "java/lang/StringUTF16" (241 : Nat) ({ cls := "java/lang/String", name := "checkBoundsBeginEnd", desc := "(III)V" } : Jvm.MethodName)) ∈ lw_all := lw_g (lw_at lw_m4 6 rfl) rfl
theorem q797 : (Jvm.Cond.methodLink "java/lang/StringUTF16" (111 : Nat) ({ cls := "java/lang/StringUTF16", name := "putChar", desc := "([BII)V" } : Jvm.MethodName)) ∈ lw_all := lw_g (lw_at lw_m4 14 rfl) rfl
theorem q798 : (Jvm.Cond.static ({ cls := "java/lang/StringUTF16", name := "putChar", desc := "([BII)V" } : Jvm.MethodName)) ∈ lw_all := lw_g (lw_at lw_m4 15 rfl) rfl
theorem q799 : (Jvm.Cond.code ({ cls := "java/lang/StringUTF16", name := "putChar", desc := "([BII)V" } : Jvm.MethodName) prog_38_method_4_code (3 : Nat) (Option.none : Option Jvm.ClassFile.FieldType)) ∈ lw_all := lw_g (lw_at lw_m4 16 rfl) rfl
theorem q800 : (Jvm.Cond.fieldLink "java/lang/StringUTF16" (44 : Nat) "java/lang/StringUTF16" "$assertionsDisabled" "Z") ∈ lw_all := lw_g (lw_at lw_m4 17 rfl) rfl
theorem q801 : (Jvm.Cond.laysStatic "java/lang/StringUTF16" "$assertionsDisabled" "Z") ∈ lw_tbl := lw_at lw_m4 18 rfl
theorem q802 : (Jvm.Cond.fieldLink "java/lang/StringUTF16" (59 : Nat) "java/lang/StringUTF16" "HI_BYTE_SHIFT" "I") ∈ lw_all := lw_g (lw_at lw_m4 19 rfl) rfl
theorem q803 : (Jvm.Cond.laysStatic "java/lang/StringUTF16" "HI_BYTE_SHIFT" "I") ∈ lw_tbl := lw_at lw_m4 20 rfl
theorem q804 : (Jvm.Cond.fieldLink "java/lang/StringUTF16" (63 : Nat) "java/lang/StringUTF16" "LO_BYTE_SHIFT" "I") ∈ lw_all := lw_g (lw_at lw_m4 21 rfl) rfl
theorem q805 : (Jvm.Cond.laysStatic "java/lang/StringUTF16" "LO_BYTE_SHIFT" "I") ∈ lw_tbl := lw_at lw_m4 22 rfl
theorem q832 : (Jvm.Cond.static ({ cls := "java/lang/StringUTF16", name := "inflate", desc := "([BI[BII)V" } : Jvm.MethodName)) ∈ lw_all := lw_g (lw_at lw_m4 49 rfl) rfl
theorem q833 : (Jvm.Cond.code ({ cls := "java/lang/StringUTF16", name := "inflate", desc := "([BI[BII)V" } : Jvm.MethodName) prog_38_method_86_code (6 : Nat) (Option.none : Option Jvm.ClassFile.FieldType)) ∈ lw_all := lw_g (lw_at lw_m4 50 rfl) rfl
theorem q834 : (Jvm.Cond.methodLink "java/lang/StringUTF16" (173 : Nat) ({ cls := "java/lang/StringUTF16", name := "checkBoundsOffCount", desc := "(II[B)V" } : Jvm.MethodName)) ∈ lw_all := lw_g (lw_at lw_m4 51 rfl) rfl
theorem q835 : (Jvm.Cond.static ({ cls := "java/lang/StringUTF16", name := "checkBoundsOffCount", desc := "(II[B)V" } : Jvm.MethodName)) ∈ lw_all := lw_g (lw_at lw_m4 52 rfl) rfl
theorem q836 : (Jvm.Cond.code ({ cls := "java/lang/StringUTF16", name := "checkBoundsOffCount", desc := "(II[B)V" } : Jvm.MethodName) prog_38_method_94_code (3 : Nat) (Option.none : Option Jvm.ClassFile.FieldType)) ∈ lw_all := lw_g (lw_at lw_m4 53 rfl) rfl
theorem q837 : (Jvm.Cond.methodLink "java/lang/StringUTF16" (419 : Nat) ({ cls := "java/lang/String", name := "checkBoundsOffCount", desc := "(III)I" } : Jvm.MethodName)) ∈ lw_all := lw_g (lw_at lw_m4 54 rfl) rfl
theorem q868 : (Jvm.Cond.static ({ cls := "java/lang/StringUTF16", name := "getChars", desc := "(III[B)I" } : Jvm.MethodName)) ∈ lw_all := lw_g (lw_at lw_m4 85 rfl) rfl
theorem q869 : (Jvm.Cond.code ({ cls := "java/lang/StringUTF16", name := "getChars", desc := "(III[B)I" } : Jvm.MethodName) prog_38_method_77_code (5 : Nat) (Option.some Jvm.ClassFile.FieldType.int)) ∈ lw_all := lw_g (lw_at lw_m4 86 rfl) rfl
theorem q870 : (Jvm.Cond.methodLink "java/lang/StringUTF16" (393 : Nat) ({ cls := "java/lang/StringUTF16", name := "getChars", desc := "(II[B)I" } : Jvm.MethodName)) ∈ lw_all := lw_g (lw_at lw_m4 87 rfl) rfl
theorem q871 : (Jvm.Cond.static ({ cls := "java/lang/StringUTF16", name := "getChars", desc := "(II[B)I" } : Jvm.MethodName)) ∈ lw_all := lw_g (lw_at lw_m4 88 rfl) rfl
theorem q872 : (Jvm.Cond.code ({ cls := "java/lang/StringUTF16", name := "getChars", desc := "(II[B)I" } : Jvm.MethodName) prog_38_method_89_code (7 : Nat) (Option.some Jvm.ClassFile.FieldType.int)) ∈ lw_all := lw_g (lw_at lw_m4 89 rfl) rfl
theorem q873 : (Jvm.Cond.fieldLink "java/lang/StringUTF16" (403 : Nat) "java/lang/Integer" "DigitOnes" "[B") ∈ lw_all := lw_g (lw_at lw_m4 90 rfl) rfl
theorem q874 : (Jvm.Cond.fieldLink "java/lang/StringUTF16" (407 : Nat) "java/lang/Integer" "DigitTens" "[B") ∈ lw_all := lw_g (lw_at lw_m4 91 rfl) rfl
theorem q985 : (Jvm.Cond.static ({ cls := "java/lang/StringUTF16", name := "compress", desc := "([BII)[B" } : Jvm.MethodName)) ∈ lw_all := lw_g (lw_at lw_m4 202 rfl) rfl
theorem q986 : (Jvm.Cond.code ({ cls := "java/lang/StringUTF16", name := "compress", desc := "([BII)[B" } : Jvm.MethodName) prog_38_method_17_code (6 : Nat) (Option.some (Jvm.ClassFile.FieldType.array Jvm.ClassFile.FieldType.byte))) ∈ lw_all := lw_g (lw_at lw_m4 203 rfl) rfl
theorem q987 : (Jvm.Cond.methodLink "java/lang/StringUTF16" (123 : Nat) ({ cls := "java/lang/StringUTF16", name := "compress", desc := "([BI[BII)I" } : Jvm.MethodName)) ∈ lw_all := lw_g (lw_at lw_m4 204 rfl) rfl
theorem q988 : (Jvm.Cond.static ({ cls := "java/lang/StringUTF16", name := "compress", desc := "([BI[BII)I" } : Jvm.MethodName)) ∈ lw_all := lw_g (lw_at lw_m4 205 rfl) rfl
theorem q989 : (Jvm.Cond.code ({ cls := "java/lang/StringUTF16", name := "compress", desc := "([BI[BII)I" } : Jvm.MethodName) prog_38_method_22_code (7 : Nat) (Option.some Jvm.ClassFile.FieldType.int)) ∈ lw_all := lw_g (lw_at lw_m4 206 rfl) rfl
theorem q990 : (Jvm.Cond.methodLink "java/lang/StringUTF16" (71 : Nat) ({ cls := "java/lang/StringUTF16", name := "getChar", desc := "([BI)C" } : Jvm.MethodName)) ∈ lw_all := lw_g (lw_at lw_m4 207 rfl) rfl
theorem q991 : (Jvm.Cond.static ({ cls := "java/lang/StringUTF16", name := "getChar", desc := "([BI)C" } : Jvm.MethodName)) ∈ lw_all := lw_g (lw_at lw_m4 208 rfl) rfl
theorem q992 : (Jvm.Cond.code ({ cls := "java/lang/StringUTF16", name := "getChar", desc := "([BI)C" } : Jvm.MethodName) prog_38_method_5_code (2 : Nat) (Option.some Jvm.ClassFile.FieldType.char)) ∈ lw_all := lw_g (lw_at lw_m4 209 rfl) rfl
theorem q993 : (Jvm.Cond.methodLink "java/lang/StringUTF16" (126 : Nat) ({ cls := "java/util/Arrays", name := "copyOfRange", desc := "([BII)[B" } : Jvm.MethodName)) ∈ lw_all := lw_g (lw_at lw_m4 210 rfl) rfl
theorem q995 : (Jvm.Cond.static ({ cls := "java/lang/StringUTF16", name := "coderFromArrayLen", desc := "([BI)B" } : Jvm.MethodName)) ∈ lw_all := lw_g (lw_at lw_m4 212 rfl) rfl
theorem q996 : (Jvm.Cond.code ({ cls := "java/lang/StringUTF16", name := "coderFromArrayLen", desc := "([BI)B" } : Jvm.MethodName) prog_38_method_15_code (2 : Nat) (Option.some Jvm.ClassFile.FieldType.byte)) ∈ lw_all := lw_g (lw_at lw_m4 213 rfl) rfl
