/-! Splitpointer$Store -/
set_option maxRecDepth 100000
def RX2 : String := "Splitpointer$Store"
def TX2 : u_T := fun k => match k with
  | 0 => ("Splitpointer$Store", "cap", "I", true)
  | 1 => ("Splitpointer$Store", "lower", "I", false)
  | 2 => ("Splitpointer$Store", "upper", "I", false)
  | 3 => ("Splitpointer$Store", "level", "I", false)
  | 4 => ("Splitpointer$Store", "pointer", "I", false)
  | 5 => ("Splitpointer$Store", "size", "I", false)
  | 6 => ("Splitpointer$Store", "splits", "I", false)
  | 7 => ("Splitpointer$Store", "merges", "I", false)
  | 8 => ("Splitpointer$Store", "hashing", "LSplitpointer$Hashing;", false)
  | 9 => ("Splitpointer$Store", "buckets", "Ljava/util/ArrayList;", true)
  | _ => ("Splitpointer$Store", "isTaken", "[Z", true)
def tyX2 : Nat → FieldType := fun k => match k with
  | 0 => .int
  | 1 => .int
  | 2 => .int
  | 3 => .int
  | 4 => .int
  | 5 => .int
  | 6 => .int
  | 7 => .int
  | 8 => .object "Splitpointer$Hashing"
  | 9 => .object "java/util/ArrayList"
  | _ => .array .boolean
abbrev wsX20 : List Cond := u_ws RX2 TX2 11
theorem nmX2 : ∀ a, a < 11 → ∀ b, b < 11 → a ≠ b → (TX2 a).2.1 ≠ (TX2 b).2.1 := by decide +kernel
theorem tyX2_ok : ∀ k, k < 11 → parseFieldDescriptor (TX2 k).2.2.1 = some (tyX2 k) := by decide +kernel
abbrev cX2_init : ByteArray := prog_12_method_1_code
def yX2_init : MethodName := ⟨RX2, "<init>", "(I)V"⟩
def dkwX2_init_2 : List UInt8 := [181, 0, 34, 42, 27, 181, 0, 38, 42, 182, 0, 41, 177]
abbrev dktX2_init_2 : List UInt8 := dkwX2_init_2 ++ []
def dkwX2_init_1 : List UInt8 := [3, 183, 0, 20, 181, 0, 23, 42, 187, 0, 27, 89, 183, 0, 29, 181, 0, 30, 42, 16, 96, 188, 4]
abbrev dktX2_init_1 : List UInt8 := dkwX2_init_1 ++ dktX2_init_2
def dkwX2_init_0 : List UInt8 := [42, 183, 0, 3, 42, 16, 40, 181, 0, 9, 42, 16, 80, 181, 0, 15, 42, 187, 0, 18, 89, 17, 2, 170]
abbrev dktX2_init_0 : List UInt8 := dkwX2_init_0 ++ dktX2_init_1
theorem dksX2_init_0 : cX2_init.data.toList.drop 0 = dktX2_init_0 := by decide +kernel
theorem dksX2_init_1 : cX2_init.data.toList.drop 24 = dktX2_init_1 := dk_seg dksX2_init_0 24 rfl rfl
theorem dksX2_init_2 : cX2_init.data.toList.drop 47 = dktX2_init_2 := dk_seg dksX2_init_1 23 rfl rfl
theorem dX2_init_0 : decode cX2_init 0 = .ok (.aload_n 0, 1) := dk_42 (dk_at dksX2_init_0 0 rfl rfl)
theorem dX2_init_1 : decode cX2_init 1 = .ok (.invokespecial 3, 3) := dk_183 0 3 (dk_at dksX2_init_0 1 rfl rfl)
theorem dX2_init_4 : decode cX2_init 4 = .ok (.aload_n 0, 1) := dk_42 (dk_at dksX2_init_0 4 rfl rfl)
theorem dX2_init_5 : decode cX2_init 5 = .ok (.bipush 40, 2) := dk_16 40 (dk_at dksX2_init_0 5 rfl rfl)
theorem dX2_init_7 : decode cX2_init 7 = .ok (.putfield 9, 3) := dk_181 0 9 (dk_at dksX2_init_0 7 rfl rfl)
theorem dX2_init_10 : decode cX2_init 10 = .ok (.aload_n 0, 1) := dk_42 (dk_at dksX2_init_0 10 rfl rfl)
theorem dX2_init_11 : decode cX2_init 11 = .ok (.bipush 80, 2) := dk_16 80 (dk_at dksX2_init_0 11 rfl rfl)
theorem dX2_init_13 : decode cX2_init 13 = .ok (.putfield 15, 3) := dk_181 0 15 (dk_at dksX2_init_0 13 rfl rfl)
theorem dX2_init_16 : decode cX2_init 16 = .ok (.aload_n 0, 1) := dk_42 (dk_at dksX2_init_0 16 rfl rfl)
theorem dX2_init_17 : decode cX2_init 17 = .ok (.new 18, 3) := dk_187 0 18 (dk_at dksX2_init_0 17 rfl rfl)
theorem dX2_init_20 : decode cX2_init 20 = .ok (.dup, 1) := dk_89 (dk_at dksX2_init_0 20 rfl rfl)
theorem dX2_init_21 : decode cX2_init 21 = .ok (.sipush 682, 3) := dk_17 2 170 (dk_at dksX2_init_0 21 rfl rfl)
theorem dX2_init_24 : decode cX2_init 24 = .ok (.iconst 0, 1) := dk_3 (dk_at dksX2_init_1 0 rfl rfl)
theorem dX2_init_25 : decode cX2_init 25 = .ok (.invokespecial 20, 3) := dk_183 0 20 (dk_at dksX2_init_1 1 rfl rfl)
theorem dX2_init_28 : decode cX2_init 28 = .ok (.putfield 23, 3) := dk_181 0 23 (dk_at dksX2_init_1 4 rfl rfl)
theorem dX2_init_31 : decode cX2_init 31 = .ok (.aload_n 0, 1) := dk_42 (dk_at dksX2_init_1 7 rfl rfl)
theorem dX2_init_32 : decode cX2_init 32 = .ok (.new 27, 3) := dk_187 0 27 (dk_at dksX2_init_1 8 rfl rfl)
theorem dX2_init_35 : decode cX2_init 35 = .ok (.dup, 1) := dk_89 (dk_at dksX2_init_1 11 rfl rfl)
theorem dX2_init_36 : decode cX2_init 36 = .ok (.invokespecial 29, 3) := dk_183 0 29 (dk_at dksX2_init_1 12 rfl rfl)
theorem dX2_init_39 : decode cX2_init 39 = .ok (.putfield 30, 3) := dk_181 0 30 (dk_at dksX2_init_1 15 rfl rfl)
theorem dX2_init_42 : decode cX2_init 42 = .ok (.aload_n 0, 1) := dk_42 (dk_at dksX2_init_1 18 rfl rfl)
theorem dX2_init_43 : decode cX2_init 43 = .ok (.bipush 96, 2) := dk_16 96 (dk_at dksX2_init_1 19 rfl rfl)
theorem dX2_init_45 : decode cX2_init 45 = .ok (.newarray .boolean, 2) := dk_188_4 (dk_at dksX2_init_1 21 rfl rfl)
theorem dX2_init_47 : decode cX2_init 47 = .ok (.putfield 34, 3) := dk_181 0 34 (dk_at dksX2_init_2 0 rfl rfl)
theorem dX2_init_50 : decode cX2_init 50 = .ok (.aload_n 0, 1) := dk_42 (dk_at dksX2_init_2 3 rfl rfl)
theorem dX2_init_51 : decode cX2_init 51 = .ok (.iload_n 1, 1) := dk_27 (dk_at dksX2_init_2 4 rfl rfl)
theorem dX2_init_52 : decode cX2_init 52 = .ok (.putfield 38, 3) := dk_181 0 38 (dk_at dksX2_init_2 5 rfl rfl)
theorem dX2_init_55 : decode cX2_init 55 = .ok (.aload_n 0, 1) := dk_42 (dk_at dksX2_init_2 8 rfl rfl)
theorem dX2_init_56 : decode cX2_init 56 = .ok (.invokevirtual 41, 3) := dk_182 0 41 (dk_at dksX2_init_2 9 rfl rfl)
theorem dX2_init_59 : decode cX2_init 59 = .ok (.return_, 1) := dk_177 (dk_at dksX2_init_2 12 rfl rfl)
abbrev cX2_begin : ByteArray := prog_12_method_2_code
def yX2_begin : MethodName := ⟨RX2, "begin", "()V"⟩
def dkwX2_begin_2 : List UInt8 := [42, 182, 0, 56, 87, 177]
abbrev dktX2_begin_2 : List UInt8 := dkwX2_begin_2 ++ []
def dkwX2_begin_1 : List UInt8 := [27, 16, 96, 162, 0, 16, 42, 180, 0, 34, 27, 3, 84, 132, 1, 1, 167, 255, 240, 42, 182, 0, 56, 87]
abbrev dktX2_begin_1 : List UInt8 := dkwX2_begin_1 ++ dktX2_begin_2
def dkwX2_begin_0 : List UInt8 := [42, 180, 0, 30, 182, 0, 44, 42, 3, 181, 0, 47, 42, 3, 181, 0, 50, 42, 3, 181, 0, 53, 3, 60]
abbrev dktX2_begin_0 : List UInt8 := dkwX2_begin_0 ++ dktX2_begin_1
theorem dksX2_begin_0 : cX2_begin.data.toList.drop 0 = dktX2_begin_0 := by decide +kernel
theorem dksX2_begin_1 : cX2_begin.data.toList.drop 24 = dktX2_begin_1 := dk_seg dksX2_begin_0 24 rfl rfl
theorem dksX2_begin_2 : cX2_begin.data.toList.drop 48 = dktX2_begin_2 := dk_seg dksX2_begin_1 24 rfl rfl
theorem dX2_begin_0 : decode cX2_begin 0 = .ok (.aload_n 0, 1) := dk_42 (dk_at dksX2_begin_0 0 rfl rfl)
theorem dX2_begin_1 : decode cX2_begin 1 = .ok (.getfield 30, 3) := dk_180 0 30 (dk_at dksX2_begin_0 1 rfl rfl)
theorem dX2_begin_4 : decode cX2_begin 4 = .ok (.invokevirtual 44, 3) := dk_182 0 44 (dk_at dksX2_begin_0 4 rfl rfl)
theorem dX2_begin_7 : decode cX2_begin 7 = .ok (.aload_n 0, 1) := dk_42 (dk_at dksX2_begin_0 7 rfl rfl)
theorem dX2_begin_8 : decode cX2_begin 8 = .ok (.iconst 0, 1) := dk_3 (dk_at dksX2_begin_0 8 rfl rfl)
theorem dX2_begin_9 : decode cX2_begin 9 = .ok (.putfield 47, 3) := dk_181 0 47 (dk_at dksX2_begin_0 9 rfl rfl)
theorem dX2_begin_12 : decode cX2_begin 12 = .ok (.aload_n 0, 1) := dk_42 (dk_at dksX2_begin_0 12 rfl rfl)
theorem dX2_begin_13 : decode cX2_begin 13 = .ok (.iconst 0, 1) := dk_3 (dk_at dksX2_begin_0 13 rfl rfl)
theorem dX2_begin_14 : decode cX2_begin 14 = .ok (.putfield 50, 3) := dk_181 0 50 (dk_at dksX2_begin_0 14 rfl rfl)
theorem dX2_begin_17 : decode cX2_begin 17 = .ok (.aload_n 0, 1) := dk_42 (dk_at dksX2_begin_0 17 rfl rfl)
theorem dX2_begin_18 : decode cX2_begin 18 = .ok (.iconst 0, 1) := dk_3 (dk_at dksX2_begin_0 18 rfl rfl)
theorem dX2_begin_19 : decode cX2_begin 19 = .ok (.putfield 53, 3) := dk_181 0 53 (dk_at dksX2_begin_0 19 rfl rfl)
theorem dX2_begin_22 : decode cX2_begin 22 = .ok (.iconst 0, 1) := dk_3 (dk_at dksX2_begin_0 22 rfl rfl)
theorem dX2_begin_23 : decode cX2_begin 23 = .ok (.istore_n 1, 1) := dk_60 (dk_at dksX2_begin_0 23 rfl rfl)
theorem dX2_begin_24 : decode cX2_begin 24 = .ok (.iload_n 1, 1) := dk_27 (dk_at dksX2_begin_1 0 rfl rfl)
theorem dX2_begin_25 : decode cX2_begin 25 = .ok (.bipush 96, 2) := dk_16 96 (dk_at dksX2_begin_1 1 rfl rfl)
theorem dX2_begin_27 : decode cX2_begin 27 = .ok (.if_icmp .ge 16, 3) := dk_162 0 16 (dk_at dksX2_begin_1 3 rfl rfl)
theorem dX2_begin_30 : decode cX2_begin 30 = .ok (.aload_n 0, 1) := dk_42 (dk_at dksX2_begin_1 6 rfl rfl)
theorem dX2_begin_31 : decode cX2_begin 31 = .ok (.getfield 34, 3) := dk_180 0 34 (dk_at dksX2_begin_1 7 rfl rfl)
theorem dX2_begin_34 : decode cX2_begin 34 = .ok (.iload_n 1, 1) := dk_27 (dk_at dksX2_begin_1 10 rfl rfl)
theorem dX2_begin_35 : decode cX2_begin 35 = .ok (.iconst 0, 1) := dk_3 (dk_at dksX2_begin_1 11 rfl rfl)
theorem dX2_begin_36 : decode cX2_begin 36 = .ok (.bastore, 1) := dk_84 (dk_at dksX2_begin_1 12 rfl rfl)
theorem dX2_begin_37 : decode cX2_begin 37 = .ok (.iinc 1 1, 3) := dk_132 1 1 (dk_at dksX2_begin_1 13 rfl rfl)
theorem dX2_begin_40 : decode cX2_begin 40 = .ok (.goto (-16), 3) := dk_167 255 240 (dk_at dksX2_begin_1 16 rfl rfl)
theorem dX2_begin_43 : decode cX2_begin 43 = .ok (.aload_n 0, 1) := dk_42 (dk_at dksX2_begin_1 19 rfl rfl)
theorem dX2_begin_44 : decode cX2_begin 44 = .ok (.invokevirtual 56, 3) := dk_182 0 56 (dk_at dksX2_begin_1 20 rfl rfl)
theorem dX2_begin_47 : decode cX2_begin 47 = .ok (.pop, 1) := dk_87 (dk_at dksX2_begin_1 23 rfl rfl)
theorem dX2_begin_48 : decode cX2_begin 48 = .ok (.aload_n 0, 1) := dk_42 (dk_at dksX2_begin_2 0 rfl rfl)
theorem dX2_begin_49 : decode cX2_begin 49 = .ok (.invokevirtual 56, 3) := dk_182 0 56 (dk_at dksX2_begin_2 1 rfl rfl)
theorem dX2_begin_52 : decode cX2_begin 52 = .ok (.pop, 1) := dk_87 (dk_at dksX2_begin_2 4 rfl rfl)
theorem dX2_begin_53 : decode cX2_begin 53 = .ok (.return_, 1) := dk_177 (dk_at dksX2_begin_2 5 rfl rfl)
abbrev cX2_addBucket : ByteArray := prog_12_method_11_code
def yX2_addBucket : MethodName := ⟨RX2, "addBucket", "()LSplitpointer$Bucket;"⟩
def dkwX2_addBucket_1 : List UInt8 := [43, 182, 0, 116, 87, 43, 176]
abbrev dktX2_addBucket_1 : List UInt8 := dkwX2_addBucket_1 ++ []
def dkwX2_addBucket_0 : List UInt8 := [187, 0, 81, 89, 183, 0, 108, 76, 43, 180, 0, 109, 42, 182, 0, 112, 182, 0, 116, 87, 42, 180, 0, 30]
abbrev dktX2_addBucket_0 : List UInt8 := dkwX2_addBucket_0 ++ dktX2_addBucket_1
theorem dksX2_addBucket_0 : cX2_addBucket.data.toList.drop 0 = dktX2_addBucket_0 := by decide +kernel
theorem dksX2_addBucket_1 : cX2_addBucket.data.toList.drop 24 = dktX2_addBucket_1 := dk_seg dksX2_addBucket_0 24 rfl rfl
theorem dX2_addBucket_0 : decode cX2_addBucket 0 = .ok (.new 81, 3) := dk_187 0 81 (dk_at dksX2_addBucket_0 0 rfl rfl)
theorem dX2_addBucket_3 : decode cX2_addBucket 3 = .ok (.dup, 1) := dk_89 (dk_at dksX2_addBucket_0 3 rfl rfl)
theorem dX2_addBucket_4 : decode cX2_addBucket 4 = .ok (.invokespecial 108, 3) := dk_183 0 108 (dk_at dksX2_addBucket_0 4 rfl rfl)
theorem dX2_addBucket_7 : decode cX2_addBucket 7 = .ok (.astore_n 1, 1) := dk_76 (dk_at dksX2_addBucket_0 7 rfl rfl)
theorem dX2_addBucket_8 : decode cX2_addBucket 8 = .ok (.aload_n 1, 1) := dk_43 (dk_at dksX2_addBucket_0 8 rfl rfl)
theorem dX2_addBucket_9 : decode cX2_addBucket 9 = .ok (.getfield 109, 3) := dk_180 0 109 (dk_at dksX2_addBucket_0 9 rfl rfl)
theorem dX2_addBucket_12 : decode cX2_addBucket 12 = .ok (.aload_n 0, 1) := dk_42 (dk_at dksX2_addBucket_0 12 rfl rfl)
theorem dX2_addBucket_13 : decode cX2_addBucket 13 = .ok (.invokevirtual 112, 3) := dk_182 0 112 (dk_at dksX2_addBucket_0 13 rfl rfl)
theorem dX2_addBucket_16 : decode cX2_addBucket 16 = .ok (.invokevirtual 116, 3) := dk_182 0 116 (dk_at dksX2_addBucket_0 16 rfl rfl)
theorem dX2_addBucket_19 : decode cX2_addBucket 19 = .ok (.pop, 1) := dk_87 (dk_at dksX2_addBucket_0 19 rfl rfl)
theorem dX2_addBucket_20 : decode cX2_addBucket 20 = .ok (.aload_n 0, 1) := dk_42 (dk_at dksX2_addBucket_0 20 rfl rfl)
theorem dX2_addBucket_21 : decode cX2_addBucket 21 = .ok (.getfield 30, 3) := dk_180 0 30 (dk_at dksX2_addBucket_0 21 rfl rfl)
theorem dX2_addBucket_24 : decode cX2_addBucket 24 = .ok (.aload_n 1, 1) := dk_43 (dk_at dksX2_addBucket_1 0 rfl rfl)
theorem dX2_addBucket_25 : decode cX2_addBucket 25 = .ok (.invokevirtual 116, 3) := dk_182 0 116 (dk_at dksX2_addBucket_1 1 rfl rfl)
theorem dX2_addBucket_28 : decode cX2_addBucket 28 = .ok (.pop, 1) := dk_87 (dk_at dksX2_addBucket_1 4 rfl rfl)
theorem dX2_addBucket_29 : decode cX2_addBucket 29 = .ok (.aload_n 1, 1) := dk_43 (dk_at dksX2_addBucket_1 5 rfl rfl)
theorem dX2_addBucket_30 : decode cX2_addBucket 30 = .ok (.areturn, 1) := dk_176 (dk_at dksX2_addBucket_1 6 rfl rfl)
abbrev cX2_take : ByteArray := prog_12_method_9_code
def yX2_take : MethodName := ⟨RX2, "take", "()LSplitpointer$Page;"⟩
def dkwX2_take_1 : List UInt8 := [187, 0, 92, 89, 27, 183, 0, 102, 176]
abbrev dktX2_take_1 : List UInt8 := dkwX2_take_1 ++ []
def dkwX2_take_0 : List UInt8 := [3, 60, 42, 180, 0, 34, 27, 51, 153, 0, 9, 132, 1, 1, 167, 255, 244, 42, 180, 0, 34, 27, 4, 84]
abbrev dktX2_take_0 : List UInt8 := dkwX2_take_0 ++ dktX2_take_1
theorem dksX2_take_0 : cX2_take.data.toList.drop 0 = dktX2_take_0 := by decide +kernel
theorem dksX2_take_1 : cX2_take.data.toList.drop 24 = dktX2_take_1 := dk_seg dksX2_take_0 24 rfl rfl
theorem dX2_take_0 : decode cX2_take 0 = .ok (.iconst 0, 1) := dk_3 (dk_at dksX2_take_0 0 rfl rfl)
theorem dX2_take_1 : decode cX2_take 1 = .ok (.istore_n 1, 1) := dk_60 (dk_at dksX2_take_0 1 rfl rfl)
theorem dX2_take_2 : decode cX2_take 2 = .ok (.aload_n 0, 1) := dk_42 (dk_at dksX2_take_0 2 rfl rfl)
theorem dX2_take_3 : decode cX2_take 3 = .ok (.getfield 34, 3) := dk_180 0 34 (dk_at dksX2_take_0 3 rfl rfl)
theorem dX2_take_6 : decode cX2_take 6 = .ok (.iload_n 1, 1) := dk_27 (dk_at dksX2_take_0 6 rfl rfl)
theorem dX2_take_7 : decode cX2_take 7 = .ok (.baload, 1) := dk_51 (dk_at dksX2_take_0 7 rfl rfl)
theorem dX2_take_8 : decode cX2_take 8 = .ok (.ifCond .eq 9, 3) := dk_153 0 9 (dk_at dksX2_take_0 8 rfl rfl)
theorem dX2_take_11 : decode cX2_take 11 = .ok (.iinc 1 1, 3) := dk_132 1 1 (dk_at dksX2_take_0 11 rfl rfl)
theorem dX2_take_14 : decode cX2_take 14 = .ok (.goto (-12), 3) := dk_167 255 244 (dk_at dksX2_take_0 14 rfl rfl)
theorem dX2_take_17 : decode cX2_take 17 = .ok (.aload_n 0, 1) := dk_42 (dk_at dksX2_take_0 17 rfl rfl)
theorem dX2_take_18 : decode cX2_take 18 = .ok (.getfield 34, 3) := dk_180 0 34 (dk_at dksX2_take_0 18 rfl rfl)
theorem dX2_take_21 : decode cX2_take 21 = .ok (.iload_n 1, 1) := dk_27 (dk_at dksX2_take_0 21 rfl rfl)
theorem dX2_take_22 : decode cX2_take 22 = .ok (.iconst 1, 1) := dk_4 (dk_at dksX2_take_0 22 rfl rfl)
theorem dX2_take_23 : decode cX2_take 23 = .ok (.bastore, 1) := dk_84 (dk_at dksX2_take_0 23 rfl rfl)
theorem dX2_take_24 : decode cX2_take 24 = .ok (.new 92, 3) := dk_187 0 92 (dk_at dksX2_take_1 0 rfl rfl)
theorem dX2_take_27 : decode cX2_take 27 = .ok (.dup, 1) := dk_89 (dk_at dksX2_take_1 3 rfl rfl)
theorem dX2_take_28 : decode cX2_take 28 = .ok (.iload_n 1, 1) := dk_27 (dk_at dksX2_take_1 4 rfl rfl)
theorem dX2_take_29 : decode cX2_take 29 = .ok (.invokespecial 102, 3) := dk_183 0 102 (dk_at dksX2_take_1 5 rfl rfl)
theorem dX2_take_32 : decode cX2_take 32 = .ok (.areturn, 1) := dk_176 (dk_at dksX2_take_1 8 rfl rfl)
abbrev cX2_copy : ByteArray := prog_12_method_23_code
def yX2_copy : MethodName := ⟨RX2, "copy", "()LSplitpointer$Store;"⟩
def dkwX2_copy_5 : List UInt8 := [28, 182, 0, 77, 192, 0, 81, 184, 0, 214, 182, 0, 116, 87, 132, 2, 1, 167, 255, 220, 43, 176]
abbrev dktX2_copy_5 : List UInt8 := dkwX2_copy_5 ++ []
def dkwX2_copy_4 : List UInt8 := [184, 0, 208, 3, 61, 28, 42, 180, 0, 30, 182, 0, 60, 162, 0, 31, 43, 180, 0, 30, 42, 180, 0, 30]
abbrev dktX2_copy_4 : List UInt8 := dkwX2_copy_4 ++ dktX2_copy_5
def dkwX2_copy_3 : List UInt8 := [181, 0, 185, 43, 42, 180, 0, 23, 181, 0, 23, 42, 180, 0, 34, 3, 43, 180, 0, 34, 3, 16, 96]
abbrev dktX2_copy_3 : List UInt8 := dkwX2_copy_3 ++ dktX2_copy_4
def dkwX2_copy_2 : List UInt8 := [181, 0, 50, 43, 42, 180, 0, 53, 181, 0, 53, 43, 42, 180, 0, 168, 181, 0, 168, 43, 42, 180, 0, 185]
abbrev dktX2_copy_2 : List UInt8 := dkwX2_copy_2 ++ dktX2_copy_3
def dkwX2_copy_1 : List UInt8 := [181, 0, 9, 43, 42, 180, 0, 15, 181, 0, 15, 43, 42, 180, 0, 47, 181, 0, 47, 43, 42, 180, 0, 50]
abbrev dktX2_copy_1 : List UInt8 := dkwX2_copy_1 ++ dktX2_copy_2
def dkwX2_copy_0 : List UInt8 := [187, 0, 10, 89, 42, 180, 0, 38, 183, 0, 207, 76, 43, 180, 0, 30, 182, 0, 44, 43, 42, 180, 0, 9]
abbrev dktX2_copy_0 : List UInt8 := dkwX2_copy_0 ++ dktX2_copy_1
theorem dksX2_copy_0 : cX2_copy.data.toList.drop 0 = dktX2_copy_0 := by decide +kernel
theorem dksX2_copy_1 : cX2_copy.data.toList.drop 24 = dktX2_copy_1 := dk_seg dksX2_copy_0 24 rfl rfl
theorem dksX2_copy_2 : cX2_copy.data.toList.drop 48 = dktX2_copy_2 := dk_seg dksX2_copy_1 24 rfl rfl
theorem dksX2_copy_3 : cX2_copy.data.toList.drop 72 = dktX2_copy_3 := dk_seg dksX2_copy_2 24 rfl rfl
theorem dksX2_copy_4 : cX2_copy.data.toList.drop 95 = dktX2_copy_4 := dk_seg dksX2_copy_3 23 rfl rfl
theorem dksX2_copy_5 : cX2_copy.data.toList.drop 119 = dktX2_copy_5 := dk_seg dksX2_copy_4 24 rfl rfl
theorem dX2_copy_0 : decode cX2_copy 0 = .ok (.new 10, 3) := dk_187 0 10 (dk_at dksX2_copy_0 0 rfl rfl)
theorem dX2_copy_3 : decode cX2_copy 3 = .ok (.dup, 1) := dk_89 (dk_at dksX2_copy_0 3 rfl rfl)
theorem dX2_copy_4 : decode cX2_copy 4 = .ok (.aload_n 0, 1) := dk_42 (dk_at dksX2_copy_0 4 rfl rfl)
theorem dX2_copy_5 : decode cX2_copy 5 = .ok (.getfield 38, 3) := dk_180 0 38 (dk_at dksX2_copy_0 5 rfl rfl)
theorem dX2_copy_8 : decode cX2_copy 8 = .ok (.invokespecial 207, 3) := dk_183 0 207 (dk_at dksX2_copy_0 8 rfl rfl)
theorem dX2_copy_11 : decode cX2_copy 11 = .ok (.astore_n 1, 1) := dk_76 (dk_at dksX2_copy_0 11 rfl rfl)
theorem dX2_copy_12 : decode cX2_copy 12 = .ok (.aload_n 1, 1) := dk_43 (dk_at dksX2_copy_0 12 rfl rfl)
theorem dX2_copy_13 : decode cX2_copy 13 = .ok (.getfield 30, 3) := dk_180 0 30 (dk_at dksX2_copy_0 13 rfl rfl)
theorem dX2_copy_16 : decode cX2_copy 16 = .ok (.invokevirtual 44, 3) := dk_182 0 44 (dk_at dksX2_copy_0 16 rfl rfl)
theorem dX2_copy_19 : decode cX2_copy 19 = .ok (.aload_n 1, 1) := dk_43 (dk_at dksX2_copy_0 19 rfl rfl)
theorem dX2_copy_20 : decode cX2_copy 20 = .ok (.aload_n 0, 1) := dk_42 (dk_at dksX2_copy_0 20 rfl rfl)
theorem dX2_copy_21 : decode cX2_copy 21 = .ok (.getfield 9, 3) := dk_180 0 9 (dk_at dksX2_copy_0 21 rfl rfl)
theorem dX2_copy_24 : decode cX2_copy 24 = .ok (.putfield 9, 3) := dk_181 0 9 (dk_at dksX2_copy_1 0 rfl rfl)
theorem dX2_copy_27 : decode cX2_copy 27 = .ok (.aload_n 1, 1) := dk_43 (dk_at dksX2_copy_1 3 rfl rfl)
theorem dX2_copy_28 : decode cX2_copy 28 = .ok (.aload_n 0, 1) := dk_42 (dk_at dksX2_copy_1 4 rfl rfl)
theorem dX2_copy_29 : decode cX2_copy 29 = .ok (.getfield 15, 3) := dk_180 0 15 (dk_at dksX2_copy_1 5 rfl rfl)
theorem dX2_copy_32 : decode cX2_copy 32 = .ok (.putfield 15, 3) := dk_181 0 15 (dk_at dksX2_copy_1 8 rfl rfl)
theorem dX2_copy_35 : decode cX2_copy 35 = .ok (.aload_n 1, 1) := dk_43 (dk_at dksX2_copy_1 11 rfl rfl)
theorem dX2_copy_36 : decode cX2_copy 36 = .ok (.aload_n 0, 1) := dk_42 (dk_at dksX2_copy_1 12 rfl rfl)
theorem dX2_copy_37 : decode cX2_copy 37 = .ok (.getfield 47, 3) := dk_180 0 47 (dk_at dksX2_copy_1 13 rfl rfl)
theorem dX2_copy_40 : decode cX2_copy 40 = .ok (.putfield 47, 3) := dk_181 0 47 (dk_at dksX2_copy_1 16 rfl rfl)
theorem dX2_copy_43 : decode cX2_copy 43 = .ok (.aload_n 1, 1) := dk_43 (dk_at dksX2_copy_1 19 rfl rfl)
theorem dX2_copy_44 : decode cX2_copy 44 = .ok (.aload_n 0, 1) := dk_42 (dk_at dksX2_copy_1 20 rfl rfl)
theorem dX2_copy_45 : decode cX2_copy 45 = .ok (.getfield 50, 3) := dk_180 0 50 (dk_at dksX2_copy_1 21 rfl rfl)
theorem dX2_copy_48 : decode cX2_copy 48 = .ok (.putfield 50, 3) := dk_181 0 50 (dk_at dksX2_copy_2 0 rfl rfl)
theorem dX2_copy_51 : decode cX2_copy 51 = .ok (.aload_n 1, 1) := dk_43 (dk_at dksX2_copy_2 3 rfl rfl)
theorem dX2_copy_52 : decode cX2_copy 52 = .ok (.aload_n 0, 1) := dk_42 (dk_at dksX2_copy_2 4 rfl rfl)
theorem dX2_copy_53 : decode cX2_copy 53 = .ok (.getfield 53, 3) := dk_180 0 53 (dk_at dksX2_copy_2 5 rfl rfl)
theorem dX2_copy_56 : decode cX2_copy 56 = .ok (.putfield 53, 3) := dk_181 0 53 (dk_at dksX2_copy_2 8 rfl rfl)
theorem dX2_copy_59 : decode cX2_copy 59 = .ok (.aload_n 1, 1) := dk_43 (dk_at dksX2_copy_2 11 rfl rfl)
theorem dX2_copy_60 : decode cX2_copy 60 = .ok (.aload_n 0, 1) := dk_42 (dk_at dksX2_copy_2 12 rfl rfl)
theorem dX2_copy_61 : decode cX2_copy 61 = .ok (.getfield 168, 3) := dk_180 0 168 (dk_at dksX2_copy_2 13 rfl rfl)
theorem dX2_copy_64 : decode cX2_copy 64 = .ok (.putfield 168, 3) := dk_181 0 168 (dk_at dksX2_copy_2 16 rfl rfl)
theorem dX2_copy_67 : decode cX2_copy 67 = .ok (.aload_n 1, 1) := dk_43 (dk_at dksX2_copy_2 19 rfl rfl)
theorem dX2_copy_68 : decode cX2_copy 68 = .ok (.aload_n 0, 1) := dk_42 (dk_at dksX2_copy_2 20 rfl rfl)
theorem dX2_copy_69 : decode cX2_copy 69 = .ok (.getfield 185, 3) := dk_180 0 185 (dk_at dksX2_copy_2 21 rfl rfl)
theorem dX2_copy_72 : decode cX2_copy 72 = .ok (.putfield 185, 3) := dk_181 0 185 (dk_at dksX2_copy_3 0 rfl rfl)
theorem dX2_copy_75 : decode cX2_copy 75 = .ok (.aload_n 1, 1) := dk_43 (dk_at dksX2_copy_3 3 rfl rfl)
theorem dX2_copy_76 : decode cX2_copy 76 = .ok (.aload_n 0, 1) := dk_42 (dk_at dksX2_copy_3 4 rfl rfl)
theorem dX2_copy_77 : decode cX2_copy 77 = .ok (.getfield 23, 3) := dk_180 0 23 (dk_at dksX2_copy_3 5 rfl rfl)
theorem dX2_copy_80 : decode cX2_copy 80 = .ok (.putfield 23, 3) := dk_181 0 23 (dk_at dksX2_copy_3 8 rfl rfl)
theorem dX2_copy_83 : decode cX2_copy 83 = .ok (.aload_n 0, 1) := dk_42 (dk_at dksX2_copy_3 11 rfl rfl)
theorem dX2_copy_84 : decode cX2_copy 84 = .ok (.getfield 34, 3) := dk_180 0 34 (dk_at dksX2_copy_3 12 rfl rfl)
theorem dX2_copy_87 : decode cX2_copy 87 = .ok (.iconst 0, 1) := dk_3 (dk_at dksX2_copy_3 15 rfl rfl)
theorem dX2_copy_88 : decode cX2_copy 88 = .ok (.aload_n 1, 1) := dk_43 (dk_at dksX2_copy_3 16 rfl rfl)
theorem dX2_copy_89 : decode cX2_copy 89 = .ok (.getfield 34, 3) := dk_180 0 34 (dk_at dksX2_copy_3 17 rfl rfl)
theorem dX2_copy_92 : decode cX2_copy 92 = .ok (.iconst 0, 1) := dk_3 (dk_at dksX2_copy_3 20 rfl rfl)
theorem dX2_copy_93 : decode cX2_copy 93 = .ok (.bipush 96, 2) := dk_16 96 (dk_at dksX2_copy_3 21 rfl rfl)
theorem dX2_copy_95 : decode cX2_copy 95 = .ok (.invokestatic 208, 3) := dk_184 0 208 (dk_at dksX2_copy_4 0 rfl rfl)
theorem dX2_copy_98 : decode cX2_copy 98 = .ok (.iconst 0, 1) := dk_3 (dk_at dksX2_copy_4 3 rfl rfl)
theorem dX2_copy_99 : decode cX2_copy 99 = .ok (.istore_n 2, 1) := dk_61 (dk_at dksX2_copy_4 4 rfl rfl)
theorem dX2_copy_100 : decode cX2_copy 100 = .ok (.iload_n 2, 1) := dk_28 (dk_at dksX2_copy_4 5 rfl rfl)
theorem dX2_copy_101 : decode cX2_copy 101 = .ok (.aload_n 0, 1) := dk_42 (dk_at dksX2_copy_4 6 rfl rfl)
theorem dX2_copy_102 : decode cX2_copy 102 = .ok (.getfield 30, 3) := dk_180 0 30 (dk_at dksX2_copy_4 7 rfl rfl)
theorem dX2_copy_105 : decode cX2_copy 105 = .ok (.invokevirtual 60, 3) := dk_182 0 60 (dk_at dksX2_copy_4 10 rfl rfl)
theorem dX2_copy_108 : decode cX2_copy 108 = .ok (.if_icmp .ge 31, 3) := dk_162 0 31 (dk_at dksX2_copy_4 13 rfl rfl)
theorem dX2_copy_111 : decode cX2_copy 111 = .ok (.aload_n 1, 1) := dk_43 (dk_at dksX2_copy_4 16 rfl rfl)
theorem dX2_copy_112 : decode cX2_copy 112 = .ok (.getfield 30, 3) := dk_180 0 30 (dk_at dksX2_copy_4 17 rfl rfl)
theorem dX2_copy_115 : decode cX2_copy 115 = .ok (.aload_n 0, 1) := dk_42 (dk_at dksX2_copy_4 20 rfl rfl)
theorem dX2_copy_116 : decode cX2_copy 116 = .ok (.getfield 30, 3) := dk_180 0 30 (dk_at dksX2_copy_4 21 rfl rfl)
theorem dX2_copy_119 : decode cX2_copy 119 = .ok (.iload_n 2, 1) := dk_28 (dk_at dksX2_copy_5 0 rfl rfl)
theorem dX2_copy_120 : decode cX2_copy 120 = .ok (.invokevirtual 77, 3) := dk_182 0 77 (dk_at dksX2_copy_5 1 rfl rfl)
theorem dX2_copy_123 : decode cX2_copy 123 = .ok (.checkcast 81, 3) := dk_192 0 81 (dk_at dksX2_copy_5 4 rfl rfl)
theorem dX2_copy_126 : decode cX2_copy 126 = .ok (.invokestatic 214, 3) := dk_184 0 214 (dk_at dksX2_copy_5 7 rfl rfl)
theorem dX2_copy_129 : decode cX2_copy 129 = .ok (.invokevirtual 116, 3) := dk_182 0 116 (dk_at dksX2_copy_5 10 rfl rfl)
theorem dX2_copy_132 : decode cX2_copy 132 = .ok (.pop, 1) := dk_87 (dk_at dksX2_copy_5 13 rfl rfl)
theorem dX2_copy_133 : decode cX2_copy 133 = .ok (.iinc 2 1, 3) := dk_132 2 1 (dk_at dksX2_copy_5 14 rfl rfl)
theorem dX2_copy_136 : decode cX2_copy 136 = .ok (.goto (-36), 3) := dk_167 255 220 (dk_at dksX2_copy_5 17 rfl rfl)
theorem dX2_copy_139 : decode cX2_copy 139 = .ok (.aload_n 1, 1) := dk_43 (dk_at dksX2_copy_5 20 rfl rfl)
theorem dX2_copy_140 : decode cX2_copy 140 = .ok (.areturn, 1) := dk_176 (dk_at dksX2_copy_5 21 rfl rfl)
abbrev cX2_copyOf : ByteArray := prog_12_method_24_code
def yX2_copyOf : MethodName := ⟨RX2, "copyOf", "(LSplitpointer$Bucket;)LSplitpointer$Bucket;"⟩
def dkwX2_copyOf_5 : List UInt8 := [180, 0, 109, 45, 182, 0, 116, 87, 132, 2, 1, 167, 255, 147, 43, 176]
abbrev dktX2_copyOf_5 : List UInt8 := dkwX2_copyOf_5 ++ []
def dkwX2_copyOf_4 : List UInt8 := [21, 4, 182, 0, 77, 192, 0, 100, 182, 0, 218, 182, 0, 116, 87, 132, 4, 1, 167, 255, 198, 43]
abbrev dktX2_copyOf_4 : List UInt8 := dkwX2_copyOf_4 ++ dktX2_copyOf_5
def dkwX2_copyOf_3 : List UInt8 := [182, 0, 60, 162, 0, 42, 45, 180, 0, 91, 42, 180, 0, 109, 28, 182, 0, 77, 192, 0, 92, 180, 0, 91]
abbrev dktX2_copyOf_3 : List UInt8 := dkwX2_copyOf_3 ++ dktX2_copyOf_4
def dkwX2_copyOf_2 : List UInt8 := [183, 0, 102, 78, 3, 54, 4, 21, 4, 42, 180, 0, 109, 28, 182, 0, 77, 192, 0, 92, 180, 0, 91]
abbrev dktX2_copyOf_2 : List UInt8 := dkwX2_copyOf_2 ++ dktX2_copyOf_3
def dkwX2_copyOf_1 : List UInt8 := [182, 0, 60, 162, 0, 104, 187, 0, 92, 89, 42, 180, 0, 109, 28, 182, 0, 77, 192, 0, 92, 180, 0, 105]
abbrev dktX2_copyOf_1 : List UInt8 := dkwX2_copyOf_1 ++ dktX2_copyOf_2
def dkwX2_copyOf_0 : List UInt8 := [187, 0, 81, 89, 183, 0, 108, 76, 43, 42, 180, 0, 126, 181, 0, 126, 3, 61, 28, 42, 180, 0, 109]
abbrev dktX2_copyOf_0 : List UInt8 := dkwX2_copyOf_0 ++ dktX2_copyOf_1
theorem dksX2_copyOf_0 : cX2_copyOf.data.toList.drop 0 = dktX2_copyOf_0 := by decide +kernel
theorem dksX2_copyOf_1 : cX2_copyOf.data.toList.drop 23 = dktX2_copyOf_1 := dk_seg dksX2_copyOf_0 23 rfl rfl
theorem dksX2_copyOf_2 : cX2_copyOf.data.toList.drop 47 = dktX2_copyOf_2 := dk_seg dksX2_copyOf_1 24 rfl rfl
theorem dksX2_copyOf_3 : cX2_copyOf.data.toList.drop 70 = dktX2_copyOf_3 := dk_seg dksX2_copyOf_2 23 rfl rfl
theorem dksX2_copyOf_4 : cX2_copyOf.data.toList.drop 94 = dktX2_copyOf_4 := dk_seg dksX2_copyOf_3 24 rfl rfl
theorem dksX2_copyOf_5 : cX2_copyOf.data.toList.drop 116 = dktX2_copyOf_5 := dk_seg dksX2_copyOf_4 22 rfl rfl
theorem dX2_copyOf_0 : decode cX2_copyOf 0 = .ok (.new 81, 3) := dk_187 0 81 (dk_at dksX2_copyOf_0 0 rfl rfl)
theorem dX2_copyOf_3 : decode cX2_copyOf 3 = .ok (.dup, 1) := dk_89 (dk_at dksX2_copyOf_0 3 rfl rfl)
theorem dX2_copyOf_4 : decode cX2_copyOf 4 = .ok (.invokespecial 108, 3) := dk_183 0 108 (dk_at dksX2_copyOf_0 4 rfl rfl)
theorem dX2_copyOf_7 : decode cX2_copyOf 7 = .ok (.astore_n 1, 1) := dk_76 (dk_at dksX2_copyOf_0 7 rfl rfl)
theorem dX2_copyOf_8 : decode cX2_copyOf 8 = .ok (.aload_n 1, 1) := dk_43 (dk_at dksX2_copyOf_0 8 rfl rfl)
theorem dX2_copyOf_9 : decode cX2_copyOf 9 = .ok (.aload_n 0, 1) := dk_42 (dk_at dksX2_copyOf_0 9 rfl rfl)
theorem dX2_copyOf_10 : decode cX2_copyOf 10 = .ok (.getfield 126, 3) := dk_180 0 126 (dk_at dksX2_copyOf_0 10 rfl rfl)
theorem dX2_copyOf_13 : decode cX2_copyOf 13 = .ok (.putfield 126, 3) := dk_181 0 126 (dk_at dksX2_copyOf_0 13 rfl rfl)
theorem dX2_copyOf_16 : decode cX2_copyOf 16 = .ok (.iconst 0, 1) := dk_3 (dk_at dksX2_copyOf_0 16 rfl rfl)
theorem dX2_copyOf_17 : decode cX2_copyOf 17 = .ok (.istore_n 2, 1) := dk_61 (dk_at dksX2_copyOf_0 17 rfl rfl)
theorem dX2_copyOf_18 : decode cX2_copyOf 18 = .ok (.iload_n 2, 1) := dk_28 (dk_at dksX2_copyOf_0 18 rfl rfl)
theorem dX2_copyOf_19 : decode cX2_copyOf 19 = .ok (.aload_n 0, 1) := dk_42 (dk_at dksX2_copyOf_0 19 rfl rfl)
theorem dX2_copyOf_20 : decode cX2_copyOf 20 = .ok (.getfield 109, 3) := dk_180 0 109 (dk_at dksX2_copyOf_0 20 rfl rfl)
theorem dX2_copyOf_23 : decode cX2_copyOf 23 = .ok (.invokevirtual 60, 3) := dk_182 0 60 (dk_at dksX2_copyOf_1 0 rfl rfl)
theorem dX2_copyOf_26 : decode cX2_copyOf 26 = .ok (.if_icmp .ge 104, 3) := dk_162 0 104 (dk_at dksX2_copyOf_1 3 rfl rfl)
theorem dX2_copyOf_29 : decode cX2_copyOf 29 = .ok (.new 92, 3) := dk_187 0 92 (dk_at dksX2_copyOf_1 6 rfl rfl)
theorem dX2_copyOf_32 : decode cX2_copyOf 32 = .ok (.dup, 1) := dk_89 (dk_at dksX2_copyOf_1 9 rfl rfl)
theorem dX2_copyOf_33 : decode cX2_copyOf 33 = .ok (.aload_n 0, 1) := dk_42 (dk_at dksX2_copyOf_1 10 rfl rfl)
theorem dX2_copyOf_34 : decode cX2_copyOf 34 = .ok (.getfield 109, 3) := dk_180 0 109 (dk_at dksX2_copyOf_1 11 rfl rfl)
theorem dX2_copyOf_37 : decode cX2_copyOf 37 = .ok (.iload_n 2, 1) := dk_28 (dk_at dksX2_copyOf_1 14 rfl rfl)
theorem dX2_copyOf_38 : decode cX2_copyOf 38 = .ok (.invokevirtual 77, 3) := dk_182 0 77 (dk_at dksX2_copyOf_1 15 rfl rfl)
theorem dX2_copyOf_41 : decode cX2_copyOf 41 = .ok (.checkcast 92, 3) := dk_192 0 92 (dk_at dksX2_copyOf_1 18 rfl rfl)
theorem dX2_copyOf_44 : decode cX2_copyOf 44 = .ok (.getfield 105, 3) := dk_180 0 105 (dk_at dksX2_copyOf_1 21 rfl rfl)
theorem dX2_copyOf_47 : decode cX2_copyOf 47 = .ok (.invokespecial 102, 3) := dk_183 0 102 (dk_at dksX2_copyOf_2 0 rfl rfl)
theorem dX2_copyOf_50 : decode cX2_copyOf 50 = .ok (.astore_n 3, 1) := dk_78 (dk_at dksX2_copyOf_2 3 rfl rfl)
theorem dX2_copyOf_51 : decode cX2_copyOf 51 = .ok (.iconst 0, 1) := dk_3 (dk_at dksX2_copyOf_2 4 rfl rfl)
theorem dX2_copyOf_52 : decode cX2_copyOf 52 = .ok (.istore 4, 2) := dk_54 4 (dk_at dksX2_copyOf_2 5 rfl rfl)
theorem dX2_copyOf_54 : decode cX2_copyOf 54 = .ok (.iload 4, 2) := dk_21 4 (dk_at dksX2_copyOf_2 7 rfl rfl)
theorem dX2_copyOf_56 : decode cX2_copyOf 56 = .ok (.aload_n 0, 1) := dk_42 (dk_at dksX2_copyOf_2 9 rfl rfl)
theorem dX2_copyOf_57 : decode cX2_copyOf 57 = .ok (.getfield 109, 3) := dk_180 0 109 (dk_at dksX2_copyOf_2 10 rfl rfl)
theorem dX2_copyOf_60 : decode cX2_copyOf 60 = .ok (.iload_n 2, 1) := dk_28 (dk_at dksX2_copyOf_2 13 rfl rfl)
theorem dX2_copyOf_61 : decode cX2_copyOf 61 = .ok (.invokevirtual 77, 3) := dk_182 0 77 (dk_at dksX2_copyOf_2 14 rfl rfl)
theorem dX2_copyOf_64 : decode cX2_copyOf 64 = .ok (.checkcast 92, 3) := dk_192 0 92 (dk_at dksX2_copyOf_2 17 rfl rfl)
theorem dX2_copyOf_67 : decode cX2_copyOf 67 = .ok (.getfield 91, 3) := dk_180 0 91 (dk_at dksX2_copyOf_2 20 rfl rfl)
theorem dX2_copyOf_70 : decode cX2_copyOf 70 = .ok (.invokevirtual 60, 3) := dk_182 0 60 (dk_at dksX2_copyOf_3 0 rfl rfl)
theorem dX2_copyOf_73 : decode cX2_copyOf 73 = .ok (.if_icmp .ge 42, 3) := dk_162 0 42 (dk_at dksX2_copyOf_3 3 rfl rfl)
theorem dX2_copyOf_76 : decode cX2_copyOf 76 = .ok (.aload_n 3, 1) := dk_45 (dk_at dksX2_copyOf_3 6 rfl rfl)
theorem dX2_copyOf_77 : decode cX2_copyOf 77 = .ok (.getfield 91, 3) := dk_180 0 91 (dk_at dksX2_copyOf_3 7 rfl rfl)
theorem dX2_copyOf_80 : decode cX2_copyOf 80 = .ok (.aload_n 0, 1) := dk_42 (dk_at dksX2_copyOf_3 10 rfl rfl)
theorem dX2_copyOf_81 : decode cX2_copyOf 81 = .ok (.getfield 109, 3) := dk_180 0 109 (dk_at dksX2_copyOf_3 11 rfl rfl)
theorem dX2_copyOf_84 : decode cX2_copyOf 84 = .ok (.iload_n 2, 1) := dk_28 (dk_at dksX2_copyOf_3 14 rfl rfl)
theorem dX2_copyOf_85 : decode cX2_copyOf 85 = .ok (.invokevirtual 77, 3) := dk_182 0 77 (dk_at dksX2_copyOf_3 15 rfl rfl)
theorem dX2_copyOf_88 : decode cX2_copyOf 88 = .ok (.checkcast 92, 3) := dk_192 0 92 (dk_at dksX2_copyOf_3 18 rfl rfl)
theorem dX2_copyOf_91 : decode cX2_copyOf 91 = .ok (.getfield 91, 3) := dk_180 0 91 (dk_at dksX2_copyOf_3 21 rfl rfl)
theorem dX2_copyOf_94 : decode cX2_copyOf 94 = .ok (.iload 4, 2) := dk_21 4 (dk_at dksX2_copyOf_4 0 rfl rfl)
theorem dX2_copyOf_96 : decode cX2_copyOf 96 = .ok (.invokevirtual 77, 3) := dk_182 0 77 (dk_at dksX2_copyOf_4 2 rfl rfl)
theorem dX2_copyOf_99 : decode cX2_copyOf 99 = .ok (.checkcast 100, 3) := dk_192 0 100 (dk_at dksX2_copyOf_4 5 rfl rfl)
theorem dX2_copyOf_102 : decode cX2_copyOf 102 = .ok (.invokevirtual 218, 3) := dk_182 0 218 (dk_at dksX2_copyOf_4 8 rfl rfl)
theorem dX2_copyOf_105 : decode cX2_copyOf 105 = .ok (.invokevirtual 116, 3) := dk_182 0 116 (dk_at dksX2_copyOf_4 11 rfl rfl)
theorem dX2_copyOf_108 : decode cX2_copyOf 108 = .ok (.pop, 1) := dk_87 (dk_at dksX2_copyOf_4 14 rfl rfl)
theorem dX2_copyOf_109 : decode cX2_copyOf 109 = .ok (.iinc 4 1, 3) := dk_132 4 1 (dk_at dksX2_copyOf_4 15 rfl rfl)
theorem dX2_copyOf_112 : decode cX2_copyOf 112 = .ok (.goto (-58), 3) := dk_167 255 198 (dk_at dksX2_copyOf_4 18 rfl rfl)
theorem dX2_copyOf_115 : decode cX2_copyOf 115 = .ok (.aload_n 1, 1) := dk_43 (dk_at dksX2_copyOf_4 21 rfl rfl)
theorem dX2_copyOf_116 : decode cX2_copyOf 116 = .ok (.getfield 109, 3) := dk_180 0 109 (dk_at dksX2_copyOf_5 0 rfl rfl)
theorem dX2_copyOf_119 : decode cX2_copyOf 119 = .ok (.aload_n 3, 1) := dk_45 (dk_at dksX2_copyOf_5 3 rfl rfl)
theorem dX2_copyOf_120 : decode cX2_copyOf 120 = .ok (.invokevirtual 116, 3) := dk_182 0 116 (dk_at dksX2_copyOf_5 4 rfl rfl)
theorem dX2_copyOf_123 : decode cX2_copyOf 123 = .ok (.pop, 1) := dk_87 (dk_at dksX2_copyOf_5 7 rfl rfl)
theorem dX2_copyOf_124 : decode cX2_copyOf 124 = .ok (.iinc 2 1, 3) := dk_132 2 1 (dk_at dksX2_copyOf_5 8 rfl rfl)
theorem dX2_copyOf_127 : decode cX2_copyOf 127 = .ok (.goto (-109), 3) := dk_167 255 147 (dk_at dksX2_copyOf_5 11 rfl rfl)
theorem dX2_copyOf_130 : decode cX2_copyOf 130 = .ok (.aload_n 1, 1) := dk_43 (dk_at dksX2_copyOf_5 14 rfl rfl)
theorem dX2_copyOf_131 : decode cX2_copyOf 131 = .ok (.areturn, 1) := dk_176 (dk_at dksX2_copyOf_5 15 rfl rfl)
abbrev cX2_drop : ByteArray := prog_12_method_17_code
def yX2_drop : MethodName := ⟨RX2, "drop", "(I)V"⟩
def dkwX2_drop_5 : List UInt8 := [162, 0, 21, 42, 180, 0, 30, 182, 0, 60, 5, 164, 0, 10, 42, 182, 0, 182, 167, 255, 230, 177]
abbrev dktX2_drop_5 : List UInt8 := dkwX2_drop_5 ++ []
def dkwX2_drop_4 : List UInt8 := [4, 100, 182, 0, 136, 87, 42, 89, 180, 0, 53, 4, 100, 181, 0, 53, 42, 182, 0, 154, 42, 180, 0, 9]
abbrev dktX2_drop_4 : List UInt8 := dkwX2_drop_4 ++ dktX2_drop_5
def dkwX2_drop_3 : List UInt8 := [182, 0, 60, 4, 164, 0, 26, 42, 25, 4, 182, 0, 139, 44, 180, 0, 109, 44, 180, 0, 109, 182, 0, 60]
abbrev dktX2_drop_3 : List UInt8 := dkwX2_drop_3 ++ dktX2_drop_4
def dkwX2_drop_2 : List UInt8 := [182, 0, 60, 4, 100, 182, 0, 136, 87, 25, 4, 180, 0, 91, 182, 0, 178, 153, 0, 37, 44, 180, 0, 109]
abbrev dktX2_drop_2 : List UInt8 := dkwX2_drop_2 ++ dktX2_drop_3
def dkwX2_drop_1 : List UInt8 := [184, 0, 96, 25, 4, 182, 0, 171, 182, 0, 174, 87, 25, 4, 180, 0, 91, 25, 4, 180, 0, 91]
abbrev dktX2_drop_1 : List UInt8 := dkwX2_drop_1 ++ dktX2_drop_2
def dkwX2_drop_0 : List UInt8 := [42, 27, 182, 0, 83, 77, 44, 27, 182, 0, 87, 78, 44, 182, 0, 123, 58, 4, 45, 180, 0, 91, 45, 27]
abbrev dktX2_drop_0 : List UInt8 := dkwX2_drop_0 ++ dktX2_drop_1
theorem dksX2_drop_0 : cX2_drop.data.toList.drop 0 = dktX2_drop_0 := by decide +kernel
theorem dksX2_drop_1 : cX2_drop.data.toList.drop 24 = dktX2_drop_1 := dk_seg dksX2_drop_0 24 rfl rfl
theorem dksX2_drop_2 : cX2_drop.data.toList.drop 46 = dktX2_drop_2 := dk_seg dksX2_drop_1 22 rfl rfl
theorem dksX2_drop_3 : cX2_drop.data.toList.drop 70 = dktX2_drop_3 := dk_seg dksX2_drop_2 24 rfl rfl
theorem dksX2_drop_4 : cX2_drop.data.toList.drop 94 = dktX2_drop_4 := dk_seg dksX2_drop_3 24 rfl rfl
theorem dksX2_drop_5 : cX2_drop.data.toList.drop 118 = dktX2_drop_5 := dk_seg dksX2_drop_4 24 rfl rfl
theorem dX2_drop_0 : decode cX2_drop 0 = .ok (.aload_n 0, 1) := dk_42 (dk_at dksX2_drop_0 0 rfl rfl)
theorem dX2_drop_1 : decode cX2_drop 1 = .ok (.iload_n 1, 1) := dk_27 (dk_at dksX2_drop_0 1 rfl rfl)
theorem dX2_drop_2 : decode cX2_drop 2 = .ok (.invokevirtual 83, 3) := dk_182 0 83 (dk_at dksX2_drop_0 2 rfl rfl)
theorem dX2_drop_5 : decode cX2_drop 5 = .ok (.astore_n 2, 1) := dk_77 (dk_at dksX2_drop_0 5 rfl rfl)
theorem dX2_drop_6 : decode cX2_drop 6 = .ok (.aload_n 2, 1) := dk_44 (dk_at dksX2_drop_0 6 rfl rfl)
theorem dX2_drop_7 : decode cX2_drop 7 = .ok (.iload_n 1, 1) := dk_27 (dk_at dksX2_drop_0 7 rfl rfl)
theorem dX2_drop_8 : decode cX2_drop 8 = .ok (.invokevirtual 87, 3) := dk_182 0 87 (dk_at dksX2_drop_0 8 rfl rfl)
theorem dX2_drop_11 : decode cX2_drop 11 = .ok (.astore_n 3, 1) := dk_78 (dk_at dksX2_drop_0 11 rfl rfl)
theorem dX2_drop_12 : decode cX2_drop 12 = .ok (.aload_n 2, 1) := dk_44 (dk_at dksX2_drop_0 12 rfl rfl)
theorem dX2_drop_13 : decode cX2_drop 13 = .ok (.invokevirtual 123, 3) := dk_182 0 123 (dk_at dksX2_drop_0 13 rfl rfl)
theorem dX2_drop_16 : decode cX2_drop 16 = .ok (.astore 4, 2) := dk_58 4 (dk_at dksX2_drop_0 16 rfl rfl)
theorem dX2_drop_18 : decode cX2_drop 18 = .ok (.aload_n 3, 1) := dk_45 (dk_at dksX2_drop_0 18 rfl rfl)
theorem dX2_drop_19 : decode cX2_drop 19 = .ok (.getfield 91, 3) := dk_180 0 91 (dk_at dksX2_drop_0 19 rfl rfl)
theorem dX2_drop_22 : decode cX2_drop 22 = .ok (.aload_n 3, 1) := dk_45 (dk_at dksX2_drop_0 22 rfl rfl)
theorem dX2_drop_23 : decode cX2_drop 23 = .ok (.iload_n 1, 1) := dk_27 (dk_at dksX2_drop_0 23 rfl rfl)
theorem dX2_drop_24 : decode cX2_drop 24 = .ok (.invokestatic 96, 3) := dk_184 0 96 (dk_at dksX2_drop_1 0 rfl rfl)
theorem dX2_drop_27 : decode cX2_drop 27 = .ok (.aload 4, 2) := dk_25 4 (dk_at dksX2_drop_1 3 rfl rfl)
theorem dX2_drop_29 : decode cX2_drop 29 = .ok (.invokevirtual 171, 3) := dk_182 0 171 (dk_at dksX2_drop_1 5 rfl rfl)
theorem dX2_drop_32 : decode cX2_drop 32 = .ok (.invokevirtual 174, 3) := dk_182 0 174 (dk_at dksX2_drop_1 8 rfl rfl)
theorem dX2_drop_35 : decode cX2_drop 35 = .ok (.pop, 1) := dk_87 (dk_at dksX2_drop_1 11 rfl rfl)
theorem dX2_drop_36 : decode cX2_drop 36 = .ok (.aload 4, 2) := dk_25 4 (dk_at dksX2_drop_1 12 rfl rfl)
theorem dX2_drop_38 : decode cX2_drop 38 = .ok (.getfield 91, 3) := dk_180 0 91 (dk_at dksX2_drop_1 14 rfl rfl)
theorem dX2_drop_41 : decode cX2_drop 41 = .ok (.aload 4, 2) := dk_25 4 (dk_at dksX2_drop_1 17 rfl rfl)
theorem dX2_drop_43 : decode cX2_drop 43 = .ok (.getfield 91, 3) := dk_180 0 91 (dk_at dksX2_drop_1 19 rfl rfl)
theorem dX2_drop_46 : decode cX2_drop 46 = .ok (.invokevirtual 60, 3) := dk_182 0 60 (dk_at dksX2_drop_2 0 rfl rfl)
theorem dX2_drop_49 : decode cX2_drop 49 = .ok (.iconst 1, 1) := dk_4 (dk_at dksX2_drop_2 3 rfl rfl)
theorem dX2_drop_50 : decode cX2_drop 50 = .ok (.isub, 1) := dk_100 (dk_at dksX2_drop_2 4 rfl rfl)
theorem dX2_drop_51 : decode cX2_drop 51 = .ok (.invokevirtual 136, 3) := dk_182 0 136 (dk_at dksX2_drop_2 5 rfl rfl)
theorem dX2_drop_54 : decode cX2_drop 54 = .ok (.pop, 1) := dk_87 (dk_at dksX2_drop_2 8 rfl rfl)
theorem dX2_drop_55 : decode cX2_drop 55 = .ok (.aload 4, 2) := dk_25 4 (dk_at dksX2_drop_2 9 rfl rfl)
theorem dX2_drop_57 : decode cX2_drop 57 = .ok (.getfield 91, 3) := dk_180 0 91 (dk_at dksX2_drop_2 11 rfl rfl)
theorem dX2_drop_60 : decode cX2_drop 60 = .ok (.invokevirtual 178, 3) := dk_182 0 178 (dk_at dksX2_drop_2 14 rfl rfl)
theorem dX2_drop_63 : decode cX2_drop 63 = .ok (.ifCond .eq 37, 3) := dk_153 0 37 (dk_at dksX2_drop_2 17 rfl rfl)
theorem dX2_drop_66 : decode cX2_drop 66 = .ok (.aload_n 2, 1) := dk_44 (dk_at dksX2_drop_2 20 rfl rfl)
theorem dX2_drop_67 : decode cX2_drop 67 = .ok (.getfield 109, 3) := dk_180 0 109 (dk_at dksX2_drop_2 21 rfl rfl)
theorem dX2_drop_70 : decode cX2_drop 70 = .ok (.invokevirtual 60, 3) := dk_182 0 60 (dk_at dksX2_drop_3 0 rfl rfl)
theorem dX2_drop_73 : decode cX2_drop 73 = .ok (.iconst 1, 1) := dk_4 (dk_at dksX2_drop_3 3 rfl rfl)
theorem dX2_drop_74 : decode cX2_drop 74 = .ok (.if_icmp .le 26, 3) := dk_164 0 26 (dk_at dksX2_drop_3 4 rfl rfl)
theorem dX2_drop_77 : decode cX2_drop 77 = .ok (.aload_n 0, 1) := dk_42 (dk_at dksX2_drop_3 7 rfl rfl)
theorem dX2_drop_78 : decode cX2_drop 78 = .ok (.aload 4, 2) := dk_25 4 (dk_at dksX2_drop_3 8 rfl rfl)
theorem dX2_drop_80 : decode cX2_drop 80 = .ok (.invokevirtual 139, 3) := dk_182 0 139 (dk_at dksX2_drop_3 10 rfl rfl)
theorem dX2_drop_83 : decode cX2_drop 83 = .ok (.aload_n 2, 1) := dk_44 (dk_at dksX2_drop_3 13 rfl rfl)
theorem dX2_drop_84 : decode cX2_drop 84 = .ok (.getfield 109, 3) := dk_180 0 109 (dk_at dksX2_drop_3 14 rfl rfl)
theorem dX2_drop_87 : decode cX2_drop 87 = .ok (.aload_n 2, 1) := dk_44 (dk_at dksX2_drop_3 17 rfl rfl)
theorem dX2_drop_88 : decode cX2_drop 88 = .ok (.getfield 109, 3) := dk_180 0 109 (dk_at dksX2_drop_3 18 rfl rfl)
theorem dX2_drop_91 : decode cX2_drop 91 = .ok (.invokevirtual 60, 3) := dk_182 0 60 (dk_at dksX2_drop_3 21 rfl rfl)
theorem dX2_drop_94 : decode cX2_drop 94 = .ok (.iconst 1, 1) := dk_4 (dk_at dksX2_drop_4 0 rfl rfl)
theorem dX2_drop_95 : decode cX2_drop 95 = .ok (.isub, 1) := dk_100 (dk_at dksX2_drop_4 1 rfl rfl)
theorem dX2_drop_96 : decode cX2_drop 96 = .ok (.invokevirtual 136, 3) := dk_182 0 136 (dk_at dksX2_drop_4 2 rfl rfl)
theorem dX2_drop_99 : decode cX2_drop 99 = .ok (.pop, 1) := dk_87 (dk_at dksX2_drop_4 5 rfl rfl)
theorem dX2_drop_100 : decode cX2_drop 100 = .ok (.aload_n 0, 1) := dk_42 (dk_at dksX2_drop_4 6 rfl rfl)
theorem dX2_drop_101 : decode cX2_drop 101 = .ok (.dup, 1) := dk_89 (dk_at dksX2_drop_4 7 rfl rfl)
theorem dX2_drop_102 : decode cX2_drop 102 = .ok (.getfield 53, 3) := dk_180 0 53 (dk_at dksX2_drop_4 8 rfl rfl)
theorem dX2_drop_105 : decode cX2_drop 105 = .ok (.iconst 1, 1) := dk_4 (dk_at dksX2_drop_4 11 rfl rfl)
theorem dX2_drop_106 : decode cX2_drop 106 = .ok (.isub, 1) := dk_100 (dk_at dksX2_drop_4 12 rfl rfl)
theorem dX2_drop_107 : decode cX2_drop 107 = .ok (.putfield 53, 3) := dk_181 0 53 (dk_at dksX2_drop_4 13 rfl rfl)
theorem dX2_drop_110 : decode cX2_drop 110 = .ok (.aload_n 0, 1) := dk_42 (dk_at dksX2_drop_4 16 rfl rfl)
theorem dX2_drop_111 : decode cX2_drop 111 = .ok (.invokevirtual 154, 3) := dk_182 0 154 (dk_at dksX2_drop_4 17 rfl rfl)
theorem dX2_drop_114 : decode cX2_drop 114 = .ok (.aload_n 0, 1) := dk_42 (dk_at dksX2_drop_4 20 rfl rfl)
theorem dX2_drop_115 : decode cX2_drop 115 = .ok (.getfield 9, 3) := dk_180 0 9 (dk_at dksX2_drop_4 21 rfl rfl)
theorem dX2_drop_118 : decode cX2_drop 118 = .ok (.if_icmp .ge 21, 3) := dk_162 0 21 (dk_at dksX2_drop_5 0 rfl rfl)
theorem dX2_drop_121 : decode cX2_drop 121 = .ok (.aload_n 0, 1) := dk_42 (dk_at dksX2_drop_5 3 rfl rfl)
theorem dX2_drop_122 : decode cX2_drop 122 = .ok (.getfield 30, 3) := dk_180 0 30 (dk_at dksX2_drop_5 4 rfl rfl)
theorem dX2_drop_125 : decode cX2_drop 125 = .ok (.invokevirtual 60, 3) := dk_182 0 60 (dk_at dksX2_drop_5 7 rfl rfl)
theorem dX2_drop_128 : decode cX2_drop 128 = .ok (.iconst 2, 1) := dk_5 (dk_at dksX2_drop_5 10 rfl rfl)
theorem dX2_drop_129 : decode cX2_drop 129 = .ok (.if_icmp .le 10, 3) := dk_164 0 10 (dk_at dksX2_drop_5 11 rfl rfl)
theorem dX2_drop_132 : decode cX2_drop 132 = .ok (.aload_n 0, 1) := dk_42 (dk_at dksX2_drop_5 14 rfl rfl)
theorem dX2_drop_133 : decode cX2_drop 133 = .ok (.invokevirtual 182, 3) := dk_182 0 182 (dk_at dksX2_drop_5 15 rfl rfl)
theorem dX2_drop_136 : decode cX2_drop 136 = .ok (.goto (-26), 3) := dk_167 255 230 (dk_at dksX2_drop_5 18 rfl rfl)
theorem dX2_drop_139 : decode cX2_drop 139 = .ok (.return_, 1) := dk_177 (dk_at dksX2_drop_5 21 rfl rfl)
abbrev cX2_bucketOf : ByteArray := prog_12_method_7_code
def yX2_bucketOf : MethodName := ⟨RX2, "bucketOf", "(I)LSplitpointer$Bucket;"⟩
def dkwX2_bucketOf_0 : List UInt8 := [42, 180, 0, 30, 42, 42, 180, 0, 23, 27, 182, 0, 70, 182, 0, 74, 182, 0, 77, 192, 0, 81, 176]
abbrev dktX2_bucketOf_0 : List UInt8 := dkwX2_bucketOf_0 ++ []
theorem dksX2_bucketOf_0 : cX2_bucketOf.data.toList.drop 0 = dktX2_bucketOf_0 := by decide +kernel
theorem dX2_bucketOf_0 : decode cX2_bucketOf 0 = .ok (.aload_n 0, 1) := dk_42 (dk_at dksX2_bucketOf_0 0 rfl rfl)
theorem dX2_bucketOf_1 : decode cX2_bucketOf 1 = .ok (.getfield 30, 3) := dk_180 0 30 (dk_at dksX2_bucketOf_0 1 rfl rfl)
theorem dX2_bucketOf_4 : decode cX2_bucketOf 4 = .ok (.aload_n 0, 1) := dk_42 (dk_at dksX2_bucketOf_0 4 rfl rfl)
theorem dX2_bucketOf_5 : decode cX2_bucketOf 5 = .ok (.aload_n 0, 1) := dk_42 (dk_at dksX2_bucketOf_0 5 rfl rfl)
theorem dX2_bucketOf_6 : decode cX2_bucketOf 6 = .ok (.getfield 23, 3) := dk_180 0 23 (dk_at dksX2_bucketOf_0 6 rfl rfl)
theorem dX2_bucketOf_9 : decode cX2_bucketOf 9 = .ok (.iload_n 1, 1) := dk_27 (dk_at dksX2_bucketOf_0 9 rfl rfl)
theorem dX2_bucketOf_10 : decode cX2_bucketOf 10 = .ok (.invokevirtual 70, 3) := dk_182 0 70 (dk_at dksX2_bucketOf_0 10 rfl rfl)
theorem dX2_bucketOf_13 : decode cX2_bucketOf 13 = .ok (.invokevirtual 74, 3) := dk_182 0 74 (dk_at dksX2_bucketOf_0 13 rfl rfl)
theorem dX2_bucketOf_16 : decode cX2_bucketOf 16 = .ok (.invokevirtual 77, 3) := dk_182 0 77 (dk_at dksX2_bucketOf_0 16 rfl rfl)
theorem dX2_bucketOf_19 : decode cX2_bucketOf 19 = .ok (.checkcast 81, 3) := dk_192 0 81 (dk_at dksX2_bucketOf_0 19 rfl rfl)
theorem dX2_bucketOf_22 : decode cX2_bucketOf 22 = .ok (.areturn, 1) := dk_176 (dk_at dksX2_bucketOf_0 22 rfl rfl)
abbrev cX2_address : ByteArray := prog_12_method_6_code
def yX2_address : MethodName := ⟨RX2, "address", "(I)I"⟩
def dkwX2_address_1 : List UInt8 := [167, 0, 4, 28, 172]
abbrev dktX2_address_1 : List UInt8 := dkwX2_address_1 ++ []
def dkwX2_address_0 : List UInt8 := [27, 42, 182, 0, 63, 112, 61, 28, 42, 180, 0, 50, 162, 0, 14, 27, 5, 42, 182, 0, 63, 104, 112]
abbrev dktX2_address_0 : List UInt8 := dkwX2_address_0 ++ dktX2_address_1
theorem dksX2_address_0 : cX2_address.data.toList.drop 0 = dktX2_address_0 := by decide +kernel
theorem dksX2_address_1 : cX2_address.data.toList.drop 23 = dktX2_address_1 := dk_seg dksX2_address_0 23 rfl rfl
theorem dX2_address_0 : decode cX2_address 0 = .ok (.iload_n 1, 1) := dk_27 (dk_at dksX2_address_0 0 rfl rfl)
theorem dX2_address_1 : decode cX2_address 1 = .ok (.aload_n 0, 1) := dk_42 (dk_at dksX2_address_0 1 rfl rfl)
theorem dX2_address_2 : decode cX2_address 2 = .ok (.invokevirtual 63, 3) := dk_182 0 63 (dk_at dksX2_address_0 2 rfl rfl)
theorem dX2_address_5 : decode cX2_address 5 = .ok (.irem, 1) := dk_112 (dk_at dksX2_address_0 5 rfl rfl)
theorem dX2_address_6 : decode cX2_address 6 = .ok (.istore_n 2, 1) := dk_61 (dk_at dksX2_address_0 6 rfl rfl)
theorem dX2_address_7 : decode cX2_address 7 = .ok (.iload_n 2, 1) := dk_28 (dk_at dksX2_address_0 7 rfl rfl)
theorem dX2_address_8 : decode cX2_address 8 = .ok (.aload_n 0, 1) := dk_42 (dk_at dksX2_address_0 8 rfl rfl)
theorem dX2_address_9 : decode cX2_address 9 = .ok (.getfield 50, 3) := dk_180 0 50 (dk_at dksX2_address_0 9 rfl rfl)
theorem dX2_address_12 : decode cX2_address 12 = .ok (.if_icmp .ge 14, 3) := dk_162 0 14 (dk_at dksX2_address_0 12 rfl rfl)
theorem dX2_address_15 : decode cX2_address 15 = .ok (.iload_n 1, 1) := dk_27 (dk_at dksX2_address_0 15 rfl rfl)
theorem dX2_address_16 : decode cX2_address 16 = .ok (.iconst 2, 1) := dk_5 (dk_at dksX2_address_0 16 rfl rfl)
theorem dX2_address_17 : decode cX2_address 17 = .ok (.aload_n 0, 1) := dk_42 (dk_at dksX2_address_0 17 rfl rfl)
theorem dX2_address_18 : decode cX2_address 18 = .ok (.invokevirtual 63, 3) := dk_182 0 63 (dk_at dksX2_address_0 18 rfl rfl)
theorem dX2_address_21 : decode cX2_address 21 = .ok (.imul, 1) := dk_104 (dk_at dksX2_address_0 21 rfl rfl)
theorem dX2_address_22 : decode cX2_address 22 = .ok (.irem, 1) := dk_112 (dk_at dksX2_address_0 22 rfl rfl)
theorem dX2_address_23 : decode cX2_address 23 = .ok (.goto 4, 3) := dk_167 0 4 (dk_at dksX2_address_1 0 rfl rfl)
theorem dX2_address_26 : decode cX2_address 26 = .ok (.iload_n 2, 1) := dk_28 (dk_at dksX2_address_1 3 rfl rfl)
theorem dX2_address_27 : decode cX2_address 27 = .ok (.ireturn, 1) := dk_172 (dk_at dksX2_address_1 4 rfl rfl)
abbrev cX2_base : ByteArray := prog_12_method_3_code
def yX2_base : MethodName := ⟨RX2, "base", "()I"⟩
def dkwX2_base_0 : List UInt8 := [5, 42, 180, 0, 47, 120, 172]
abbrev dktX2_base_0 : List UInt8 := dkwX2_base_0 ++ []
theorem dksX2_base_0 : cX2_base.data.toList.drop 0 = dktX2_base_0 := by decide +kernel
theorem dX2_base_0 : decode cX2_base 0 = .ok (.iconst 2, 1) := dk_5 (dk_at dksX2_base_0 0 rfl rfl)
theorem dX2_base_1 : decode cX2_base 1 = .ok (.aload_n 0, 1) := dk_42 (dk_at dksX2_base_0 1 rfl rfl)
theorem dX2_base_2 : decode cX2_base 2 = .ok (.getfield 47, 3) := dk_180 0 47 (dk_at dksX2_base_0 2 rfl rfl)
theorem dX2_base_5 : decode cX2_base 5 = .ok (.ishl, 1) := dk_120 (dk_at dksX2_base_0 5 rfl rfl)
theorem dX2_base_6 : decode cX2_base 6 = .ok (.ireturn, 1) := dk_172 (dk_at dksX2_base_0 6 rfl rfl)
abbrev cX2_free : ByteArray := prog_12_method_10_code
def yX2_free : MethodName := ⟨RX2, "free", "(LSplitpointer$Page;)V"⟩
def dkwX2_free_0 : List UInt8 := [42, 180, 0, 34, 43, 180, 0, 105, 3, 84, 177]
abbrev dktX2_free_0 : List UInt8 := dkwX2_free_0 ++ []
theorem dksX2_free_0 : cX2_free.data.toList.drop 0 = dktX2_free_0 := by decide +kernel
theorem dX2_free_0 : decode cX2_free 0 = .ok (.aload_n 0, 1) := dk_42 (dk_at dksX2_free_0 0 rfl rfl)
theorem dX2_free_1 : decode cX2_free 1 = .ok (.getfield 34, 3) := dk_180 0 34 (dk_at dksX2_free_0 1 rfl rfl)
theorem dX2_free_4 : decode cX2_free 4 = .ok (.aload_n 1, 1) := dk_43 (dk_at dksX2_free_0 4 rfl rfl)
theorem dX2_free_5 : decode cX2_free 5 = .ok (.getfield 105, 3) := dk_180 0 105 (dk_at dksX2_free_0 5 rfl rfl)
theorem dX2_free_8 : decode cX2_free 8 = .ok (.iconst 0, 1) := dk_3 (dk_at dksX2_free_0 8 rfl rfl)
theorem dX2_free_9 : decode cX2_free 9 = .ok (.bastore, 1) := dk_84 (dk_at dksX2_free_0 9 rfl rfl)
theorem dX2_free_10 : decode cX2_free 10 = .ok (.return_, 1) := dk_177 (dk_at dksX2_free_0 10 rfl rfl)
abbrev cX2_load : ByteArray := prog_12_method_4_code
def yX2_load : MethodName := ⟨RX2, "load", "()I"⟩
def dkwX2_load_0 : List UInt8 := [16, 100, 42, 180, 0, 53, 104, 42, 180, 0, 30, 182, 0, 60, 42, 180, 0, 38, 104, 108, 172]
abbrev dktX2_load_0 : List UInt8 := dkwX2_load_0 ++ []
theorem dksX2_load_0 : cX2_load.data.toList.drop 0 = dktX2_load_0 := by decide +kernel
theorem dX2_load_0 : decode cX2_load 0 = .ok (.bipush 100, 2) := dk_16 100 (dk_at dksX2_load_0 0 rfl rfl)
theorem dX2_load_2 : decode cX2_load 2 = .ok (.aload_n 0, 1) := dk_42 (dk_at dksX2_load_0 2 rfl rfl)
theorem dX2_load_3 : decode cX2_load 3 = .ok (.getfield 53, 3) := dk_180 0 53 (dk_at dksX2_load_0 3 rfl rfl)
theorem dX2_load_6 : decode cX2_load 6 = .ok (.imul, 1) := dk_104 (dk_at dksX2_load_0 6 rfl rfl)
theorem dX2_load_7 : decode cX2_load 7 = .ok (.aload_n 0, 1) := dk_42 (dk_at dksX2_load_0 7 rfl rfl)
theorem dX2_load_8 : decode cX2_load 8 = .ok (.getfield 30, 3) := dk_180 0 30 (dk_at dksX2_load_0 8 rfl rfl)
theorem dX2_load_11 : decode cX2_load 11 = .ok (.invokevirtual 60, 3) := dk_182 0 60 (dk_at dksX2_load_0 11 rfl rfl)
theorem dX2_load_14 : decode cX2_load 14 = .ok (.aload_n 0, 1) := dk_42 (dk_at dksX2_load_0 14 rfl rfl)
theorem dX2_load_15 : decode cX2_load 15 = .ok (.getfield 38, 3) := dk_180 0 38 (dk_at dksX2_load_0 15 rfl rfl)
theorem dX2_load_18 : decode cX2_load 18 = .ok (.imul, 1) := dk_104 (dk_at dksX2_load_0 18 rfl rfl)
theorem dX2_load_19 : decode cX2_load 19 = .ok (.idiv, 1) := dk_108 (dk_at dksX2_load_0 19 rfl rfl)
theorem dX2_load_20 : decode cX2_load 20 = .ok (.ireturn, 1) := dk_172 (dk_at dksX2_load_0 20 rfl rfl)
abbrev cX2_merge : ByteArray := prog_12_method_18_code
def yX2_merge : MethodName := ⟨RX2, "merge", "()V"⟩
def dkwX2_merge_7 : List UInt8 := [182, 0, 164, 42, 89, 180, 0, 185, 4, 96, 181, 0, 185, 177]
abbrev dktX2_merge_7 : List UInt8 := dkwX2_merge_7 ++ []
def dkwX2_merge_6 : List UInt8 := [192, 0, 100, 180, 0, 120, 182, 0, 70, 184, 0, 129, 128, 181, 0, 126, 132, 5, 1, 167, 255, 211, 42, 44]
abbrev dktX2_merge_6 : List UInt8 := dkwX2_merge_6 ++ dktX2_merge_7
def dkwX2_merge_5 : List UInt8 := [25, 4, 182, 0, 60, 162, 0, 41, 45, 89, 180, 0, 126, 42, 180, 0, 23, 25, 4, 21, 5, 182, 0, 77]
abbrev dktX2_merge_5 : List UInt8 := dkwX2_merge_5 ++ dktX2_merge_6
def dkwX2_merge_4 : List UInt8 := [182, 0, 77, 192, 0, 81, 78, 45, 3, 181, 0, 126, 45, 182, 0, 132, 58, 4, 3, 54, 5, 21, 5]
abbrev dktX2_merge_4 : List UInt8 := dkwX2_merge_4 ++ dktX2_merge_5
def dkwX2_merge_3 : List UInt8 := [180, 0, 30, 42, 180, 0, 30, 182, 0, 60, 4, 100, 182, 0, 136, 87, 42, 180, 0, 30, 42, 180, 0, 50]
abbrev dktX2_merge_3 : List UInt8 := dkwX2_merge_3 ++ dktX2_merge_4
def dkwX2_merge_2 : List UInt8 := [4, 100, 182, 0, 77, 192, 0, 81, 76, 42, 43, 182, 0, 160, 77, 42, 43, 182, 0, 123, 182, 0, 139, 42]
abbrev dktX2_merge_2 : List UInt8 := dkwX2_merge_2 ++ dktX2_merge_3
def dkwX2_merge_1 : List UInt8 := [181, 0, 50, 42, 89, 180, 0, 50, 4, 100, 181, 0, 50, 42, 180, 0, 30, 42, 180, 0, 30, 182, 0, 60]
abbrev dktX2_merge_1 : List UInt8 := dkwX2_merge_1 ++ dktX2_merge_2
def dkwX2_merge_0 : List UInt8 := [42, 180, 0, 50, 154, 0, 21, 42, 89, 180, 0, 47, 4, 100, 181, 0, 47, 42, 42, 182, 0, 63]
abbrev dktX2_merge_0 : List UInt8 := dkwX2_merge_0 ++ dktX2_merge_1
theorem dksX2_merge_0 : cX2_merge.data.toList.drop 0 = dktX2_merge_0 := by decide +kernel
theorem dksX2_merge_1 : cX2_merge.data.toList.drop 22 = dktX2_merge_1 := dk_seg dksX2_merge_0 22 rfl rfl
theorem dksX2_merge_2 : cX2_merge.data.toList.drop 46 = dktX2_merge_2 := dk_seg dksX2_merge_1 24 rfl rfl
theorem dksX2_merge_3 : cX2_merge.data.toList.drop 70 = dktX2_merge_3 := dk_seg dksX2_merge_2 24 rfl rfl
theorem dksX2_merge_4 : cX2_merge.data.toList.drop 94 = dktX2_merge_4 := dk_seg dksX2_merge_3 24 rfl rfl
theorem dksX2_merge_5 : cX2_merge.data.toList.drop 117 = dktX2_merge_5 := dk_seg dksX2_merge_4 23 rfl rfl
theorem dksX2_merge_6 : cX2_merge.data.toList.drop 141 = dktX2_merge_6 := dk_seg dksX2_merge_5 24 rfl rfl
theorem dksX2_merge_7 : cX2_merge.data.toList.drop 165 = dktX2_merge_7 := dk_seg dksX2_merge_6 24 rfl rfl
theorem dX2_merge_0 : decode cX2_merge 0 = .ok (.aload_n 0, 1) := dk_42 (dk_at dksX2_merge_0 0 rfl rfl)
theorem dX2_merge_1 : decode cX2_merge 1 = .ok (.getfield 50, 3) := dk_180 0 50 (dk_at dksX2_merge_0 1 rfl rfl)
theorem dX2_merge_4 : decode cX2_merge 4 = .ok (.ifCond .ne 21, 3) := dk_154 0 21 (dk_at dksX2_merge_0 4 rfl rfl)
theorem dX2_merge_7 : decode cX2_merge 7 = .ok (.aload_n 0, 1) := dk_42 (dk_at dksX2_merge_0 7 rfl rfl)
theorem dX2_merge_8 : decode cX2_merge 8 = .ok (.dup, 1) := dk_89 (dk_at dksX2_merge_0 8 rfl rfl)
theorem dX2_merge_9 : decode cX2_merge 9 = .ok (.getfield 47, 3) := dk_180 0 47 (dk_at dksX2_merge_0 9 rfl rfl)
theorem dX2_merge_12 : decode cX2_merge 12 = .ok (.iconst 1, 1) := dk_4 (dk_at dksX2_merge_0 12 rfl rfl)
theorem dX2_merge_13 : decode cX2_merge 13 = .ok (.isub, 1) := dk_100 (dk_at dksX2_merge_0 13 rfl rfl)
theorem dX2_merge_14 : decode cX2_merge 14 = .ok (.putfield 47, 3) := dk_181 0 47 (dk_at dksX2_merge_0 14 rfl rfl)
theorem dX2_merge_17 : decode cX2_merge 17 = .ok (.aload_n 0, 1) := dk_42 (dk_at dksX2_merge_0 17 rfl rfl)
theorem dX2_merge_18 : decode cX2_merge 18 = .ok (.aload_n 0, 1) := dk_42 (dk_at dksX2_merge_0 18 rfl rfl)
theorem dX2_merge_19 : decode cX2_merge 19 = .ok (.invokevirtual 63, 3) := dk_182 0 63 (dk_at dksX2_merge_0 19 rfl rfl)
theorem dX2_merge_22 : decode cX2_merge 22 = .ok (.putfield 50, 3) := dk_181 0 50 (dk_at dksX2_merge_1 0 rfl rfl)
theorem dX2_merge_25 : decode cX2_merge 25 = .ok (.aload_n 0, 1) := dk_42 (dk_at dksX2_merge_1 3 rfl rfl)
theorem dX2_merge_26 : decode cX2_merge 26 = .ok (.dup, 1) := dk_89 (dk_at dksX2_merge_1 4 rfl rfl)
theorem dX2_merge_27 : decode cX2_merge 27 = .ok (.getfield 50, 3) := dk_180 0 50 (dk_at dksX2_merge_1 5 rfl rfl)
theorem dX2_merge_30 : decode cX2_merge 30 = .ok (.iconst 1, 1) := dk_4 (dk_at dksX2_merge_1 8 rfl rfl)
theorem dX2_merge_31 : decode cX2_merge 31 = .ok (.isub, 1) := dk_100 (dk_at dksX2_merge_1 9 rfl rfl)
theorem dX2_merge_32 : decode cX2_merge 32 = .ok (.putfield 50, 3) := dk_181 0 50 (dk_at dksX2_merge_1 10 rfl rfl)
theorem dX2_merge_35 : decode cX2_merge 35 = .ok (.aload_n 0, 1) := dk_42 (dk_at dksX2_merge_1 13 rfl rfl)
theorem dX2_merge_36 : decode cX2_merge 36 = .ok (.getfield 30, 3) := dk_180 0 30 (dk_at dksX2_merge_1 14 rfl rfl)
theorem dX2_merge_39 : decode cX2_merge 39 = .ok (.aload_n 0, 1) := dk_42 (dk_at dksX2_merge_1 17 rfl rfl)
theorem dX2_merge_40 : decode cX2_merge 40 = .ok (.getfield 30, 3) := dk_180 0 30 (dk_at dksX2_merge_1 18 rfl rfl)
theorem dX2_merge_43 : decode cX2_merge 43 = .ok (.invokevirtual 60, 3) := dk_182 0 60 (dk_at dksX2_merge_1 21 rfl rfl)
theorem dX2_merge_46 : decode cX2_merge 46 = .ok (.iconst 1, 1) := dk_4 (dk_at dksX2_merge_2 0 rfl rfl)
theorem dX2_merge_47 : decode cX2_merge 47 = .ok (.isub, 1) := dk_100 (dk_at dksX2_merge_2 1 rfl rfl)
theorem dX2_merge_48 : decode cX2_merge 48 = .ok (.invokevirtual 77, 3) := dk_182 0 77 (dk_at dksX2_merge_2 2 rfl rfl)
theorem dX2_merge_51 : decode cX2_merge 51 = .ok (.checkcast 81, 3) := dk_192 0 81 (dk_at dksX2_merge_2 5 rfl rfl)
theorem dX2_merge_54 : decode cX2_merge 54 = .ok (.astore_n 1, 1) := dk_76 (dk_at dksX2_merge_2 8 rfl rfl)
theorem dX2_merge_55 : decode cX2_merge 55 = .ok (.aload_n 0, 1) := dk_42 (dk_at dksX2_merge_2 9 rfl rfl)
theorem dX2_merge_56 : decode cX2_merge 56 = .ok (.aload_n 1, 1) := dk_43 (dk_at dksX2_merge_2 10 rfl rfl)
theorem dX2_merge_57 : decode cX2_merge 57 = .ok (.invokevirtual 160, 3) := dk_182 0 160 (dk_at dksX2_merge_2 11 rfl rfl)
theorem dX2_merge_60 : decode cX2_merge 60 = .ok (.astore_n 2, 1) := dk_77 (dk_at dksX2_merge_2 14 rfl rfl)
theorem dX2_merge_61 : decode cX2_merge 61 = .ok (.aload_n 0, 1) := dk_42 (dk_at dksX2_merge_2 15 rfl rfl)
theorem dX2_merge_62 : decode cX2_merge 62 = .ok (.aload_n 1, 1) := dk_43 (dk_at dksX2_merge_2 16 rfl rfl)
theorem dX2_merge_63 : decode cX2_merge 63 = .ok (.invokevirtual 123, 3) := dk_182 0 123 (dk_at dksX2_merge_2 17 rfl rfl)
theorem dX2_merge_66 : decode cX2_merge 66 = .ok (.invokevirtual 139, 3) := dk_182 0 139 (dk_at dksX2_merge_2 20 rfl rfl)
theorem dX2_merge_69 : decode cX2_merge 69 = .ok (.aload_n 0, 1) := dk_42 (dk_at dksX2_merge_2 23 rfl rfl)
theorem dX2_merge_70 : decode cX2_merge 70 = .ok (.getfield 30, 3) := dk_180 0 30 (dk_at dksX2_merge_3 0 rfl rfl)
theorem dX2_merge_73 : decode cX2_merge 73 = .ok (.aload_n 0, 1) := dk_42 (dk_at dksX2_merge_3 3 rfl rfl)
theorem dX2_merge_74 : decode cX2_merge 74 = .ok (.getfield 30, 3) := dk_180 0 30 (dk_at dksX2_merge_3 4 rfl rfl)
theorem dX2_merge_77 : decode cX2_merge 77 = .ok (.invokevirtual 60, 3) := dk_182 0 60 (dk_at dksX2_merge_3 7 rfl rfl)
theorem dX2_merge_80 : decode cX2_merge 80 = .ok (.iconst 1, 1) := dk_4 (dk_at dksX2_merge_3 10 rfl rfl)
theorem dX2_merge_81 : decode cX2_merge 81 = .ok (.isub, 1) := dk_100 (dk_at dksX2_merge_3 11 rfl rfl)
theorem dX2_merge_82 : decode cX2_merge 82 = .ok (.invokevirtual 136, 3) := dk_182 0 136 (dk_at dksX2_merge_3 12 rfl rfl)
theorem dX2_merge_85 : decode cX2_merge 85 = .ok (.pop, 1) := dk_87 (dk_at dksX2_merge_3 15 rfl rfl)
theorem dX2_merge_86 : decode cX2_merge 86 = .ok (.aload_n 0, 1) := dk_42 (dk_at dksX2_merge_3 16 rfl rfl)
theorem dX2_merge_87 : decode cX2_merge 87 = .ok (.getfield 30, 3) := dk_180 0 30 (dk_at dksX2_merge_3 17 rfl rfl)
theorem dX2_merge_90 : decode cX2_merge 90 = .ok (.aload_n 0, 1) := dk_42 (dk_at dksX2_merge_3 20 rfl rfl)
theorem dX2_merge_91 : decode cX2_merge 91 = .ok (.getfield 50, 3) := dk_180 0 50 (dk_at dksX2_merge_3 21 rfl rfl)
theorem dX2_merge_94 : decode cX2_merge 94 = .ok (.invokevirtual 77, 3) := dk_182 0 77 (dk_at dksX2_merge_4 0 rfl rfl)
theorem dX2_merge_97 : decode cX2_merge 97 = .ok (.checkcast 81, 3) := dk_192 0 81 (dk_at dksX2_merge_4 3 rfl rfl)
theorem dX2_merge_100 : decode cX2_merge 100 = .ok (.astore_n 3, 1) := dk_78 (dk_at dksX2_merge_4 6 rfl rfl)
theorem dX2_merge_101 : decode cX2_merge 101 = .ok (.aload_n 3, 1) := dk_45 (dk_at dksX2_merge_4 7 rfl rfl)
theorem dX2_merge_102 : decode cX2_merge 102 = .ok (.iconst 0, 1) := dk_3 (dk_at dksX2_merge_4 8 rfl rfl)
theorem dX2_merge_103 : decode cX2_merge 103 = .ok (.putfield 126, 3) := dk_181 0 126 (dk_at dksX2_merge_4 9 rfl rfl)
theorem dX2_merge_106 : decode cX2_merge 106 = .ok (.aload_n 3, 1) := dk_45 (dk_at dksX2_merge_4 12 rfl rfl)
theorem dX2_merge_107 : decode cX2_merge 107 = .ok (.invokevirtual 132, 3) := dk_182 0 132 (dk_at dksX2_merge_4 13 rfl rfl)
theorem dX2_merge_110 : decode cX2_merge 110 = .ok (.astore 4, 2) := dk_58 4 (dk_at dksX2_merge_4 16 rfl rfl)
theorem dX2_merge_112 : decode cX2_merge 112 = .ok (.iconst 0, 1) := dk_3 (dk_at dksX2_merge_4 18 rfl rfl)
theorem dX2_merge_113 : decode cX2_merge 113 = .ok (.istore 5, 2) := dk_54 5 (dk_at dksX2_merge_4 19 rfl rfl)
theorem dX2_merge_115 : decode cX2_merge 115 = .ok (.iload 5, 2) := dk_21 5 (dk_at dksX2_merge_4 21 rfl rfl)
theorem dX2_merge_117 : decode cX2_merge 117 = .ok (.aload 4, 2) := dk_25 4 (dk_at dksX2_merge_5 0 rfl rfl)
theorem dX2_merge_119 : decode cX2_merge 119 = .ok (.invokevirtual 60, 3) := dk_182 0 60 (dk_at dksX2_merge_5 2 rfl rfl)
theorem dX2_merge_122 : decode cX2_merge 122 = .ok (.if_icmp .ge 41, 3) := dk_162 0 41 (dk_at dksX2_merge_5 5 rfl rfl)
theorem dX2_merge_125 : decode cX2_merge 125 = .ok (.aload_n 3, 1) := dk_45 (dk_at dksX2_merge_5 8 rfl rfl)
theorem dX2_merge_126 : decode cX2_merge 126 = .ok (.dup, 1) := dk_89 (dk_at dksX2_merge_5 9 rfl rfl)
theorem dX2_merge_127 : decode cX2_merge 127 = .ok (.getfield 126, 3) := dk_180 0 126 (dk_at dksX2_merge_5 10 rfl rfl)
theorem dX2_merge_130 : decode cX2_merge 130 = .ok (.aload_n 0, 1) := dk_42 (dk_at dksX2_merge_5 13 rfl rfl)
theorem dX2_merge_131 : decode cX2_merge 131 = .ok (.getfield 23, 3) := dk_180 0 23 (dk_at dksX2_merge_5 14 rfl rfl)
theorem dX2_merge_134 : decode cX2_merge 134 = .ok (.aload 4, 2) := dk_25 4 (dk_at dksX2_merge_5 17 rfl rfl)
theorem dX2_merge_136 : decode cX2_merge 136 = .ok (.iload 5, 2) := dk_21 5 (dk_at dksX2_merge_5 19 rfl rfl)
theorem dX2_merge_138 : decode cX2_merge 138 = .ok (.invokevirtual 77, 3) := dk_182 0 77 (dk_at dksX2_merge_5 21 rfl rfl)
theorem dX2_merge_141 : decode cX2_merge 141 = .ok (.checkcast 100, 3) := dk_192 0 100 (dk_at dksX2_merge_6 0 rfl rfl)
theorem dX2_merge_144 : decode cX2_merge 144 = .ok (.getfield 120, 3) := dk_180 0 120 (dk_at dksX2_merge_6 3 rfl rfl)
theorem dX2_merge_147 : decode cX2_merge 147 = .ok (.invokevirtual 70, 3) := dk_182 0 70 (dk_at dksX2_merge_6 6 rfl rfl)
theorem dX2_merge_150 : decode cX2_merge 150 = .ok (.invokestatic 129, 3) := dk_184 0 129 (dk_at dksX2_merge_6 9 rfl rfl)
theorem dX2_merge_153 : decode cX2_merge 153 = .ok (.ior, 1) := dk_128 (dk_at dksX2_merge_6 12 rfl rfl)
theorem dX2_merge_154 : decode cX2_merge 154 = .ok (.putfield 126, 3) := dk_181 0 126 (dk_at dksX2_merge_6 13 rfl rfl)
theorem dX2_merge_157 : decode cX2_merge 157 = .ok (.iinc 5 1, 3) := dk_132 5 1 (dk_at dksX2_merge_6 16 rfl rfl)
theorem dX2_merge_160 : decode cX2_merge 160 = .ok (.goto (-45), 3) := dk_167 255 211 (dk_at dksX2_merge_6 19 rfl rfl)
theorem dX2_merge_163 : decode cX2_merge 163 = .ok (.aload_n 0, 1) := dk_42 (dk_at dksX2_merge_6 22 rfl rfl)
theorem dX2_merge_164 : decode cX2_merge 164 = .ok (.aload_n 2, 1) := dk_44 (dk_at dksX2_merge_6 23 rfl rfl)
theorem dX2_merge_165 : decode cX2_merge 165 = .ok (.invokevirtual 164, 3) := dk_182 0 164 (dk_at dksX2_merge_7 0 rfl rfl)
theorem dX2_merge_168 : decode cX2_merge 168 = .ok (.aload_n 0, 1) := dk_42 (dk_at dksX2_merge_7 3 rfl rfl)
theorem dX2_merge_169 : decode cX2_merge 169 = .ok (.dup, 1) := dk_89 (dk_at dksX2_merge_7 4 rfl rfl)
theorem dX2_merge_170 : decode cX2_merge 170 = .ok (.getfield 185, 3) := dk_180 0 185 (dk_at dksX2_merge_7 5 rfl rfl)
theorem dX2_merge_173 : decode cX2_merge 173 = .ok (.iconst 1, 1) := dk_4 (dk_at dksX2_merge_7 8 rfl rfl)
theorem dX2_merge_174 : decode cX2_merge 174 = .ok (.iadd, 1) := dk_96 (dk_at dksX2_merge_7 9 rfl rfl)
theorem dX2_merge_175 : decode cX2_merge 175 = .ok (.putfield 185, 3) := dk_181 0 185 (dk_at dksX2_merge_7 10 rfl rfl)
theorem dX2_merge_178 : decode cX2_merge 178 = .ok (.return_, 1) := dk_177 (dk_at dksX2_merge_7 13 rfl rfl)
abbrev cX2_emptied : ByteArray := prog_12_method_13_code
def yX2_emptied : MethodName := ⟨RX2, "emptied", "(LSplitpointer$Bucket;)Ljava/util/ArrayList;"⟩
def dkwX2_emptied_2 : List UInt8 := [180, 0, 91, 182, 0, 44, 43, 3, 181, 0, 126, 44, 176]
abbrev dktX2_emptied_2 : List UInt8 := dkwX2_emptied_2 ++ []
def dkwX2_emptied_1 : List UInt8 := [180, 0, 109, 182, 0, 60, 4, 100, 182, 0, 136, 192, 0, 92, 182, 0, 139, 167, 255, 222, 43, 182, 0, 123]
abbrev dktX2_emptied_1 : List UInt8 := dkwX2_emptied_1 ++ dktX2_emptied_2
def dkwX2_emptied_0 : List UInt8 := [43, 182, 0, 132, 77, 43, 180, 0, 109, 182, 0, 60, 4, 164, 0, 29, 42, 43, 180, 0, 109, 43]
abbrev dktX2_emptied_0 : List UInt8 := dkwX2_emptied_0 ++ dktX2_emptied_1
theorem dksX2_emptied_0 : cX2_emptied.data.toList.drop 0 = dktX2_emptied_0 := by decide +kernel
theorem dksX2_emptied_1 : cX2_emptied.data.toList.drop 22 = dktX2_emptied_1 := dk_seg dksX2_emptied_0 22 rfl rfl
theorem dksX2_emptied_2 : cX2_emptied.data.toList.drop 46 = dktX2_emptied_2 := dk_seg dksX2_emptied_1 24 rfl rfl
theorem dX2_emptied_0 : decode cX2_emptied 0 = .ok (.aload_n 1, 1) := dk_43 (dk_at dksX2_emptied_0 0 rfl rfl)
theorem dX2_emptied_1 : decode cX2_emptied 1 = .ok (.invokevirtual 132, 3) := dk_182 0 132 (dk_at dksX2_emptied_0 1 rfl rfl)
theorem dX2_emptied_4 : decode cX2_emptied 4 = .ok (.astore_n 2, 1) := dk_77 (dk_at dksX2_emptied_0 4 rfl rfl)
theorem dX2_emptied_5 : decode cX2_emptied 5 = .ok (.aload_n 1, 1) := dk_43 (dk_at dksX2_emptied_0 5 rfl rfl)
theorem dX2_emptied_6 : decode cX2_emptied 6 = .ok (.getfield 109, 3) := dk_180 0 109 (dk_at dksX2_emptied_0 6 rfl rfl)
theorem dX2_emptied_9 : decode cX2_emptied 9 = .ok (.invokevirtual 60, 3) := dk_182 0 60 (dk_at dksX2_emptied_0 9 rfl rfl)
theorem dX2_emptied_12 : decode cX2_emptied 12 = .ok (.iconst 1, 1) := dk_4 (dk_at dksX2_emptied_0 12 rfl rfl)
theorem dX2_emptied_13 : decode cX2_emptied 13 = .ok (.if_icmp .le 29, 3) := dk_164 0 29 (dk_at dksX2_emptied_0 13 rfl rfl)
theorem dX2_emptied_16 : decode cX2_emptied 16 = .ok (.aload_n 0, 1) := dk_42 (dk_at dksX2_emptied_0 16 rfl rfl)
theorem dX2_emptied_17 : decode cX2_emptied 17 = .ok (.aload_n 1, 1) := dk_43 (dk_at dksX2_emptied_0 17 rfl rfl)
theorem dX2_emptied_18 : decode cX2_emptied 18 = .ok (.getfield 109, 3) := dk_180 0 109 (dk_at dksX2_emptied_0 18 rfl rfl)
theorem dX2_emptied_21 : decode cX2_emptied 21 = .ok (.aload_n 1, 1) := dk_43 (dk_at dksX2_emptied_0 21 rfl rfl)
theorem dX2_emptied_22 : decode cX2_emptied 22 = .ok (.getfield 109, 3) := dk_180 0 109 (dk_at dksX2_emptied_1 0 rfl rfl)
theorem dX2_emptied_25 : decode cX2_emptied 25 = .ok (.invokevirtual 60, 3) := dk_182 0 60 (dk_at dksX2_emptied_1 3 rfl rfl)
theorem dX2_emptied_28 : decode cX2_emptied 28 = .ok (.iconst 1, 1) := dk_4 (dk_at dksX2_emptied_1 6 rfl rfl)
theorem dX2_emptied_29 : decode cX2_emptied 29 = .ok (.isub, 1) := dk_100 (dk_at dksX2_emptied_1 7 rfl rfl)
theorem dX2_emptied_30 : decode cX2_emptied 30 = .ok (.invokevirtual 136, 3) := dk_182 0 136 (dk_at dksX2_emptied_1 8 rfl rfl)
theorem dX2_emptied_33 : decode cX2_emptied 33 = .ok (.checkcast 92, 3) := dk_192 0 92 (dk_at dksX2_emptied_1 11 rfl rfl)
theorem dX2_emptied_36 : decode cX2_emptied 36 = .ok (.invokevirtual 139, 3) := dk_182 0 139 (dk_at dksX2_emptied_1 14 rfl rfl)
theorem dX2_emptied_39 : decode cX2_emptied 39 = .ok (.goto (-34), 3) := dk_167 255 222 (dk_at dksX2_emptied_1 17 rfl rfl)
theorem dX2_emptied_42 : decode cX2_emptied 42 = .ok (.aload_n 1, 1) := dk_43 (dk_at dksX2_emptied_1 20 rfl rfl)
theorem dX2_emptied_43 : decode cX2_emptied 43 = .ok (.invokevirtual 123, 3) := dk_182 0 123 (dk_at dksX2_emptied_1 21 rfl rfl)
theorem dX2_emptied_46 : decode cX2_emptied 46 = .ok (.getfield 91, 3) := dk_180 0 91 (dk_at dksX2_emptied_2 0 rfl rfl)
theorem dX2_emptied_49 : decode cX2_emptied 49 = .ok (.invokevirtual 44, 3) := dk_182 0 44 (dk_at dksX2_emptied_2 3 rfl rfl)
theorem dX2_emptied_52 : decode cX2_emptied 52 = .ok (.aload_n 1, 1) := dk_43 (dk_at dksX2_emptied_2 6 rfl rfl)
theorem dX2_emptied_53 : decode cX2_emptied 53 = .ok (.iconst 0, 1) := dk_3 (dk_at dksX2_emptied_2 7 rfl rfl)
theorem dX2_emptied_54 : decode cX2_emptied 54 = .ok (.putfield 126, 3) := dk_181 0 126 (dk_at dksX2_emptied_2 8 rfl rfl)
theorem dX2_emptied_57 : decode cX2_emptied 57 = .ok (.aload_n 2, 1) := dk_44 (dk_at dksX2_emptied_2 11 rfl rfl)
theorem dX2_emptied_58 : decode cX2_emptied 58 = .ok (.areturn, 1) := dk_176 (dk_at dksX2_emptied_2 12 rfl rfl)
abbrev cX2_appendAll : ByteArray := prog_12_method_14_code
def yX2_appendAll : MethodName := ⟨RX2, "appendAll", "(Ljava/util/ArrayList;)V"⟩
def dkwX2_appendAll_1 : List UInt8 := [132, 2, 1, 167, 255, 233, 177]
abbrev dktX2_appendAll_1 : List UInt8 := dkwX2_appendAll_1 ++ []
def dkwX2_appendAll_0 : List UInt8 := [3, 61, 28, 43, 182, 0, 60, 162, 0, 21, 42, 43, 28, 182, 0, 77, 192, 0, 100, 182, 0, 143]
abbrev dktX2_appendAll_0 : List UInt8 := dkwX2_appendAll_0 ++ dktX2_appendAll_1
theorem dksX2_appendAll_0 : cX2_appendAll.data.toList.drop 0 = dktX2_appendAll_0 := by decide +kernel
theorem dksX2_appendAll_1 : cX2_appendAll.data.toList.drop 22 = dktX2_appendAll_1 := dk_seg dksX2_appendAll_0 22 rfl rfl
theorem dX2_appendAll_0 : decode cX2_appendAll 0 = .ok (.iconst 0, 1) := dk_3 (dk_at dksX2_appendAll_0 0 rfl rfl)
theorem dX2_appendAll_1 : decode cX2_appendAll 1 = .ok (.istore_n 2, 1) := dk_61 (dk_at dksX2_appendAll_0 1 rfl rfl)
theorem dX2_appendAll_2 : decode cX2_appendAll 2 = .ok (.iload_n 2, 1) := dk_28 (dk_at dksX2_appendAll_0 2 rfl rfl)
theorem dX2_appendAll_3 : decode cX2_appendAll 3 = .ok (.aload_n 1, 1) := dk_43 (dk_at dksX2_appendAll_0 3 rfl rfl)
theorem dX2_appendAll_4 : decode cX2_appendAll 4 = .ok (.invokevirtual 60, 3) := dk_182 0 60 (dk_at dksX2_appendAll_0 4 rfl rfl)
theorem dX2_appendAll_7 : decode cX2_appendAll 7 = .ok (.if_icmp .ge 21, 3) := dk_162 0 21 (dk_at dksX2_appendAll_0 7 rfl rfl)
theorem dX2_appendAll_10 : decode cX2_appendAll 10 = .ok (.aload_n 0, 1) := dk_42 (dk_at dksX2_appendAll_0 10 rfl rfl)
theorem dX2_appendAll_11 : decode cX2_appendAll 11 = .ok (.aload_n 1, 1) := dk_43 (dk_at dksX2_appendAll_0 11 rfl rfl)
theorem dX2_appendAll_12 : decode cX2_appendAll 12 = .ok (.iload_n 2, 1) := dk_28 (dk_at dksX2_appendAll_0 12 rfl rfl)
theorem dX2_appendAll_13 : decode cX2_appendAll 13 = .ok (.invokevirtual 77, 3) := dk_182 0 77 (dk_at dksX2_appendAll_0 13 rfl rfl)
theorem dX2_appendAll_16 : decode cX2_appendAll 16 = .ok (.checkcast 100, 3) := dk_192 0 100 (dk_at dksX2_appendAll_0 16 rfl rfl)
theorem dX2_appendAll_19 : decode cX2_appendAll 19 = .ok (.invokevirtual 143, 3) := dk_182 0 143 (dk_at dksX2_appendAll_0 19 rfl rfl)
theorem dX2_appendAll_22 : decode cX2_appendAll 22 = .ok (.iinc 2 1, 3) := dk_132 2 1 (dk_at dksX2_appendAll_1 0 rfl rfl)
theorem dX2_appendAll_25 : decode cX2_appendAll 25 = .ok (.goto (-23), 3) := dk_167 255 233 (dk_at dksX2_appendAll_1 3 rfl rfl)
theorem dX2_appendAll_28 : decode cX2_appendAll 28 = .ok (.return_, 1) := dk_177 (dk_at dksX2_appendAll_1 6 rfl rfl)
abbrev cX2_append : ByteArray := prog_12_method_12_code
def yX2_append : MethodName := ⟨RX2, "append", "(LSplitpointer$Entry;)V"⟩
def dkwX2_append_3 : List UInt8 := [89, 180, 0, 126, 28, 184, 0, 129, 128, 181, 0, 126, 177]
abbrev dktX2_append_3 : List UInt8 := dkwX2_append_3 ++ []
def dkwX2_append_2 : List UInt8 := [180, 0, 109, 42, 182, 0, 112, 182, 0, 116, 87, 45, 182, 0, 123, 180, 0, 91, 43, 182, 0, 116, 87, 45]
abbrev dktX2_append_2 : List UInt8 := dkwX2_append_2 ++ dktX2_append_3
def dkwX2_append_1 : List UInt8 := [192, 0, 81, 78, 45, 182, 0, 123, 180, 0, 91, 182, 0, 60, 42, 180, 0, 38, 160, 0, 15, 45]
abbrev dktX2_append_1 : List UInt8 := dkwX2_append_1 ++ dktX2_append_2
def dkwX2_append_0 : List UInt8 := [42, 180, 0, 23, 43, 180, 0, 120, 182, 0, 70, 61, 42, 180, 0, 30, 42, 28, 182, 0, 74, 182, 0, 77]
abbrev dktX2_append_0 : List UInt8 := dkwX2_append_0 ++ dktX2_append_1
theorem dksX2_append_0 : cX2_append.data.toList.drop 0 = dktX2_append_0 := by decide +kernel
theorem dksX2_append_1 : cX2_append.data.toList.drop 24 = dktX2_append_1 := dk_seg dksX2_append_0 24 rfl rfl
theorem dksX2_append_2 : cX2_append.data.toList.drop 46 = dktX2_append_2 := dk_seg dksX2_append_1 22 rfl rfl
theorem dksX2_append_3 : cX2_append.data.toList.drop 70 = dktX2_append_3 := dk_seg dksX2_append_2 24 rfl rfl
theorem dX2_append_0 : decode cX2_append 0 = .ok (.aload_n 0, 1) := dk_42 (dk_at dksX2_append_0 0 rfl rfl)
theorem dX2_append_1 : decode cX2_append 1 = .ok (.getfield 23, 3) := dk_180 0 23 (dk_at dksX2_append_0 1 rfl rfl)
theorem dX2_append_4 : decode cX2_append 4 = .ok (.aload_n 1, 1) := dk_43 (dk_at dksX2_append_0 4 rfl rfl)
theorem dX2_append_5 : decode cX2_append 5 = .ok (.getfield 120, 3) := dk_180 0 120 (dk_at dksX2_append_0 5 rfl rfl)
theorem dX2_append_8 : decode cX2_append 8 = .ok (.invokevirtual 70, 3) := dk_182 0 70 (dk_at dksX2_append_0 8 rfl rfl)
theorem dX2_append_11 : decode cX2_append 11 = .ok (.istore_n 2, 1) := dk_61 (dk_at dksX2_append_0 11 rfl rfl)
theorem dX2_append_12 : decode cX2_append 12 = .ok (.aload_n 0, 1) := dk_42 (dk_at dksX2_append_0 12 rfl rfl)
theorem dX2_append_13 : decode cX2_append 13 = .ok (.getfield 30, 3) := dk_180 0 30 (dk_at dksX2_append_0 13 rfl rfl)
theorem dX2_append_16 : decode cX2_append 16 = .ok (.aload_n 0, 1) := dk_42 (dk_at dksX2_append_0 16 rfl rfl)
theorem dX2_append_17 : decode cX2_append 17 = .ok (.iload_n 2, 1) := dk_28 (dk_at dksX2_append_0 17 rfl rfl)
theorem dX2_append_18 : decode cX2_append 18 = .ok (.invokevirtual 74, 3) := dk_182 0 74 (dk_at dksX2_append_0 18 rfl rfl)
theorem dX2_append_21 : decode cX2_append 21 = .ok (.invokevirtual 77, 3) := dk_182 0 77 (dk_at dksX2_append_0 21 rfl rfl)
theorem dX2_append_24 : decode cX2_append 24 = .ok (.checkcast 81, 3) := dk_192 0 81 (dk_at dksX2_append_1 0 rfl rfl)
theorem dX2_append_27 : decode cX2_append 27 = .ok (.astore_n 3, 1) := dk_78 (dk_at dksX2_append_1 3 rfl rfl)
theorem dX2_append_28 : decode cX2_append 28 = .ok (.aload_n 3, 1) := dk_45 (dk_at dksX2_append_1 4 rfl rfl)
theorem dX2_append_29 : decode cX2_append 29 = .ok (.invokevirtual 123, 3) := dk_182 0 123 (dk_at dksX2_append_1 5 rfl rfl)
theorem dX2_append_32 : decode cX2_append 32 = .ok (.getfield 91, 3) := dk_180 0 91 (dk_at dksX2_append_1 8 rfl rfl)
theorem dX2_append_35 : decode cX2_append 35 = .ok (.invokevirtual 60, 3) := dk_182 0 60 (dk_at dksX2_append_1 11 rfl rfl)
theorem dX2_append_38 : decode cX2_append 38 = .ok (.aload_n 0, 1) := dk_42 (dk_at dksX2_append_1 14 rfl rfl)
theorem dX2_append_39 : decode cX2_append 39 = .ok (.getfield 38, 3) := dk_180 0 38 (dk_at dksX2_append_1 15 rfl rfl)
theorem dX2_append_42 : decode cX2_append 42 = .ok (.if_icmp .ne 15, 3) := dk_160 0 15 (dk_at dksX2_append_1 18 rfl rfl)
theorem dX2_append_45 : decode cX2_append 45 = .ok (.aload_n 3, 1) := dk_45 (dk_at dksX2_append_1 21 rfl rfl)
theorem dX2_append_46 : decode cX2_append 46 = .ok (.getfield 109, 3) := dk_180 0 109 (dk_at dksX2_append_2 0 rfl rfl)
theorem dX2_append_49 : decode cX2_append 49 = .ok (.aload_n 0, 1) := dk_42 (dk_at dksX2_append_2 3 rfl rfl)
theorem dX2_append_50 : decode cX2_append 50 = .ok (.invokevirtual 112, 3) := dk_182 0 112 (dk_at dksX2_append_2 4 rfl rfl)
theorem dX2_append_53 : decode cX2_append 53 = .ok (.invokevirtual 116, 3) := dk_182 0 116 (dk_at dksX2_append_2 7 rfl rfl)
theorem dX2_append_56 : decode cX2_append 56 = .ok (.pop, 1) := dk_87 (dk_at dksX2_append_2 10 rfl rfl)
theorem dX2_append_57 : decode cX2_append 57 = .ok (.aload_n 3, 1) := dk_45 (dk_at dksX2_append_2 11 rfl rfl)
theorem dX2_append_58 : decode cX2_append 58 = .ok (.invokevirtual 123, 3) := dk_182 0 123 (dk_at dksX2_append_2 12 rfl rfl)
theorem dX2_append_61 : decode cX2_append 61 = .ok (.getfield 91, 3) := dk_180 0 91 (dk_at dksX2_append_2 15 rfl rfl)
theorem dX2_append_64 : decode cX2_append 64 = .ok (.aload_n 1, 1) := dk_43 (dk_at dksX2_append_2 18 rfl rfl)
theorem dX2_append_65 : decode cX2_append 65 = .ok (.invokevirtual 116, 3) := dk_182 0 116 (dk_at dksX2_append_2 19 rfl rfl)
theorem dX2_append_68 : decode cX2_append 68 = .ok (.pop, 1) := dk_87 (dk_at dksX2_append_2 22 rfl rfl)
theorem dX2_append_69 : decode cX2_append 69 = .ok (.aload_n 3, 1) := dk_45 (dk_at dksX2_append_2 23 rfl rfl)
theorem dX2_append_70 : decode cX2_append 70 = .ok (.dup, 1) := dk_89 (dk_at dksX2_append_3 0 rfl rfl)
theorem dX2_append_71 : decode cX2_append 71 = .ok (.getfield 126, 3) := dk_180 0 126 (dk_at dksX2_append_3 1 rfl rfl)
theorem dX2_append_74 : decode cX2_append 74 = .ok (.iload_n 2, 1) := dk_28 (dk_at dksX2_append_3 4 rfl rfl)
theorem dX2_append_75 : decode cX2_append 75 = .ok (.invokestatic 129, 3) := dk_184 0 129 (dk_at dksX2_append_3 5 rfl rfl)
theorem dX2_append_78 : decode cX2_append 78 = .ok (.ior, 1) := dk_128 (dk_at dksX2_append_3 8 rfl rfl)
theorem dX2_append_79 : decode cX2_append 79 = .ok (.putfield 126, 3) := dk_181 0 126 (dk_at dksX2_append_3 9 rfl rfl)
theorem dX2_append_82 : decode cX2_append 82 = .ok (.return_, 1) := dk_177 (dk_at dksX2_append_3 12 rfl rfl)
abbrev cX2_put : ByteArray := prog_12_method_15_code
def yX2_put : MethodName := ⟨RX2, "put", "(II)I"⟩
def dkwX2_put_2 : List UInt8 := [182, 0, 154, 42, 180, 0, 15, 164, 0, 10, 42, 182, 0, 157, 167, 255, 241, 2, 172]
abbrev dktX2_put_2 : List UInt8 := dkwX2_put_2 ++ []
def dkwX2_put_1 : List UInt8 := [42, 187, 0, 100, 89, 27, 28, 183, 0, 153, 182, 0, 143, 42, 89, 180, 0, 53, 4, 96, 181, 0, 53, 42]
abbrev dktX2_put_1 : List UInt8 := dkwX2_put_1 ++ dktX2_put_2
def dkwX2_put_0 : List UInt8 := [42, 27, 182, 0, 147, 78, 45, 198, 0, 17, 45, 180, 0, 150, 54, 4, 45, 28, 181, 0, 150, 21, 4, 172]
abbrev dktX2_put_0 : List UInt8 := dkwX2_put_0 ++ dktX2_put_1
theorem dksX2_put_0 : cX2_put.data.toList.drop 0 = dktX2_put_0 := by decide +kernel
theorem dksX2_put_1 : cX2_put.data.toList.drop 24 = dktX2_put_1 := dk_seg dksX2_put_0 24 rfl rfl
theorem dksX2_put_2 : cX2_put.data.toList.drop 48 = dktX2_put_2 := dk_seg dksX2_put_1 24 rfl rfl
theorem dX2_put_0 : decode cX2_put 0 = .ok (.aload_n 0, 1) := dk_42 (dk_at dksX2_put_0 0 rfl rfl)
theorem dX2_put_1 : decode cX2_put 1 = .ok (.iload_n 1, 1) := dk_27 (dk_at dksX2_put_0 1 rfl rfl)
theorem dX2_put_2 : decode cX2_put 2 = .ok (.invokevirtual 147, 3) := dk_182 0 147 (dk_at dksX2_put_0 2 rfl rfl)
theorem dX2_put_5 : decode cX2_put 5 = .ok (.astore_n 3, 1) := dk_78 (dk_at dksX2_put_0 5 rfl rfl)
theorem dX2_put_6 : decode cX2_put 6 = .ok (.aload_n 3, 1) := dk_45 (dk_at dksX2_put_0 6 rfl rfl)
theorem dX2_put_7 : decode cX2_put 7 = .ok (.ifnull 17, 3) := dk_198 0 17 (dk_at dksX2_put_0 7 rfl rfl)
theorem dX2_put_10 : decode cX2_put 10 = .ok (.aload_n 3, 1) := dk_45 (dk_at dksX2_put_0 10 rfl rfl)
theorem dX2_put_11 : decode cX2_put 11 = .ok (.getfield 150, 3) := dk_180 0 150 (dk_at dksX2_put_0 11 rfl rfl)
theorem dX2_put_14 : decode cX2_put 14 = .ok (.istore 4, 2) := dk_54 4 (dk_at dksX2_put_0 14 rfl rfl)
theorem dX2_put_16 : decode cX2_put 16 = .ok (.aload_n 3, 1) := dk_45 (dk_at dksX2_put_0 16 rfl rfl)
theorem dX2_put_17 : decode cX2_put 17 = .ok (.iload_n 2, 1) := dk_28 (dk_at dksX2_put_0 17 rfl rfl)
theorem dX2_put_18 : decode cX2_put 18 = .ok (.putfield 150, 3) := dk_181 0 150 (dk_at dksX2_put_0 18 rfl rfl)
theorem dX2_put_21 : decode cX2_put 21 = .ok (.iload 4, 2) := dk_21 4 (dk_at dksX2_put_0 21 rfl rfl)
theorem dX2_put_23 : decode cX2_put 23 = .ok (.ireturn, 1) := dk_172 (dk_at dksX2_put_0 23 rfl rfl)
theorem dX2_put_24 : decode cX2_put 24 = .ok (.aload_n 0, 1) := dk_42 (dk_at dksX2_put_1 0 rfl rfl)
theorem dX2_put_25 : decode cX2_put 25 = .ok (.new 100, 3) := dk_187 0 100 (dk_at dksX2_put_1 1 rfl rfl)
theorem dX2_put_28 : decode cX2_put 28 = .ok (.dup, 1) := dk_89 (dk_at dksX2_put_1 4 rfl rfl)
theorem dX2_put_29 : decode cX2_put 29 = .ok (.iload_n 1, 1) := dk_27 (dk_at dksX2_put_1 5 rfl rfl)
theorem dX2_put_30 : decode cX2_put 30 = .ok (.iload_n 2, 1) := dk_28 (dk_at dksX2_put_1 6 rfl rfl)
theorem dX2_put_31 : decode cX2_put 31 = .ok (.invokespecial 153, 3) := dk_183 0 153 (dk_at dksX2_put_1 7 rfl rfl)
theorem dX2_put_34 : decode cX2_put 34 = .ok (.invokevirtual 143, 3) := dk_182 0 143 (dk_at dksX2_put_1 10 rfl rfl)
theorem dX2_put_37 : decode cX2_put 37 = .ok (.aload_n 0, 1) := dk_42 (dk_at dksX2_put_1 13 rfl rfl)
theorem dX2_put_38 : decode cX2_put 38 = .ok (.dup, 1) := dk_89 (dk_at dksX2_put_1 14 rfl rfl)
theorem dX2_put_39 : decode cX2_put 39 = .ok (.getfield 53, 3) := dk_180 0 53 (dk_at dksX2_put_1 15 rfl rfl)
theorem dX2_put_42 : decode cX2_put 42 = .ok (.iconst 1, 1) := dk_4 (dk_at dksX2_put_1 18 rfl rfl)
theorem dX2_put_43 : decode cX2_put 43 = .ok (.iadd, 1) := dk_96 (dk_at dksX2_put_1 19 rfl rfl)
theorem dX2_put_44 : decode cX2_put 44 = .ok (.putfield 53, 3) := dk_181 0 53 (dk_at dksX2_put_1 20 rfl rfl)
theorem dX2_put_47 : decode cX2_put 47 = .ok (.aload_n 0, 1) := dk_42 (dk_at dksX2_put_1 23 rfl rfl)
theorem dX2_put_48 : decode cX2_put 48 = .ok (.invokevirtual 154, 3) := dk_182 0 154 (dk_at dksX2_put_2 0 rfl rfl)
theorem dX2_put_51 : decode cX2_put 51 = .ok (.aload_n 0, 1) := dk_42 (dk_at dksX2_put_2 3 rfl rfl)
theorem dX2_put_52 : decode cX2_put 52 = .ok (.getfield 15, 3) := dk_180 0 15 (dk_at dksX2_put_2 4 rfl rfl)
theorem dX2_put_55 : decode cX2_put 55 = .ok (.if_icmp .le 10, 3) := dk_164 0 10 (dk_at dksX2_put_2 7 rfl rfl)
theorem dX2_put_58 : decode cX2_put 58 = .ok (.aload_n 0, 1) := dk_42 (dk_at dksX2_put_2 10 rfl rfl)
theorem dX2_put_59 : decode cX2_put 59 = .ok (.invokevirtual 157, 3) := dk_182 0 157 (dk_at dksX2_put_2 11 rfl rfl)
theorem dX2_put_62 : decode cX2_put 62 = .ok (.goto (-15), 3) := dk_167 255 241 (dk_at dksX2_put_2 14 rfl rfl)
theorem dX2_put_65 : decode cX2_put 65 = .ok (.iconst (-1), 1) := dk_2 (dk_at dksX2_put_2 17 rfl rfl)
theorem dX2_put_66 : decode cX2_put 66 = .ok (.ireturn, 1) := dk_172 (dk_at dksX2_put_2 18 rfl rfl)
abbrev cX2_get : ByteArray := prog_12_method_8_code
def yX2_get : MethodName := ⟨RX2, "get", "(I)LSplitpointer$Entry;"⟩
def dkwX2_get_1 : List UInt8 := [184, 0, 96, 182, 0, 77, 192, 0, 100, 176]
abbrev dktX2_get_1 : List UInt8 := dkwX2_get_1 ++ []
def dkwX2_get_0 : List UInt8 := [42, 27, 182, 0, 83, 27, 182, 0, 87, 77, 44, 199, 0, 7, 1, 167, 0, 18, 44, 180, 0, 91, 44, 27]
abbrev dktX2_get_0 : List UInt8 := dkwX2_get_0 ++ dktX2_get_1
theorem dksX2_get_0 : cX2_get.data.toList.drop 0 = dktX2_get_0 := by decide +kernel
theorem dksX2_get_1 : cX2_get.data.toList.drop 24 = dktX2_get_1 := dk_seg dksX2_get_0 24 rfl rfl
theorem dX2_get_0 : decode cX2_get 0 = .ok (.aload_n 0, 1) := dk_42 (dk_at dksX2_get_0 0 rfl rfl)
theorem dX2_get_1 : decode cX2_get 1 = .ok (.iload_n 1, 1) := dk_27 (dk_at dksX2_get_0 1 rfl rfl)
theorem dX2_get_2 : decode cX2_get 2 = .ok (.invokevirtual 83, 3) := dk_182 0 83 (dk_at dksX2_get_0 2 rfl rfl)
theorem dX2_get_5 : decode cX2_get 5 = .ok (.iload_n 1, 1) := dk_27 (dk_at dksX2_get_0 5 rfl rfl)
theorem dX2_get_6 : decode cX2_get 6 = .ok (.invokevirtual 87, 3) := dk_182 0 87 (dk_at dksX2_get_0 6 rfl rfl)
theorem dX2_get_9 : decode cX2_get 9 = .ok (.astore_n 2, 1) := dk_77 (dk_at dksX2_get_0 9 rfl rfl)
theorem dX2_get_10 : decode cX2_get 10 = .ok (.aload_n 2, 1) := dk_44 (dk_at dksX2_get_0 10 rfl rfl)
theorem dX2_get_11 : decode cX2_get 11 = .ok (.ifnonnull 7, 3) := dk_199 0 7 (dk_at dksX2_get_0 11 rfl rfl)
theorem dX2_get_14 : decode cX2_get 14 = .ok (.aconst_null, 1) := dk_1 (dk_at dksX2_get_0 14 rfl rfl)
theorem dX2_get_15 : decode cX2_get 15 = .ok (.goto 18, 3) := dk_167 0 18 (dk_at dksX2_get_0 15 rfl rfl)
theorem dX2_get_18 : decode cX2_get 18 = .ok (.aload_n 2, 1) := dk_44 (dk_at dksX2_get_0 18 rfl rfl)
theorem dX2_get_19 : decode cX2_get 19 = .ok (.getfield 91, 3) := dk_180 0 91 (dk_at dksX2_get_0 19 rfl rfl)
theorem dX2_get_22 : decode cX2_get 22 = .ok (.aload_n 2, 1) := dk_44 (dk_at dksX2_get_0 22 rfl rfl)
theorem dX2_get_23 : decode cX2_get 23 = .ok (.iload_n 1, 1) := dk_27 (dk_at dksX2_get_0 23 rfl rfl)
theorem dX2_get_24 : decode cX2_get 24 = .ok (.invokestatic 96, 3) := dk_184 0 96 (dk_at dksX2_get_1 0 rfl rfl)
theorem dX2_get_27 : decode cX2_get 27 = .ok (.invokevirtual 77, 3) := dk_182 0 77 (dk_at dksX2_get_1 3 rfl rfl)
theorem dX2_get_30 : decode cX2_get 30 = .ok (.checkcast 100, 3) := dk_192 0 100 (dk_at dksX2_get_1 6 rfl rfl)
theorem dX2_get_33 : decode cX2_get 33 = .ok (.areturn, 1) := dk_176 (dk_at dksX2_get_1 9 rfl rfl)
abbrev cX2_split : ByteArray := prog_12_method_16_code
def yX2_split : MethodName := ⟨RX2, "split", "()V"⟩
def dkwX2_split_3 : List UInt8 := [89, 180, 0, 168, 4, 96, 181, 0, 168, 177]
abbrev dktX2_split_3 : List UInt8 := dkwX2_split_3 ++ []
def dkwX2_split_2 : List UInt8 := [160, 0, 18, 42, 89, 180, 0, 47, 4, 96, 181, 0, 47, 42, 3, 181, 0, 50, 42, 44, 182, 0, 164, 42]
abbrev dktX2_split_2 : List UInt8 := dkwX2_split_2 ++ dktX2_split_3
def dkwX2_split_1 : List UInt8 := [182, 0, 56, 87, 42, 89, 180, 0, 50, 4, 96, 181, 0, 50, 42, 180, 0, 50, 42, 182, 0, 63]
abbrev dktX2_split_1 : List UInt8 := dkwX2_split_1 ++ dktX2_split_2
def dkwX2_split_0 : List UInt8 := [42, 180, 0, 30, 42, 180, 0, 50, 182, 0, 77, 192, 0, 81, 76, 42, 43, 182, 0, 160, 77, 42]
abbrev dktX2_split_0 : List UInt8 := dkwX2_split_0 ++ dktX2_split_1
theorem dksX2_split_0 : cX2_split.data.toList.drop 0 = dktX2_split_0 := by decide +kernel
theorem dksX2_split_1 : cX2_split.data.toList.drop 22 = dktX2_split_1 := dk_seg dksX2_split_0 22 rfl rfl
theorem dksX2_split_2 : cX2_split.data.toList.drop 44 = dktX2_split_2 := dk_seg dksX2_split_1 22 rfl rfl
theorem dksX2_split_3 : cX2_split.data.toList.drop 68 = dktX2_split_3 := dk_seg dksX2_split_2 24 rfl rfl
theorem dX2_split_0 : decode cX2_split 0 = .ok (.aload_n 0, 1) := dk_42 (dk_at dksX2_split_0 0 rfl rfl)
theorem dX2_split_1 : decode cX2_split 1 = .ok (.getfield 30, 3) := dk_180 0 30 (dk_at dksX2_split_0 1 rfl rfl)
theorem dX2_split_4 : decode cX2_split 4 = .ok (.aload_n 0, 1) := dk_42 (dk_at dksX2_split_0 4 rfl rfl)
theorem dX2_split_5 : decode cX2_split 5 = .ok (.getfield 50, 3) := dk_180 0 50 (dk_at dksX2_split_0 5 rfl rfl)
theorem dX2_split_8 : decode cX2_split 8 = .ok (.invokevirtual 77, 3) := dk_182 0 77 (dk_at dksX2_split_0 8 rfl rfl)
theorem dX2_split_11 : decode cX2_split 11 = .ok (.checkcast 81, 3) := dk_192 0 81 (dk_at dksX2_split_0 11 rfl rfl)
theorem dX2_split_14 : decode cX2_split 14 = .ok (.astore_n 1, 1) := dk_76 (dk_at dksX2_split_0 14 rfl rfl)
theorem dX2_split_15 : decode cX2_split 15 = .ok (.aload_n 0, 1) := dk_42 (dk_at dksX2_split_0 15 rfl rfl)
theorem dX2_split_16 : decode cX2_split 16 = .ok (.aload_n 1, 1) := dk_43 (dk_at dksX2_split_0 16 rfl rfl)
theorem dX2_split_17 : decode cX2_split 17 = .ok (.invokevirtual 160, 3) := dk_182 0 160 (dk_at dksX2_split_0 17 rfl rfl)
theorem dX2_split_20 : decode cX2_split 20 = .ok (.astore_n 2, 1) := dk_77 (dk_at dksX2_split_0 20 rfl rfl)
theorem dX2_split_21 : decode cX2_split 21 = .ok (.aload_n 0, 1) := dk_42 (dk_at dksX2_split_0 21 rfl rfl)
theorem dX2_split_22 : decode cX2_split 22 = .ok (.invokevirtual 56, 3) := dk_182 0 56 (dk_at dksX2_split_1 0 rfl rfl)
theorem dX2_split_25 : decode cX2_split 25 = .ok (.pop, 1) := dk_87 (dk_at dksX2_split_1 3 rfl rfl)
theorem dX2_split_26 : decode cX2_split 26 = .ok (.aload_n 0, 1) := dk_42 (dk_at dksX2_split_1 4 rfl rfl)
theorem dX2_split_27 : decode cX2_split 27 = .ok (.dup, 1) := dk_89 (dk_at dksX2_split_1 5 rfl rfl)
theorem dX2_split_28 : decode cX2_split 28 = .ok (.getfield 50, 3) := dk_180 0 50 (dk_at dksX2_split_1 6 rfl rfl)
theorem dX2_split_31 : decode cX2_split 31 = .ok (.iconst 1, 1) := dk_4 (dk_at dksX2_split_1 9 rfl rfl)
theorem dX2_split_32 : decode cX2_split 32 = .ok (.iadd, 1) := dk_96 (dk_at dksX2_split_1 10 rfl rfl)
theorem dX2_split_33 : decode cX2_split 33 = .ok (.putfield 50, 3) := dk_181 0 50 (dk_at dksX2_split_1 11 rfl rfl)
theorem dX2_split_36 : decode cX2_split 36 = .ok (.aload_n 0, 1) := dk_42 (dk_at dksX2_split_1 14 rfl rfl)
theorem dX2_split_37 : decode cX2_split 37 = .ok (.getfield 50, 3) := dk_180 0 50 (dk_at dksX2_split_1 15 rfl rfl)
theorem dX2_split_40 : decode cX2_split 40 = .ok (.aload_n 0, 1) := dk_42 (dk_at dksX2_split_1 18 rfl rfl)
theorem dX2_split_41 : decode cX2_split 41 = .ok (.invokevirtual 63, 3) := dk_182 0 63 (dk_at dksX2_split_1 19 rfl rfl)
theorem dX2_split_44 : decode cX2_split 44 = .ok (.if_icmp .ne 18, 3) := dk_160 0 18 (dk_at dksX2_split_2 0 rfl rfl)
theorem dX2_split_47 : decode cX2_split 47 = .ok (.aload_n 0, 1) := dk_42 (dk_at dksX2_split_2 3 rfl rfl)
theorem dX2_split_48 : decode cX2_split 48 = .ok (.dup, 1) := dk_89 (dk_at dksX2_split_2 4 rfl rfl)
theorem dX2_split_49 : decode cX2_split 49 = .ok (.getfield 47, 3) := dk_180 0 47 (dk_at dksX2_split_2 5 rfl rfl)
theorem dX2_split_52 : decode cX2_split 52 = .ok (.iconst 1, 1) := dk_4 (dk_at dksX2_split_2 8 rfl rfl)
theorem dX2_split_53 : decode cX2_split 53 = .ok (.iadd, 1) := dk_96 (dk_at dksX2_split_2 9 rfl rfl)
theorem dX2_split_54 : decode cX2_split 54 = .ok (.putfield 47, 3) := dk_181 0 47 (dk_at dksX2_split_2 10 rfl rfl)
theorem dX2_split_57 : decode cX2_split 57 = .ok (.aload_n 0, 1) := dk_42 (dk_at dksX2_split_2 13 rfl rfl)
theorem dX2_split_58 : decode cX2_split 58 = .ok (.iconst 0, 1) := dk_3 (dk_at dksX2_split_2 14 rfl rfl)
theorem dX2_split_59 : decode cX2_split 59 = .ok (.putfield 50, 3) := dk_181 0 50 (dk_at dksX2_split_2 15 rfl rfl)
theorem dX2_split_62 : decode cX2_split 62 = .ok (.aload_n 0, 1) := dk_42 (dk_at dksX2_split_2 18 rfl rfl)
theorem dX2_split_63 : decode cX2_split 63 = .ok (.aload_n 2, 1) := dk_44 (dk_at dksX2_split_2 19 rfl rfl)
theorem dX2_split_64 : decode cX2_split 64 = .ok (.invokevirtual 164, 3) := dk_182 0 164 (dk_at dksX2_split_2 20 rfl rfl)
theorem dX2_split_67 : decode cX2_split 67 = .ok (.aload_n 0, 1) := dk_42 (dk_at dksX2_split_2 23 rfl rfl)
theorem dX2_split_68 : decode cX2_split 68 = .ok (.dup, 1) := dk_89 (dk_at dksX2_split_3 0 rfl rfl)
theorem dX2_split_69 : decode cX2_split 69 = .ok (.getfield 168, 3) := dk_180 0 168 (dk_at dksX2_split_3 1 rfl rfl)
theorem dX2_split_72 : decode cX2_split 72 = .ok (.iconst 1, 1) := dk_4 (dk_at dksX2_split_3 4 rfl rfl)
theorem dX2_split_73 : decode cX2_split 73 = .ok (.iadd, 1) := dk_96 (dk_at dksX2_split_3 5 rfl rfl)
theorem dX2_split_74 : decode cX2_split 74 = .ok (.putfield 168, 3) := dk_181 0 168 (dk_at dksX2_split_3 6 rfl rfl)
theorem dX2_split_77 : decode cX2_split 77 = .ok (.return_, 1) := dk_177 (dk_at dksX2_split_3 9 rfl rfl)
abbrev cX2_rehash : ByteArray := prog_12_method_19_code
def yX2_rehash : MethodName := ⟨RX2, "rehash", "(II)V"⟩
def dkwX2_rehash_4 : List UInt8 := [21, 4, 182, 0, 77, 192, 0, 100, 180, 0, 150, 182, 0, 192, 87, 132, 4, 1, 167, 255, 215, 177]
abbrev dktX2_rehash_4 : List UInt8 := dkwX2_rehash_4 ++ []
def dkwX2_rehash_3 : List UInt8 := [21, 4, 45, 182, 0, 60, 162, 0, 38, 42, 45, 21, 4, 182, 0, 77, 192, 0, 100, 180, 0, 120, 45]
abbrev dktX2_rehash_3 : List UInt8 := dkwX2_rehash_3 ++ dktX2_rehash_4
def dkwX2_rehash_2 : List UInt8 := [167, 255, 221, 42, 187, 0, 18, 89, 27, 28, 183, 0, 20, 181, 0, 23, 42, 182, 0, 41, 3, 54, 4]
abbrev dktX2_rehash_2 : List UInt8 := dkwX2_rehash_2 ++ dktX2_rehash_3
def dkwX2_rehash_1 : List UInt8 := [42, 180, 0, 30, 21, 4, 182, 0, 77, 192, 0, 81, 182, 0, 132, 182, 0, 188, 87, 132, 4, 1]
abbrev dktX2_rehash_1 : List UInt8 := dkwX2_rehash_1 ++ dktX2_rehash_2
def dkwX2_rehash_0 : List UInt8 := [187, 0, 27, 89, 183, 0, 29, 78, 3, 54, 4, 21, 4, 42, 180, 0, 30, 182, 0, 60, 162, 0, 29, 45]
abbrev dktX2_rehash_0 : List UInt8 := dkwX2_rehash_0 ++ dktX2_rehash_1
theorem dksX2_rehash_0 : cX2_rehash.data.toList.drop 0 = dktX2_rehash_0 := by decide +kernel
theorem dksX2_rehash_1 : cX2_rehash.data.toList.drop 24 = dktX2_rehash_1 := dk_seg dksX2_rehash_0 24 rfl rfl
theorem dksX2_rehash_2 : cX2_rehash.data.toList.drop 46 = dktX2_rehash_2 := dk_seg dksX2_rehash_1 22 rfl rfl
theorem dksX2_rehash_3 : cX2_rehash.data.toList.drop 69 = dktX2_rehash_3 := dk_seg dksX2_rehash_2 23 rfl rfl
theorem dksX2_rehash_4 : cX2_rehash.data.toList.drop 92 = dktX2_rehash_4 := dk_seg dksX2_rehash_3 23 rfl rfl
theorem dX2_rehash_0 : decode cX2_rehash 0 = .ok (.new 27, 3) := dk_187 0 27 (dk_at dksX2_rehash_0 0 rfl rfl)
theorem dX2_rehash_3 : decode cX2_rehash 3 = .ok (.dup, 1) := dk_89 (dk_at dksX2_rehash_0 3 rfl rfl)
theorem dX2_rehash_4 : decode cX2_rehash 4 = .ok (.invokespecial 29, 3) := dk_183 0 29 (dk_at dksX2_rehash_0 4 rfl rfl)
theorem dX2_rehash_7 : decode cX2_rehash 7 = .ok (.astore_n 3, 1) := dk_78 (dk_at dksX2_rehash_0 7 rfl rfl)
theorem dX2_rehash_8 : decode cX2_rehash 8 = .ok (.iconst 0, 1) := dk_3 (dk_at dksX2_rehash_0 8 rfl rfl)
theorem dX2_rehash_9 : decode cX2_rehash 9 = .ok (.istore 4, 2) := dk_54 4 (dk_at dksX2_rehash_0 9 rfl rfl)
theorem dX2_rehash_11 : decode cX2_rehash 11 = .ok (.iload 4, 2) := dk_21 4 (dk_at dksX2_rehash_0 11 rfl rfl)
theorem dX2_rehash_13 : decode cX2_rehash 13 = .ok (.aload_n 0, 1) := dk_42 (dk_at dksX2_rehash_0 13 rfl rfl)
theorem dX2_rehash_14 : decode cX2_rehash 14 = .ok (.getfield 30, 3) := dk_180 0 30 (dk_at dksX2_rehash_0 14 rfl rfl)
theorem dX2_rehash_17 : decode cX2_rehash 17 = .ok (.invokevirtual 60, 3) := dk_182 0 60 (dk_at dksX2_rehash_0 17 rfl rfl)
theorem dX2_rehash_20 : decode cX2_rehash 20 = .ok (.if_icmp .ge 29, 3) := dk_162 0 29 (dk_at dksX2_rehash_0 20 rfl rfl)
theorem dX2_rehash_23 : decode cX2_rehash 23 = .ok (.aload_n 3, 1) := dk_45 (dk_at dksX2_rehash_0 23 rfl rfl)
theorem dX2_rehash_24 : decode cX2_rehash 24 = .ok (.aload_n 0, 1) := dk_42 (dk_at dksX2_rehash_1 0 rfl rfl)
theorem dX2_rehash_25 : decode cX2_rehash 25 = .ok (.getfield 30, 3) := dk_180 0 30 (dk_at dksX2_rehash_1 1 rfl rfl)
theorem dX2_rehash_28 : decode cX2_rehash 28 = .ok (.iload 4, 2) := dk_21 4 (dk_at dksX2_rehash_1 4 rfl rfl)
theorem dX2_rehash_30 : decode cX2_rehash 30 = .ok (.invokevirtual 77, 3) := dk_182 0 77 (dk_at dksX2_rehash_1 6 rfl rfl)
theorem dX2_rehash_33 : decode cX2_rehash 33 = .ok (.checkcast 81, 3) := dk_192 0 81 (dk_at dksX2_rehash_1 9 rfl rfl)
theorem dX2_rehash_36 : decode cX2_rehash 36 = .ok (.invokevirtual 132, 3) := dk_182 0 132 (dk_at dksX2_rehash_1 12 rfl rfl)
theorem dX2_rehash_39 : decode cX2_rehash 39 = .ok (.invokevirtual 188, 3) := dk_182 0 188 (dk_at dksX2_rehash_1 15 rfl rfl)
theorem dX2_rehash_42 : decode cX2_rehash 42 = .ok (.pop, 1) := dk_87 (dk_at dksX2_rehash_1 18 rfl rfl)
theorem dX2_rehash_43 : decode cX2_rehash 43 = .ok (.iinc 4 1, 3) := dk_132 4 1 (dk_at dksX2_rehash_1 19 rfl rfl)
theorem dX2_rehash_46 : decode cX2_rehash 46 = .ok (.goto (-35), 3) := dk_167 255 221 (dk_at dksX2_rehash_2 0 rfl rfl)
theorem dX2_rehash_49 : decode cX2_rehash 49 = .ok (.aload_n 0, 1) := dk_42 (dk_at dksX2_rehash_2 3 rfl rfl)
theorem dX2_rehash_50 : decode cX2_rehash 50 = .ok (.new 18, 3) := dk_187 0 18 (dk_at dksX2_rehash_2 4 rfl rfl)
theorem dX2_rehash_53 : decode cX2_rehash 53 = .ok (.dup, 1) := dk_89 (dk_at dksX2_rehash_2 7 rfl rfl)
theorem dX2_rehash_54 : decode cX2_rehash 54 = .ok (.iload_n 1, 1) := dk_27 (dk_at dksX2_rehash_2 8 rfl rfl)
theorem dX2_rehash_55 : decode cX2_rehash 55 = .ok (.iload_n 2, 1) := dk_28 (dk_at dksX2_rehash_2 9 rfl rfl)
theorem dX2_rehash_56 : decode cX2_rehash 56 = .ok (.invokespecial 20, 3) := dk_183 0 20 (dk_at dksX2_rehash_2 10 rfl rfl)
theorem dX2_rehash_59 : decode cX2_rehash 59 = .ok (.putfield 23, 3) := dk_181 0 23 (dk_at dksX2_rehash_2 13 rfl rfl)
theorem dX2_rehash_62 : decode cX2_rehash 62 = .ok (.aload_n 0, 1) := dk_42 (dk_at dksX2_rehash_2 16 rfl rfl)
theorem dX2_rehash_63 : decode cX2_rehash 63 = .ok (.invokevirtual 41, 3) := dk_182 0 41 (dk_at dksX2_rehash_2 17 rfl rfl)
theorem dX2_rehash_66 : decode cX2_rehash 66 = .ok (.iconst 0, 1) := dk_3 (dk_at dksX2_rehash_2 20 rfl rfl)
theorem dX2_rehash_67 : decode cX2_rehash 67 = .ok (.istore 4, 2) := dk_54 4 (dk_at dksX2_rehash_2 21 rfl rfl)
theorem dX2_rehash_69 : decode cX2_rehash 69 = .ok (.iload 4, 2) := dk_21 4 (dk_at dksX2_rehash_3 0 rfl rfl)
theorem dX2_rehash_71 : decode cX2_rehash 71 = .ok (.aload_n 3, 1) := dk_45 (dk_at dksX2_rehash_3 2 rfl rfl)
theorem dX2_rehash_72 : decode cX2_rehash 72 = .ok (.invokevirtual 60, 3) := dk_182 0 60 (dk_at dksX2_rehash_3 3 rfl rfl)
theorem dX2_rehash_75 : decode cX2_rehash 75 = .ok (.if_icmp .ge 38, 3) := dk_162 0 38 (dk_at dksX2_rehash_3 6 rfl rfl)
theorem dX2_rehash_78 : decode cX2_rehash 78 = .ok (.aload_n 0, 1) := dk_42 (dk_at dksX2_rehash_3 9 rfl rfl)
theorem dX2_rehash_79 : decode cX2_rehash 79 = .ok (.aload_n 3, 1) := dk_45 (dk_at dksX2_rehash_3 10 rfl rfl)
theorem dX2_rehash_80 : decode cX2_rehash 80 = .ok (.iload 4, 2) := dk_21 4 (dk_at dksX2_rehash_3 11 rfl rfl)
theorem dX2_rehash_82 : decode cX2_rehash 82 = .ok (.invokevirtual 77, 3) := dk_182 0 77 (dk_at dksX2_rehash_3 13 rfl rfl)
theorem dX2_rehash_85 : decode cX2_rehash 85 = .ok (.checkcast 100, 3) := dk_192 0 100 (dk_at dksX2_rehash_3 16 rfl rfl)
theorem dX2_rehash_88 : decode cX2_rehash 88 = .ok (.getfield 120, 3) := dk_180 0 120 (dk_at dksX2_rehash_3 19 rfl rfl)
theorem dX2_rehash_91 : decode cX2_rehash 91 = .ok (.aload_n 3, 1) := dk_45 (dk_at dksX2_rehash_3 22 rfl rfl)
theorem dX2_rehash_92 : decode cX2_rehash 92 = .ok (.iload 4, 2) := dk_21 4 (dk_at dksX2_rehash_4 0 rfl rfl)
theorem dX2_rehash_94 : decode cX2_rehash 94 = .ok (.invokevirtual 77, 3) := dk_182 0 77 (dk_at dksX2_rehash_4 2 rfl rfl)
theorem dX2_rehash_97 : decode cX2_rehash 97 = .ok (.checkcast 100, 3) := dk_192 0 100 (dk_at dksX2_rehash_4 5 rfl rfl)
theorem dX2_rehash_100 : decode cX2_rehash 100 = .ok (.getfield 150, 3) := dk_180 0 150 (dk_at dksX2_rehash_4 8 rfl rfl)
theorem dX2_rehash_103 : decode cX2_rehash 103 = .ok (.invokevirtual 192, 3) := dk_182 0 192 (dk_at dksX2_rehash_4 11 rfl rfl)
theorem dX2_rehash_106 : decode cX2_rehash 106 = .ok (.pop, 1) := dk_87 (dk_at dksX2_rehash_4 14 rfl rfl)
theorem dX2_rehash_107 : decode cX2_rehash 107 = .ok (.iinc 4 1, 3) := dk_132 4 1 (dk_at dksX2_rehash_4 15 rfl rfl)
theorem dX2_rehash_110 : decode cX2_rehash 110 = .ok (.goto (-41), 3) := dk_167 255 215 (dk_at dksX2_rehash_4 18 rfl rfl)
theorem dX2_rehash_113 : decode cX2_rehash 113 = .ok (.return_, 1) := dk_177 (dk_at dksX2_rehash_4 21 rfl rfl)
abbrev cX2_taken : ByteArray := prog_12_method_20_code
def yX2_taken : MethodName := ⟨RX2, "taken", "()I"⟩
def dkwX2_taken_1 : List UInt8 := [132, 2, 1, 167, 255, 235, 27, 172]
abbrev dktX2_taken_1 : List UInt8 := dkwX2_taken_1 ++ []
def dkwX2_taken_0 : List UInt8 := [3, 60, 3, 61, 28, 16, 96, 162, 0, 21, 27, 42, 180, 0, 34, 28, 51, 184, 0, 66, 96, 60]
abbrev dktX2_taken_0 : List UInt8 := dkwX2_taken_0 ++ dktX2_taken_1
theorem dksX2_taken_0 : cX2_taken.data.toList.drop 0 = dktX2_taken_0 := by decide +kernel
theorem dksX2_taken_1 : cX2_taken.data.toList.drop 22 = dktX2_taken_1 := dk_seg dksX2_taken_0 22 rfl rfl
theorem dX2_taken_0 : decode cX2_taken 0 = .ok (.iconst 0, 1) := dk_3 (dk_at dksX2_taken_0 0 rfl rfl)
theorem dX2_taken_1 : decode cX2_taken 1 = .ok (.istore_n 1, 1) := dk_60 (dk_at dksX2_taken_0 1 rfl rfl)
theorem dX2_taken_2 : decode cX2_taken 2 = .ok (.iconst 0, 1) := dk_3 (dk_at dksX2_taken_0 2 rfl rfl)
theorem dX2_taken_3 : decode cX2_taken 3 = .ok (.istore_n 2, 1) := dk_61 (dk_at dksX2_taken_0 3 rfl rfl)
theorem dX2_taken_4 : decode cX2_taken 4 = .ok (.iload_n 2, 1) := dk_28 (dk_at dksX2_taken_0 4 rfl rfl)
theorem dX2_taken_5 : decode cX2_taken 5 = .ok (.bipush 96, 2) := dk_16 96 (dk_at dksX2_taken_0 5 rfl rfl)
theorem dX2_taken_7 : decode cX2_taken 7 = .ok (.if_icmp .ge 21, 3) := dk_162 0 21 (dk_at dksX2_taken_0 7 rfl rfl)
theorem dX2_taken_10 : decode cX2_taken 10 = .ok (.iload_n 1, 1) := dk_27 (dk_at dksX2_taken_0 10 rfl rfl)
theorem dX2_taken_11 : decode cX2_taken 11 = .ok (.aload_n 0, 1) := dk_42 (dk_at dksX2_taken_0 11 rfl rfl)
theorem dX2_taken_12 : decode cX2_taken 12 = .ok (.getfield 34, 3) := dk_180 0 34 (dk_at dksX2_taken_0 12 rfl rfl)
theorem dX2_taken_15 : decode cX2_taken 15 = .ok (.iload_n 2, 1) := dk_28 (dk_at dksX2_taken_0 15 rfl rfl)
theorem dX2_taken_16 : decode cX2_taken 16 = .ok (.baload, 1) := dk_51 (dk_at dksX2_taken_0 16 rfl rfl)
theorem dX2_taken_17 : decode cX2_taken 17 = .ok (.invokestatic 66, 3) := dk_184 0 66 (dk_at dksX2_taken_0 17 rfl rfl)
theorem dX2_taken_20 : decode cX2_taken 20 = .ok (.iadd, 1) := dk_96 (dk_at dksX2_taken_0 20 rfl rfl)
theorem dX2_taken_21 : decode cX2_taken 21 = .ok (.istore_n 1, 1) := dk_60 (dk_at dksX2_taken_0 21 rfl rfl)
theorem dX2_taken_22 : decode cX2_taken 22 = .ok (.iinc 2 1, 3) := dk_132 2 1 (dk_at dksX2_taken_1 0 rfl rfl)
theorem dX2_taken_25 : decode cX2_taken 25 = .ok (.goto (-21), 3) := dk_167 255 235 (dk_at dksX2_taken_1 3 rfl rfl)
theorem dX2_taken_28 : decode cX2_taken 28 = .ok (.iload_n 1, 1) := dk_27 (dk_at dksX2_taken_1 6 rfl rfl)
theorem dX2_taken_29 : decode cX2_taken 29 = .ok (.ireturn, 1) := dk_172 (dk_at dksX2_taken_1 7 rfl rfl)
abbrev cX2_longest : ByteArray := prog_12_method_21_code
def yX2_longest : MethodName := ⟨RX2, "longest", "()I"⟩
def dkwX2_longest_1 : List UInt8 := [192, 0, 81, 180, 0, 109, 182, 0, 60, 184, 0, 196, 60, 132, 2, 1, 167, 255, 220, 27, 172]
abbrev dktX2_longest_1 : List UInt8 := dkwX2_longest_1 ++ []
def dkwX2_longest_0 : List UInt8 := [3, 60, 3, 61, 28, 42, 180, 0, 30, 182, 0, 60, 162, 0, 31, 27, 42, 180, 0, 30, 28, 182, 0, 77]
abbrev dktX2_longest_0 : List UInt8 := dkwX2_longest_0 ++ dktX2_longest_1
theorem dksX2_longest_0 : cX2_longest.data.toList.drop 0 = dktX2_longest_0 := by decide +kernel
theorem dksX2_longest_1 : cX2_longest.data.toList.drop 24 = dktX2_longest_1 := dk_seg dksX2_longest_0 24 rfl rfl
theorem dX2_longest_0 : decode cX2_longest 0 = .ok (.iconst 0, 1) := dk_3 (dk_at dksX2_longest_0 0 rfl rfl)
theorem dX2_longest_1 : decode cX2_longest 1 = .ok (.istore_n 1, 1) := dk_60 (dk_at dksX2_longest_0 1 rfl rfl)
theorem dX2_longest_2 : decode cX2_longest 2 = .ok (.iconst 0, 1) := dk_3 (dk_at dksX2_longest_0 2 rfl rfl)
theorem dX2_longest_3 : decode cX2_longest 3 = .ok (.istore_n 2, 1) := dk_61 (dk_at dksX2_longest_0 3 rfl rfl)
theorem dX2_longest_4 : decode cX2_longest 4 = .ok (.iload_n 2, 1) := dk_28 (dk_at dksX2_longest_0 4 rfl rfl)
theorem dX2_longest_5 : decode cX2_longest 5 = .ok (.aload_n 0, 1) := dk_42 (dk_at dksX2_longest_0 5 rfl rfl)
theorem dX2_longest_6 : decode cX2_longest 6 = .ok (.getfield 30, 3) := dk_180 0 30 (dk_at dksX2_longest_0 6 rfl rfl)
theorem dX2_longest_9 : decode cX2_longest 9 = .ok (.invokevirtual 60, 3) := dk_182 0 60 (dk_at dksX2_longest_0 9 rfl rfl)
theorem dX2_longest_12 : decode cX2_longest 12 = .ok (.if_icmp .ge 31, 3) := dk_162 0 31 (dk_at dksX2_longest_0 12 rfl rfl)
theorem dX2_longest_15 : decode cX2_longest 15 = .ok (.iload_n 1, 1) := dk_27 (dk_at dksX2_longest_0 15 rfl rfl)
theorem dX2_longest_16 : decode cX2_longest 16 = .ok (.aload_n 0, 1) := dk_42 (dk_at dksX2_longest_0 16 rfl rfl)
theorem dX2_longest_17 : decode cX2_longest 17 = .ok (.getfield 30, 3) := dk_180 0 30 (dk_at dksX2_longest_0 17 rfl rfl)
theorem dX2_longest_20 : decode cX2_longest 20 = .ok (.iload_n 2, 1) := dk_28 (dk_at dksX2_longest_0 20 rfl rfl)
theorem dX2_longest_21 : decode cX2_longest 21 = .ok (.invokevirtual 77, 3) := dk_182 0 77 (dk_at dksX2_longest_0 21 rfl rfl)
theorem dX2_longest_24 : decode cX2_longest 24 = .ok (.checkcast 81, 3) := dk_192 0 81 (dk_at dksX2_longest_1 0 rfl rfl)
theorem dX2_longest_27 : decode cX2_longest 27 = .ok (.getfield 109, 3) := dk_180 0 109 (dk_at dksX2_longest_1 3 rfl rfl)
theorem dX2_longest_30 : decode cX2_longest 30 = .ok (.invokevirtual 60, 3) := dk_182 0 60 (dk_at dksX2_longest_1 6 rfl rfl)
theorem dX2_longest_33 : decode cX2_longest 33 = .ok (.invokestatic 196, 3) := dk_184 0 196 (dk_at dksX2_longest_1 9 rfl rfl)
theorem dX2_longest_36 : decode cX2_longest 36 = .ok (.istore_n 1, 1) := dk_60 (dk_at dksX2_longest_1 12 rfl rfl)
theorem dX2_longest_37 : decode cX2_longest 37 = .ok (.iinc 2 1, 3) := dk_132 2 1 (dk_at dksX2_longest_1 13 rfl rfl)
theorem dX2_longest_40 : decode cX2_longest 40 = .ok (.goto (-36), 3) := dk_167 255 220 (dk_at dksX2_longest_1 16 rfl rfl)
theorem dX2_longest_43 : decode cX2_longest 43 = .ok (.iload_n 1, 1) := dk_27 (dk_at dksX2_longest_1 19 rfl rfl)
theorem dX2_longest_44 : decode cX2_longest 44 = .ok (.ireturn, 1) := dk_172 (dk_at dksX2_longest_1 20 rfl rfl)
abbrev cX2_depth : ByteArray := prog_12_method_5_code
def yX2_depth : MethodName := ⟨RX2, "depth", "(I)I"⟩
def dkwX2_depth_1 : List UInt8 := [3, 184, 0, 66, 96, 172]
abbrev dktX2_depth_1 : List UInt8 := dkwX2_depth_1 ++ []
def dkwX2_depth_0 : List UInt8 := [42, 180, 0, 47, 27, 42, 180, 0, 50, 161, 0, 11, 27, 42, 182, 0, 63, 161, 0, 7, 4, 167, 0, 4]
abbrev dktX2_depth_0 : List UInt8 := dkwX2_depth_0 ++ dktX2_depth_1
theorem dksX2_depth_0 : cX2_depth.data.toList.drop 0 = dktX2_depth_0 := by decide +kernel
theorem dksX2_depth_1 : cX2_depth.data.toList.drop 24 = dktX2_depth_1 := dk_seg dksX2_depth_0 24 rfl rfl
theorem dX2_depth_0 : decode cX2_depth 0 = .ok (.aload_n 0, 1) := dk_42 (dk_at dksX2_depth_0 0 rfl rfl)
theorem dX2_depth_1 : decode cX2_depth 1 = .ok (.getfield 47, 3) := dk_180 0 47 (dk_at dksX2_depth_0 1 rfl rfl)
theorem dX2_depth_4 : decode cX2_depth 4 = .ok (.iload_n 1, 1) := dk_27 (dk_at dksX2_depth_0 4 rfl rfl)
theorem dX2_depth_5 : decode cX2_depth 5 = .ok (.aload_n 0, 1) := dk_42 (dk_at dksX2_depth_0 5 rfl rfl)
theorem dX2_depth_6 : decode cX2_depth 6 = .ok (.getfield 50, 3) := dk_180 0 50 (dk_at dksX2_depth_0 6 rfl rfl)
theorem dX2_depth_9 : decode cX2_depth 9 = .ok (.if_icmp .lt 11, 3) := dk_161 0 11 (dk_at dksX2_depth_0 9 rfl rfl)
theorem dX2_depth_12 : decode cX2_depth 12 = .ok (.iload_n 1, 1) := dk_27 (dk_at dksX2_depth_0 12 rfl rfl)
theorem dX2_depth_13 : decode cX2_depth 13 = .ok (.aload_n 0, 1) := dk_42 (dk_at dksX2_depth_0 13 rfl rfl)
theorem dX2_depth_14 : decode cX2_depth 14 = .ok (.invokevirtual 63, 3) := dk_182 0 63 (dk_at dksX2_depth_0 14 rfl rfl)
theorem dX2_depth_17 : decode cX2_depth 17 = .ok (.if_icmp .lt 7, 3) := dk_161 0 7 (dk_at dksX2_depth_0 17 rfl rfl)
theorem dX2_depth_20 : decode cX2_depth 20 = .ok (.iconst 1, 1) := dk_4 (dk_at dksX2_depth_0 20 rfl rfl)
theorem dX2_depth_21 : decode cX2_depth 21 = .ok (.goto 4, 3) := dk_167 0 4 (dk_at dksX2_depth_0 21 rfl rfl)
theorem dX2_depth_24 : decode cX2_depth 24 = .ok (.iconst 0, 1) := dk_3 (dk_at dksX2_depth_1 0 rfl rfl)
theorem dX2_depth_25 : decode cX2_depth 25 = .ok (.invokestatic 66, 3) := dk_184 0 66 (dk_at dksX2_depth_1 1 rfl rfl)
theorem dX2_depth_28 : decode cX2_depth 28 = .ok (.iadd, 1) := dk_96 (dk_at dksX2_depth_1 4 rfl rfl)
theorem dX2_depth_29 : decode cX2_depth 29 = .ok (.ireturn, 1) := dk_172 (dk_at dksX2_depth_1 5 rfl rfl)
abbrev cX2_visits : ByteArray := prog_12_method_22_code
def yX2_visits : MethodName := ⟨RX2, "visits", "(ZI)I"⟩
def dkwX2_visits_3 : List UInt8 := [167, 0, 4, 3, 184, 0, 66, 96, 54, 4, 132, 5, 1, 167, 255, 197, 21, 4, 172]
abbrev dktX2_visits_3 : List UInt8 := dkwX2_visits_3 ++ []
def dkwX2_visits_2 : List UInt8 := [21, 5, 182, 0, 204, 120, 4, 100, 126, 54, 6, 21, 4, 29, 21, 5, 130, 21, 6, 126, 154, 0, 7, 4]
abbrev dktX2_visits_2 : List UInt8 := dkwX2_visits_2 ++ dktX2_visits_3
def dkwX2_visits_1 : List UInt8 := [54, 5, 21, 5, 42, 180, 0, 30, 182, 0, 60, 162, 0, 53, 42, 180, 0, 23, 27, 182, 0, 201, 5, 42]
abbrev dktX2_visits_1 : List UInt8 := dkwX2_visits_1 ++ dktX2_visits_2
def dkwX2_visits_0 : List UInt8 := [42, 180, 0, 23, 27, 153, 0, 10, 16, 100, 28, 104, 167, 0, 4, 28, 182, 0, 70, 62, 3, 54, 4, 3]
abbrev dktX2_visits_0 : List UInt8 := dkwX2_visits_0 ++ dktX2_visits_1
theorem dksX2_visits_0 : cX2_visits.data.toList.drop 0 = dktX2_visits_0 := by decide +kernel
theorem dksX2_visits_1 : cX2_visits.data.toList.drop 24 = dktX2_visits_1 := dk_seg dksX2_visits_0 24 rfl rfl
theorem dksX2_visits_2 : cX2_visits.data.toList.drop 48 = dktX2_visits_2 := dk_seg dksX2_visits_1 24 rfl rfl
theorem dksX2_visits_3 : cX2_visits.data.toList.drop 72 = dktX2_visits_3 := dk_seg dksX2_visits_2 24 rfl rfl
theorem dX2_visits_0 : decode cX2_visits 0 = .ok (.aload_n 0, 1) := dk_42 (dk_at dksX2_visits_0 0 rfl rfl)
theorem dX2_visits_1 : decode cX2_visits 1 = .ok (.getfield 23, 3) := dk_180 0 23 (dk_at dksX2_visits_0 1 rfl rfl)
theorem dX2_visits_4 : decode cX2_visits 4 = .ok (.iload_n 1, 1) := dk_27 (dk_at dksX2_visits_0 4 rfl rfl)
theorem dX2_visits_5 : decode cX2_visits 5 = .ok (.ifCond .eq 10, 3) := dk_153 0 10 (dk_at dksX2_visits_0 5 rfl rfl)
theorem dX2_visits_8 : decode cX2_visits 8 = .ok (.bipush 100, 2) := dk_16 100 (dk_at dksX2_visits_0 8 rfl rfl)
theorem dX2_visits_10 : decode cX2_visits 10 = .ok (.iload_n 2, 1) := dk_28 (dk_at dksX2_visits_0 10 rfl rfl)
theorem dX2_visits_11 : decode cX2_visits 11 = .ok (.imul, 1) := dk_104 (dk_at dksX2_visits_0 11 rfl rfl)
theorem dX2_visits_12 : decode cX2_visits 12 = .ok (.goto 4, 3) := dk_167 0 4 (dk_at dksX2_visits_0 12 rfl rfl)
theorem dX2_visits_15 : decode cX2_visits 15 = .ok (.iload_n 2, 1) := dk_28 (dk_at dksX2_visits_0 15 rfl rfl)
theorem dX2_visits_16 : decode cX2_visits 16 = .ok (.invokevirtual 70, 3) := dk_182 0 70 (dk_at dksX2_visits_0 16 rfl rfl)
theorem dX2_visits_19 : decode cX2_visits 19 = .ok (.istore_n 3, 1) := dk_62 (dk_at dksX2_visits_0 19 rfl rfl)
theorem dX2_visits_20 : decode cX2_visits 20 = .ok (.iconst 0, 1) := dk_3 (dk_at dksX2_visits_0 20 rfl rfl)
theorem dX2_visits_21 : decode cX2_visits 21 = .ok (.istore 4, 2) := dk_54 4 (dk_at dksX2_visits_0 21 rfl rfl)
theorem dX2_visits_23 : decode cX2_visits 23 = .ok (.iconst 0, 1) := dk_3 (dk_at dksX2_visits_0 23 rfl rfl)
theorem dX2_visits_24 : decode cX2_visits 24 = .ok (.istore 5, 2) := dk_54 5 (dk_at dksX2_visits_1 0 rfl rfl)
theorem dX2_visits_26 : decode cX2_visits 26 = .ok (.iload 5, 2) := dk_21 5 (dk_at dksX2_visits_1 2 rfl rfl)
theorem dX2_visits_28 : decode cX2_visits 28 = .ok (.aload_n 0, 1) := dk_42 (dk_at dksX2_visits_1 4 rfl rfl)
theorem dX2_visits_29 : decode cX2_visits 29 = .ok (.getfield 30, 3) := dk_180 0 30 (dk_at dksX2_visits_1 5 rfl rfl)
theorem dX2_visits_32 : decode cX2_visits 32 = .ok (.invokevirtual 60, 3) := dk_182 0 60 (dk_at dksX2_visits_1 8 rfl rfl)
theorem dX2_visits_35 : decode cX2_visits 35 = .ok (.if_icmp .ge 53, 3) := dk_162 0 53 (dk_at dksX2_visits_1 11 rfl rfl)
theorem dX2_visits_38 : decode cX2_visits 38 = .ok (.aload_n 0, 1) := dk_42 (dk_at dksX2_visits_1 14 rfl rfl)
theorem dX2_visits_39 : decode cX2_visits 39 = .ok (.getfield 23, 3) := dk_180 0 23 (dk_at dksX2_visits_1 15 rfl rfl)
theorem dX2_visits_42 : decode cX2_visits 42 = .ok (.iload_n 1, 1) := dk_27 (dk_at dksX2_visits_1 18 rfl rfl)
theorem dX2_visits_43 : decode cX2_visits 43 = .ok (.invokevirtual 201, 3) := dk_182 0 201 (dk_at dksX2_visits_1 19 rfl rfl)
theorem dX2_visits_46 : decode cX2_visits 46 = .ok (.iconst 2, 1) := dk_5 (dk_at dksX2_visits_1 22 rfl rfl)
theorem dX2_visits_47 : decode cX2_visits 47 = .ok (.aload_n 0, 1) := dk_42 (dk_at dksX2_visits_1 23 rfl rfl)
theorem dX2_visits_48 : decode cX2_visits 48 = .ok (.iload 5, 2) := dk_21 5 (dk_at dksX2_visits_2 0 rfl rfl)
theorem dX2_visits_50 : decode cX2_visits 50 = .ok (.invokevirtual 204, 3) := dk_182 0 204 (dk_at dksX2_visits_2 2 rfl rfl)
theorem dX2_visits_53 : decode cX2_visits 53 = .ok (.ishl, 1) := dk_120 (dk_at dksX2_visits_2 5 rfl rfl)
theorem dX2_visits_54 : decode cX2_visits 54 = .ok (.iconst 1, 1) := dk_4 (dk_at dksX2_visits_2 6 rfl rfl)
theorem dX2_visits_55 : decode cX2_visits 55 = .ok (.isub, 1) := dk_100 (dk_at dksX2_visits_2 7 rfl rfl)
theorem dX2_visits_56 : decode cX2_visits 56 = .ok (.iand, 1) := dk_126 (dk_at dksX2_visits_2 8 rfl rfl)
theorem dX2_visits_57 : decode cX2_visits 57 = .ok (.istore 6, 2) := dk_54 6 (dk_at dksX2_visits_2 9 rfl rfl)
theorem dX2_visits_59 : decode cX2_visits 59 = .ok (.iload 4, 2) := dk_21 4 (dk_at dksX2_visits_2 11 rfl rfl)
theorem dX2_visits_61 : decode cX2_visits 61 = .ok (.iload_n 3, 1) := dk_29 (dk_at dksX2_visits_2 13 rfl rfl)
theorem dX2_visits_62 : decode cX2_visits 62 = .ok (.iload 5, 2) := dk_21 5 (dk_at dksX2_visits_2 14 rfl rfl)
theorem dX2_visits_64 : decode cX2_visits 64 = .ok (.ixor, 1) := dk_130 (dk_at dksX2_visits_2 16 rfl rfl)
theorem dX2_visits_65 : decode cX2_visits 65 = .ok (.iload 6, 2) := dk_21 6 (dk_at dksX2_visits_2 17 rfl rfl)
theorem dX2_visits_67 : decode cX2_visits 67 = .ok (.iand, 1) := dk_126 (dk_at dksX2_visits_2 19 rfl rfl)
theorem dX2_visits_68 : decode cX2_visits 68 = .ok (.ifCond .ne 7, 3) := dk_154 0 7 (dk_at dksX2_visits_2 20 rfl rfl)
theorem dX2_visits_71 : decode cX2_visits 71 = .ok (.iconst 1, 1) := dk_4 (dk_at dksX2_visits_2 23 rfl rfl)
theorem dX2_visits_72 : decode cX2_visits 72 = .ok (.goto 4, 3) := dk_167 0 4 (dk_at dksX2_visits_3 0 rfl rfl)
theorem dX2_visits_75 : decode cX2_visits 75 = .ok (.iconst 0, 1) := dk_3 (dk_at dksX2_visits_3 3 rfl rfl)
theorem dX2_visits_76 : decode cX2_visits 76 = .ok (.invokestatic 66, 3) := dk_184 0 66 (dk_at dksX2_visits_3 4 rfl rfl)
theorem dX2_visits_79 : decode cX2_visits 79 = .ok (.iadd, 1) := dk_96 (dk_at dksX2_visits_3 7 rfl rfl)
theorem dX2_visits_80 : decode cX2_visits 80 = .ok (.istore 4, 2) := dk_54 4 (dk_at dksX2_visits_3 8 rfl rfl)
theorem dX2_visits_82 : decode cX2_visits 82 = .ok (.iinc 5 1, 3) := dk_132 5 1 (dk_at dksX2_visits_3 10 rfl rfl)
theorem dX2_visits_85 : decode cX2_visits 85 = .ok (.goto (-59), 3) := dk_167 255 197 (dk_at dksX2_visits_3 13 rfl rfl)
theorem dX2_visits_88 : decode cX2_visits 88 = .ok (.iload 4, 2) := dk_21 4 (dk_at dksX2_visits_3 16 rfl rfl)
theorem dX2_visits_90 : decode cX2_visits 90 = .ok (.ireturn, 1) := dk_172 (dk_at dksX2_visits_3 18 rfl rfl)
theorem q65 : (Jvm.Cond.initialized "Splitpointer$Store") ∈ lw_all := lw_g (lw_at lw_m1 2 rfl) rfl
theorem q113 : (Jvm.Cond.instantiable "Splitpointer$Store" (11 : Nat)) ∈ lw_all := lw_g (lw_at lw_m1 50 rfl) rfl
theorem q115 : (Jvm.Cond.instanceMethod ({ cls := "Splitpointer$Store", name := "<init>", desc := "(I)V" } : Jvm.MethodName)) ∈ lw_all := lw_g (lw_at lw_m1 52 rfl) rfl
theorem q116 : (Jvm.Cond.code ({ cls := "Splitpointer$Store", name := "<init>", desc := "(I)V" } : Jvm.MethodName) prog_12_method_1_code (2 : Nat) (Option.none : Option Jvm.ClassFile.FieldType)) ∈ lw_all := lw_g (lw_at lw_m1 53 rfl) rfl
theorem q117 : (Jvm.Cond.methodLink "Splitpointer$Store" (3 : Nat) ({ cls := "java/lang/Object", name := "<init>", desc := "()V" } : Jvm.MethodName)) ∈ lw_all := lw_g (lw_at lw_m1 54 rfl) rfl
theorem q118 : (Jvm.Cond.classLink "Splitpointer$Store" (18 : Nat) "Splitpointer$Hashing") ∈ lw_all := lw_g (lw_at lw_m1 55 rfl) rfl
theorem q120 : (Jvm.Cond.methodLink "Splitpointer$Store" (20 : Nat) ({ cls := "Splitpointer$Hashing", name := "<init>", desc := "(II)V" } : Jvm.MethodName)) ∈ lw_all := lw_g (lw_at lw_m1 57 rfl) rfl
theorem q133 : (Jvm.Cond.classLink "Splitpointer$Store" (27 : Nat) "java/util/ArrayList") ∈ lw_all := lw_g (lw_at lw_m1 70 rfl) rfl
theorem q135 : (Jvm.Cond.methodLink "Splitpointer$Store" (29 : Nat) ({ cls := "java/util/ArrayList", name := "<init>", desc := "()V" } : Jvm.MethodName)) ∈ lw_all := lw_g (lw_at lw_m1 72 rfl) rfl
theorem q162 : (Jvm.Cond.methodLink "Splitpointer$Store" (41 : Nat) ({ cls := "Splitpointer$Store", name := "begin", desc := "()V" } : Jvm.MethodName)) ∈ lw_all := lw_g (lw_at lw_m1 99 rfl) rfl
theorem q163 : (Jvm.Cond.privateMethod ({ cls := "Splitpointer$Store", name := "begin", desc := "()V" } : Jvm.MethodName)) ∈ lw_tbl := lw_at lw_m1 100 rfl
theorem q164 : (Jvm.Cond.instanceMethod ({ cls := "Splitpointer$Store", name := "begin", desc := "()V" } : Jvm.MethodName)) ∈ lw_all := lw_g (lw_at lw_m1 101 rfl) rfl
theorem q165 : (Jvm.Cond.code ({ cls := "Splitpointer$Store", name := "begin", desc := "()V" } : Jvm.MethodName) prog_12_method_2_code (2 : Nat) (Option.none : Option Jvm.ClassFile.FieldType)) ∈ lw_all := lw_g (lw_at lw_m1 102 rfl) rfl
theorem q166 : (Jvm.Cond.methodLink "Splitpointer$Store" (44 : Nat) ({ cls := "java/util/ArrayList", name := "clear", desc := "()V" } : Jvm.MethodName)) ∈ lw_all := lw_g (lw_at lw_m1 103 rfl) rfl
theorem q170 : (Jvm.Cond.methodLink "Splitpointer$Store" (56 : Nat) ({ cls := "Splitpointer$Store", name := "addBucket", desc := "()LSplitpointer$Bucket;" } : Jvm.MethodName)) ∈ lw_all := lw_g (lw_at lw_m1 107 rfl) rfl
theorem q171 : (Jvm.Cond.privateMethod ({ cls := "Splitpointer$Store", name := "addBucket", desc := "()LSplitpointer$Bucket;" } : Jvm.MethodName)) ∈ lw_tbl := lw_at lw_m1 108 rfl
theorem q172 : (Jvm.Cond.instanceMethod ({ cls := "Splitpointer$Store", name := "addBucket", desc := "()LSplitpointer$Bucket;" } : Jvm.MethodName)) ∈ lw_all := lw_g (lw_at lw_m1 109 rfl) rfl
theorem q173 : (Jvm.Cond.code ({ cls := "Splitpointer$Store", name := "addBucket", desc := "()LSplitpointer$Bucket;" } : Jvm.MethodName) prog_12_method_11_code (2 : Nat) (Option.some (Jvm.ClassFile.FieldType.object "Splitpointer$Bucket"))) ∈ lw_all := lw_g (lw_at lw_m1 110 rfl) rfl
theorem q174 : (Jvm.Cond.classLink "Splitpointer$Store" (81 : Nat) "Splitpointer$Bucket") ∈ lw_all := lw_g (lw_at lw_m1 111 rfl) rfl
theorem q176 : (Jvm.Cond.methodLinkNest "Splitpointer$Store" (108 : Nat) ({ cls := "Splitpointer$Bucket", name := "<init>", desc := "()V" } : Jvm.MethodName) "Splitpointer") ∈ lw_tbl := lw_at lw_m1 113 rfl
theorem q183 : (Jvm.Cond.fieldLink "Splitpointer$Store" (109 : Nat) "Splitpointer$Bucket" "chain" "Ljava/util/ArrayList;") ∈ lw_all := lw_g (lw_at lw_m1 120 rfl) rfl
theorem q186 : (Jvm.Cond.fieldLink "Splitpointer$Store" (126 : Nat) "Splitpointer$Bucket" "filter" "I") ∈ lw_all := lw_g (lw_at lw_m1 123 rfl) rfl
theorem q194 : (Jvm.Cond.methodLink "Splitpointer$Store" (112 : Nat) ({ cls := "Splitpointer$Store", name := "take", desc := "()LSplitpointer$Page;" } : Jvm.MethodName)) ∈ lw_all := lw_g (lw_at lw_m1 131 rfl) rfl
theorem q195 : (Jvm.Cond.privateMethod ({ cls := "Splitpointer$Store", name := "take", desc := "()LSplitpointer$Page;" } : Jvm.MethodName)) ∈ lw_tbl := lw_at lw_m1 132 rfl
theorem q196 : (Jvm.Cond.instanceMethod ({ cls := "Splitpointer$Store", name := "take", desc := "()LSplitpointer$Page;" } : Jvm.MethodName)) ∈ lw_all := lw_g (lw_at lw_m1 133 rfl) rfl
theorem q197 : (Jvm.Cond.code ({ cls := "Splitpointer$Store", name := "take", desc := "()LSplitpointer$Page;" } : Jvm.MethodName) prog_12_method_9_code (2 : Nat) (Option.some (Jvm.ClassFile.FieldType.object "Splitpointer$Page"))) ∈ lw_all := lw_g (lw_at lw_m1 134 rfl) rfl
theorem q198 : (Jvm.Cond.classLink "Splitpointer$Store" (92 : Nat) "Splitpointer$Page") ∈ lw_all := lw_g (lw_at lw_m1 135 rfl) rfl
theorem q200 : (Jvm.Cond.methodLink "Splitpointer$Store" (102 : Nat) ({ cls := "Splitpointer$Page", name := "<init>", desc := "(I)V" } : Jvm.MethodName)) ∈ lw_all := lw_g (lw_at lw_m1 137 rfl) rfl
theorem q207 : (Jvm.Cond.fieldLink "Splitpointer$Store" (105 : Nat) "Splitpointer$Page" "number" "I") ∈ lw_all := lw_g (lw_at lw_m1 144 rfl) rfl
theorem q212 : (Jvm.Cond.fieldLink "Splitpointer$Store" (91 : Nat) "Splitpointer$Page" "rows" "Ljava/util/ArrayList;") ∈ lw_all := lw_g (lw_at lw_m1 149 rfl) rfl
theorem q218 : (Jvm.Cond.methodLink "Splitpointer$Store" (116 : Nat) ({ cls := "java/util/ArrayList", name := "add", desc := "(Ljava/lang/Object;)Z" } : Jvm.MethodName)) ∈ lw_all := lw_g (lw_at lw_m1 155 rfl) rfl
theorem q260 : (Jvm.Cond.selects "Splitpointer$Store" ({ cls := "java/lang/Object", name := "getClass", desc := "()Ljava/lang/Class;" } : Jvm.MethodName) ({ cls := "java/lang/Object", name := "getClass", desc := "()Ljava/lang/Class;" } : Jvm.MethodName)) ∈ lw_all := lw_g (lw_at lw_m1 197 rfl) rfl
theorem q289 : (Jvm.Cond.fieldLink "Splitpointer$Store" (38 : Nat) "Splitpointer$Store" "cap" "I") ∈ lw_all := lw_g (lw_at lw_m1 226 rfl) rfl
theorem q291 : (Jvm.Cond.fieldLink "Splitpointer$Store" (9 : Nat) "Splitpointer$Store" "lower" "I") ∈ lw_all := lw_g (lw_at lw_m1 228 rfl) rfl
theorem q294 : (Jvm.Cond.fieldLink "Splitpointer$Store" (15 : Nat) "Splitpointer$Store" "upper" "I") ∈ lw_all := lw_g (lw_at lw_m1 231 rfl) rfl
theorem q297 : (Jvm.Cond.fieldLink "Splitpointer$Store" (47 : Nat) "Splitpointer$Store" "level" "I") ∈ lw_all := lw_g (lw_at lw_m1 234 rfl) rfl
theorem q299 : (Jvm.Cond.fieldLink "Splitpointer$Store" (50 : Nat) "Splitpointer$Store" "pointer" "I") ∈ lw_all := lw_g (lw_at lw_m1 236 rfl) rfl
theorem q301 : (Jvm.Cond.fieldLink "Splitpointer$Store" (53 : Nat) "Splitpointer$Store" "size" "I") ∈ lw_all := lw_g (lw_at lw_m1 238 rfl) rfl
theorem q303 : (Jvm.Cond.fieldLink "Splitpointer$Store" (168 : Nat) "Splitpointer$Store" "splits" "I") ∈ lw_all := lw_g (lw_at lw_m2 0 rfl) rfl
theorem q305 : (Jvm.Cond.fieldLink "Splitpointer$Store" (185 : Nat) "Splitpointer$Store" "merges" "I") ∈ lw_all := lw_g (lw_at lw_m2 2 rfl) rfl
theorem q307 : (Jvm.Cond.fieldLink "Splitpointer$Store" (23 : Nat) "Splitpointer$Store" "hashing" "LSplitpointer$Hashing;") ∈ lw_all := lw_g (lw_at lw_m2 4 rfl) rfl
theorem q309 : (Jvm.Cond.fieldLink "Splitpointer$Store" (30 : Nat) "Splitpointer$Store" "buckets" "Ljava/util/ArrayList;") ∈ lw_all := lw_g (lw_at lw_m2 6 rfl) rfl
theorem q311 : (Jvm.Cond.fieldLink "Splitpointer$Store" (34 : Nat) "Splitpointer$Store" "isTaken" "[Z") ∈ lw_all := lw_g (lw_at lw_m2 8 rfl) rfl
theorem q312 : (Jvm.Cond.laysFinal "Splitpointer$Store" "Splitpointer$Store" "cap" "I") ∈ lw_all := lw_g (lw_at lw_m2 9 rfl) rfl
theorem q313 : (Jvm.Cond.soleField "Splitpointer$Store" "cap") ∈ lw_all := lw_g (lw_at lw_m2 10 rfl) rfl
theorem q314 : (Jvm.Cond.lays "Splitpointer$Store" "Splitpointer$Store" "lower" "I") ∈ lw_all := lw_g (lw_at lw_m2 11 rfl) rfl
theorem q315 : (Jvm.Cond.soleField "Splitpointer$Store" "lower") ∈ lw_all := lw_g (lw_at lw_m2 12 rfl) rfl
theorem q316 : (Jvm.Cond.lays "Splitpointer$Store" "Splitpointer$Store" "upper" "I") ∈ lw_all := lw_g (lw_at lw_m2 13 rfl) rfl
theorem q317 : (Jvm.Cond.soleField "Splitpointer$Store" "upper") ∈ lw_all := lw_g (lw_at lw_m2 14 rfl) rfl
theorem q318 : (Jvm.Cond.lays "Splitpointer$Store" "Splitpointer$Store" "level" "I") ∈ lw_all := lw_g (lw_at lw_m2 15 rfl) rfl
theorem q319 : (Jvm.Cond.soleField "Splitpointer$Store" "level") ∈ lw_all := lw_g (lw_at lw_m2 16 rfl) rfl
theorem q320 : (Jvm.Cond.lays "Splitpointer$Store" "Splitpointer$Store" "pointer" "I") ∈ lw_all := lw_g (lw_at lw_m2 17 rfl) rfl
theorem q321 : (Jvm.Cond.soleField "Splitpointer$Store" "pointer") ∈ lw_all := lw_g (lw_at lw_m2 18 rfl) rfl
theorem q322 : (Jvm.Cond.lays "Splitpointer$Store" "Splitpointer$Store" "size" "I") ∈ lw_all := lw_g (lw_at lw_m2 19 rfl) rfl
theorem q323 : (Jvm.Cond.soleField "Splitpointer$Store" "size") ∈ lw_all := lw_g (lw_at lw_m2 20 rfl) rfl
theorem q324 : (Jvm.Cond.lays "Splitpointer$Store" "Splitpointer$Store" "splits" "I") ∈ lw_all := lw_g (lw_at lw_m2 21 rfl) rfl
theorem q325 : (Jvm.Cond.soleField "Splitpointer$Store" "splits") ∈ lw_all := lw_g (lw_at lw_m2 22 rfl) rfl
theorem q326 : (Jvm.Cond.lays "Splitpointer$Store" "Splitpointer$Store" "merges" "I") ∈ lw_all := lw_g (lw_at lw_m2 23 rfl) rfl
theorem q327 : (Jvm.Cond.soleField "Splitpointer$Store" "merges") ∈ lw_all := lw_g (lw_at lw_m2 24 rfl) rfl
theorem q328 : (Jvm.Cond.lays "Splitpointer$Store" "Splitpointer$Store" "hashing" "LSplitpointer$Hashing;") ∈ lw_all := lw_g (lw_at lw_m2 25 rfl) rfl
theorem q329 : (Jvm.Cond.soleField "Splitpointer$Store" "hashing") ∈ lw_all := lw_g (lw_at lw_m2 26 rfl) rfl
theorem q330 : (Jvm.Cond.laysFinal "Splitpointer$Store" "Splitpointer$Store" "buckets" "Ljava/util/ArrayList;") ∈ lw_all := lw_g (lw_at lw_m2 27 rfl) rfl
theorem q331 : (Jvm.Cond.soleField "Splitpointer$Store" "buckets") ∈ lw_all := lw_g (lw_at lw_m2 28 rfl) rfl
theorem q332 : (Jvm.Cond.laysFinal "Splitpointer$Store" "Splitpointer$Store" "isTaken" "[Z") ∈ lw_all := lw_g (lw_at lw_m2 29 rfl) rfl
theorem q333 : (Jvm.Cond.soleField "Splitpointer$Store" "isTaken") ∈ lw_all := lw_g (lw_at lw_m2 30 rfl) rfl
theorem q334 : (Jvm.Cond.superclass "Splitpointer$Store" "java/lang/Object") ∈ lw_all := lw_g (lw_at lw_m2 31 rfl) rfl
theorem q411 : (Jvm.Cond.instanceMethod ({ cls := "Splitpointer$Store", name := "copy", desc := "()LSplitpointer$Store;" } : Jvm.MethodName)) ∈ lw_all := lw_g (lw_at lw_m2 108 rfl) rfl
theorem q412 : (Jvm.Cond.selects "Splitpointer$Store" ({ cls := "Splitpointer$Store", name := "copy", desc := "()LSplitpointer$Store;" } : Jvm.MethodName) ({ cls := "Splitpointer$Store", name := "copy", desc := "()LSplitpointer$Store;" } : Jvm.MethodName)) ∈ lw_all := lw_g (lw_at lw_m2 109 rfl) rfl
theorem q413 : (Jvm.Cond.code ({ cls := "Splitpointer$Store", name := "copy", desc := "()LSplitpointer$Store;" } : Jvm.MethodName) prog_12_method_23_code (3 : Nat) (Option.some (Jvm.ClassFile.FieldType.object "Splitpointer$Store"))) ∈ lw_all := lw_g (lw_at lw_m2 110 rfl) rfl
theorem q414 : (Jvm.Cond.classLink "Splitpointer$Store" (10 : Nat) "Splitpointer$Store") ∈ lw_all := lw_g (lw_at lw_m2 111 rfl) rfl
theorem q415 : (Jvm.Cond.methodLink "Splitpointer$Store" (207 : Nat) ({ cls := "Splitpointer$Store", name := "<init>", desc := "(I)V" } : Jvm.MethodName)) ∈ lw_all := lw_g (lw_at lw_m2 112 rfl) rfl
theorem q416 : (Jvm.Cond.methodLink "Splitpointer$Store" (208 : Nat) ({ cls := "java/lang/System", name := "arraycopy", desc := "(Ljava/lang/Object;ILjava/lang/Object;II)V" } : Jvm.MethodName)) ∈ lw_all := lw_g (lw_at lw_m2 113 rfl) rfl
theorem q417 : (Jvm.Cond.methodLink "Splitpointer$Store" (60 : Nat) ({ cls := "java/util/ArrayList", name := "size", desc := "()I" } : Jvm.MethodName)) ∈ lw_all := lw_g (lw_at lw_m2 114 rfl) rfl
theorem q418 : (Jvm.Cond.methodLink "Splitpointer$Store" (77 : Nat) ({ cls := "java/util/ArrayList", name := "get", desc := "(I)Ljava/lang/Object;" } : Jvm.MethodName)) ∈ lw_all := lw_g (lw_at lw_m2 115 rfl) rfl
theorem q432 : (Jvm.Cond.methodLink "Splitpointer$Store" (214 : Nat) ({ cls := "Splitpointer$Store", name := "copyOf", desc := "(LSplitpointer$Bucket;)LSplitpointer$Bucket;" } : Jvm.MethodName)) ∈ lw_all := lw_g (lw_at lw_m2 129 rfl) rfl
theorem q433 : (Jvm.Cond.static ({ cls := "Splitpointer$Store", name := "copyOf", desc := "(LSplitpointer$Bucket;)LSplitpointer$Bucket;" } : Jvm.MethodName)) ∈ lw_all := lw_g (lw_at lw_m2 130 rfl) rfl
theorem q434 : (Jvm.Cond.code ({ cls := "Splitpointer$Store", name := "copyOf", desc := "(LSplitpointer$Bucket;)LSplitpointer$Bucket;" } : Jvm.MethodName) prog_12_method_24_code (5 : Nat) (Option.some (Jvm.ClassFile.FieldType.object "Splitpointer$Bucket"))) ∈ lw_all := lw_g (lw_at lw_m2 131 rfl) rfl
theorem q435 : (Jvm.Cond.classLink "Splitpointer$Store" (100 : Nat) "Splitpointer$Entry") ∈ lw_all := lw_g (lw_at lw_m2 132 rfl) rfl
theorem q436 : (Jvm.Cond.methodLink "Splitpointer$Store" (218 : Nat) ({ cls := "Splitpointer$Entry", name := "copy", desc := "()LSplitpointer$Entry;" } : Jvm.MethodName)) ∈ lw_all := lw_g (lw_at lw_m2 133 rfl) rfl
theorem q448 : (Jvm.Cond.fieldLink "Splitpointer$Store" (120 : Nat) "Splitpointer$Entry" "key" "I") ∈ lw_all := lw_g (lw_at lw_m2 145 rfl) rfl
theorem q450 : (Jvm.Cond.fieldLink "Splitpointer$Store" (150 : Nat) "Splitpointer$Entry" "value" "I") ∈ lw_all := lw_g (lw_at lw_m2 147 rfl) rfl
theorem q485 : (Jvm.Cond.instanceMethod ({ cls := "Splitpointer$Store", name := "drop", desc := "(I)V" } : Jvm.MethodName)) ∈ lw_all := lw_g (lw_at lw_m2 182 rfl) rfl
theorem q486 : (Jvm.Cond.selects "Splitpointer$Store" ({ cls := "Splitpointer$Store", name := "drop", desc := "(I)V" } : Jvm.MethodName) ({ cls := "Splitpointer$Store", name := "drop", desc := "(I)V" } : Jvm.MethodName)) ∈ lw_all := lw_g (lw_at lw_m2 183 rfl) rfl
theorem q487 : (Jvm.Cond.code ({ cls := "Splitpointer$Store", name := "drop", desc := "(I)V" } : Jvm.MethodName) prog_12_method_17_code (5 : Nat) (Option.none : Option Jvm.ClassFile.FieldType)) ∈ lw_all := lw_g (lw_at lw_m2 184 rfl) rfl
theorem q488 : (Jvm.Cond.methodLink "Splitpointer$Store" (83 : Nat) ({ cls := "Splitpointer$Store", name := "bucketOf", desc := "(I)LSplitpointer$Bucket;" } : Jvm.MethodName)) ∈ lw_all := lw_g (lw_at lw_m2 185 rfl) rfl
theorem q489 : (Jvm.Cond.instanceMethod ({ cls := "Splitpointer$Store", name := "bucketOf", desc := "(I)LSplitpointer$Bucket;" } : Jvm.MethodName)) ∈ lw_all := lw_g (lw_at lw_m2 186 rfl) rfl
theorem q490 : (Jvm.Cond.selects "Splitpointer$Store" ({ cls := "Splitpointer$Store", name := "bucketOf", desc := "(I)LSplitpointer$Bucket;" } : Jvm.MethodName) ({ cls := "Splitpointer$Store", name := "bucketOf", desc := "(I)LSplitpointer$Bucket;" } : Jvm.MethodName)) ∈ lw_all := lw_g (lw_at lw_m2 187 rfl) rfl
theorem q491 : (Jvm.Cond.code ({ cls := "Splitpointer$Store", name := "bucketOf", desc := "(I)LSplitpointer$Bucket;" } : Jvm.MethodName) prog_12_method_7_code (2 : Nat) (Option.some (Jvm.ClassFile.FieldType.object "Splitpointer$Bucket"))) ∈ lw_all := lw_g (lw_at lw_m2 188 rfl) rfl
theorem q492 : (Jvm.Cond.methodLink "Splitpointer$Store" (70 : Nat) ({ cls := "Splitpointer$Hashing", name := "of", desc := "(I)I" } : Jvm.MethodName)) ∈ lw_all := lw_g (lw_at lw_m2 189 rfl) rfl
theorem q499 : (Jvm.Cond.methodLink "Splitpointer$Store" (74 : Nat) ({ cls := "Splitpointer$Store", name := "address", desc := "(I)I" } : Jvm.MethodName)) ∈ lw_all := lw_g (lw_at lw_m2 196 rfl) rfl
theorem q500 : (Jvm.Cond.instanceMethod ({ cls := "Splitpointer$Store", name := "address", desc := "(I)I" } : Jvm.MethodName)) ∈ lw_all := lw_g (lw_at lw_m2 197 rfl) rfl
theorem q501 : (Jvm.Cond.selects "Splitpointer$Store" ({ cls := "Splitpointer$Store", name := "address", desc := "(I)I" } : Jvm.MethodName) ({ cls := "Splitpointer$Store", name := "address", desc := "(I)I" } : Jvm.MethodName)) ∈ lw_all := lw_g (lw_at lw_m2 198 rfl) rfl
theorem q502 : (Jvm.Cond.code ({ cls := "Splitpointer$Store", name := "address", desc := "(I)I" } : Jvm.MethodName) prog_12_method_6_code (3 : Nat) (Option.some Jvm.ClassFile.FieldType.int)) ∈ lw_all := lw_g (lw_at lw_m2 199 rfl) rfl
theorem q503 : (Jvm.Cond.methodLink "Splitpointer$Store" (63 : Nat) ({ cls := "Splitpointer$Store", name := "base", desc := "()I" } : Jvm.MethodName)) ∈ lw_all := lw_g (lw_at lw_m2 200 rfl) rfl
theorem q504 : (Jvm.Cond.instanceMethod ({ cls := "Splitpointer$Store", name := "base", desc := "()I" } : Jvm.MethodName)) ∈ lw_all := lw_g (lw_at lw_m2 201 rfl) rfl
theorem q505 : (Jvm.Cond.selects "Splitpointer$Store" ({ cls := "Splitpointer$Store", name := "base", desc := "()I" } : Jvm.MethodName) ({ cls := "Splitpointer$Store", name := "base", desc := "()I" } : Jvm.MethodName)) ∈ lw_all := lw_g (lw_at lw_m2 202 rfl) rfl
theorem q506 : (Jvm.Cond.code ({ cls := "Splitpointer$Store", name := "base", desc := "()I" } : Jvm.MethodName) prog_12_method_3_code (1 : Nat) (Option.some Jvm.ClassFile.FieldType.int)) ∈ lw_all := lw_g (lw_at lw_m2 203 rfl) rfl
theorem q507 : (Jvm.Cond.methodLink "Splitpointer$Store" (87 : Nat) ({ cls := "Splitpointer$Bucket", name := "pageOf", desc := "(I)LSplitpointer$Page;" } : Jvm.MethodName)) ∈ lw_all := lw_g (lw_at lw_m2 204 rfl) rfl
theorem q518 : (Jvm.Cond.methodLink "Splitpointer$Store" (123 : Nat) ({ cls := "Splitpointer$Bucket", name := "last", desc := "()LSplitpointer$Page;" } : Jvm.MethodName)) ∈ lw_all := lw_g (lw_at lw_m2 215 rfl) rfl
theorem q522 : (Jvm.Cond.methodLinkNest "Splitpointer$Store" (96 : Nat) ({ cls := "Splitpointer", name := "placeIn", desc := "(LSplitpointer$Page;I)I" } : Jvm.MethodName) "Splitpointer") ∈ lw_tbl := lw_at lw_m2 219 rfl
theorem q523 : (Jvm.Cond.methodLink "Splitpointer$Store" (171 : Nat) ({ cls := "Splitpointer$Page", name := "last", desc := "()LSplitpointer$Entry;" } : Jvm.MethodName)) ∈ lw_all := lw_g (lw_at lw_m2 220 rfl) rfl
theorem q530 : (Jvm.Cond.methodLink "Splitpointer$Store" (174 : Nat) ({ cls := "java/util/ArrayList", name := "set", desc := "(ILjava/lang/Object;)Ljava/lang/Object;" } : Jvm.MethodName)) ∈ lw_all := lw_g (lw_at lw_m2 227 rfl) rfl
theorem q534 : (Jvm.Cond.methodLink "Splitpointer$Store" (136 : Nat) ({ cls := "java/util/ArrayList", name := "remove", desc := "(I)Ljava/lang/Object;" } : Jvm.MethodName)) ∈ lw_all := lw_g (lw_at lw_m2 231 rfl) rfl
theorem q543 : (Jvm.Cond.methodLink "Splitpointer$Store" (178 : Nat) ({ cls := "java/util/ArrayList", name := "isEmpty", desc := "()Z" } : Jvm.MethodName)) ∈ lw_all := lw_g (lw_at lw_m3 0 rfl) rfl
theorem q547 : (Jvm.Cond.methodLink "Splitpointer$Store" (139 : Nat) ({ cls := "Splitpointer$Store", name := "free", desc := "(LSplitpointer$Page;)V" } : Jvm.MethodName)) ∈ lw_all := lw_g (lw_at lw_m3 4 rfl) rfl
theorem q548 : (Jvm.Cond.privateMethod ({ cls := "Splitpointer$Store", name := "free", desc := "(LSplitpointer$Page;)V" } : Jvm.MethodName)) ∈ lw_tbl := lw_at lw_m3 5 rfl
theorem q549 : (Jvm.Cond.instanceMethod ({ cls := "Splitpointer$Store", name := "free", desc := "(LSplitpointer$Page;)V" } : Jvm.MethodName)) ∈ lw_all := lw_g (lw_at lw_m3 6 rfl) rfl
theorem q550 : (Jvm.Cond.code ({ cls := "Splitpointer$Store", name := "free", desc := "(LSplitpointer$Page;)V" } : Jvm.MethodName) prog_12_method_10_code (2 : Nat) (Option.none : Option Jvm.ClassFile.FieldType)) ∈ lw_all := lw_g (lw_at lw_m3 7 rfl) rfl
theorem q551 : (Jvm.Cond.methodLink "Splitpointer$Store" (154 : Nat) ({ cls := "Splitpointer$Store", name := "load", desc := "()I" } : Jvm.MethodName)) ∈ lw_all := lw_g (lw_at lw_m3 8 rfl) rfl
theorem q552 : (Jvm.Cond.instanceMethod ({ cls := "Splitpointer$Store", name := "load", desc := "()I" } : Jvm.MethodName)) ∈ lw_all := lw_g (lw_at lw_m3 9 rfl) rfl
theorem q553 : (Jvm.Cond.selects "Splitpointer$Store" ({ cls := "Splitpointer$Store", name := "load", desc := "()I" } : Jvm.MethodName) ({ cls := "Splitpointer$Store", name := "load", desc := "()I" } : Jvm.MethodName)) ∈ lw_all := lw_g (lw_at lw_m3 10 rfl) rfl
theorem q554 : (Jvm.Cond.code ({ cls := "Splitpointer$Store", name := "load", desc := "()I" } : Jvm.MethodName) prog_12_method_4_code (1 : Nat) (Option.some Jvm.ClassFile.FieldType.int)) ∈ lw_all := lw_g (lw_at lw_m3 11 rfl) rfl
theorem q555 : (Jvm.Cond.methodLink "Splitpointer$Store" (182 : Nat) ({ cls := "Splitpointer$Store", name := "merge", desc := "()V" } : Jvm.MethodName)) ∈ lw_all := lw_g (lw_at lw_m3 12 rfl) rfl
theorem q556 : (Jvm.Cond.privateMethod ({ cls := "Splitpointer$Store", name := "merge", desc := "()V" } : Jvm.MethodName)) ∈ lw_tbl := lw_at lw_m3 13 rfl
theorem q557 : (Jvm.Cond.instanceMethod ({ cls := "Splitpointer$Store", name := "merge", desc := "()V" } : Jvm.MethodName)) ∈ lw_all := lw_g (lw_at lw_m3 14 rfl) rfl
theorem q558 : (Jvm.Cond.code ({ cls := "Splitpointer$Store", name := "merge", desc := "()V" } : Jvm.MethodName) prog_12_method_18_code (6 : Nat) (Option.none : Option Jvm.ClassFile.FieldType)) ∈ lw_all := lw_g (lw_at lw_m3 15 rfl) rfl
theorem q559 : (Jvm.Cond.methodLink "Splitpointer$Store" (160 : Nat) ({ cls := "Splitpointer$Store", name := "emptied", desc := "(LSplitpointer$Bucket;)Ljava/util/ArrayList;" } : Jvm.MethodName)) ∈ lw_all := lw_g (lw_at lw_m3 16 rfl) rfl
theorem q560 : (Jvm.Cond.privateMethod ({ cls := "Splitpointer$Store", name := "emptied", desc := "(LSplitpointer$Bucket;)Ljava/util/ArrayList;" } : Jvm.MethodName)) ∈ lw_tbl := lw_at lw_m3 17 rfl
theorem q561 : (Jvm.Cond.instanceMethod ({ cls := "Splitpointer$Store", name := "emptied", desc := "(LSplitpointer$Bucket;)Ljava/util/ArrayList;" } : Jvm.MethodName)) ∈ lw_all := lw_g (lw_at lw_m3 18 rfl) rfl
theorem q562 : (Jvm.Cond.code ({ cls := "Splitpointer$Store", name := "emptied", desc := "(LSplitpointer$Bucket;)Ljava/util/ArrayList;" } : Jvm.MethodName) prog_12_method_13_code (3 : Nat) (Option.some (Jvm.ClassFile.FieldType.object "java/util/ArrayList"))) ∈ lw_all := lw_g (lw_at lw_m3 19 rfl) rfl
theorem q563 : (Jvm.Cond.methodLink "Splitpointer$Store" (132 : Nat) ({ cls := "Splitpointer$Bucket", name := "all", desc := "()Ljava/util/ArrayList;" } : Jvm.MethodName)) ∈ lw_all := lw_g (lw_at lw_m3 20 rfl) rfl
theorem q581 : (Jvm.Cond.methodLinkNest "Splitpointer$Store" (129 : Nat) ({ cls := "Splitpointer", name := "marks", desc := "(I)I" } : Jvm.MethodName) "Splitpointer") ∈ lw_tbl := lw_at lw_m3 38 rfl
theorem q584 : (Jvm.Cond.methodLink "Splitpointer$Store" (164 : Nat) ({ cls := "Splitpointer$Store", name := "appendAll", desc := "(Ljava/util/ArrayList;)V" } : Jvm.MethodName)) ∈ lw_all := lw_g (lw_at lw_m3 41 rfl) rfl
theorem q585 : (Jvm.Cond.privateMethod ({ cls := "Splitpointer$Store", name := "appendAll", desc := "(Ljava/util/ArrayList;)V" } : Jvm.MethodName)) ∈ lw_tbl := lw_at lw_m3 42 rfl
theorem q586 : (Jvm.Cond.instanceMethod ({ cls := "Splitpointer$Store", name := "appendAll", desc := "(Ljava/util/ArrayList;)V" } : Jvm.MethodName)) ∈ lw_all := lw_g (lw_at lw_m3 43 rfl) rfl
theorem q587 : (Jvm.Cond.code ({ cls := "Splitpointer$Store", name := "appendAll", desc := "(Ljava/util/ArrayList;)V" } : Jvm.MethodName) prog_12_method_14_code (3 : Nat) (Option.none : Option Jvm.ClassFile.FieldType)) ∈ lw_all := lw_g (lw_at lw_m3 44 rfl) rfl
theorem q588 : (Jvm.Cond.methodLink "Splitpointer$Store" (143 : Nat) ({ cls := "Splitpointer$Store", name := "append", desc := "(LSplitpointer$Entry;)V" } : Jvm.MethodName)) ∈ lw_all := lw_g (lw_at lw_m3 45 rfl) rfl
theorem q589 : (Jvm.Cond.privateMethod ({ cls := "Splitpointer$Store", name := "append", desc := "(LSplitpointer$Entry;)V" } : Jvm.MethodName)) ∈ lw_tbl := lw_at lw_m3 46 rfl
theorem q590 : (Jvm.Cond.instanceMethod ({ cls := "Splitpointer$Store", name := "append", desc := "(LSplitpointer$Entry;)V" } : Jvm.MethodName)) ∈ lw_all := lw_g (lw_at lw_m3 47 rfl) rfl
theorem q591 : (Jvm.Cond.code ({ cls := "Splitpointer$Store", name := "append", desc := "(LSplitpointer$Entry;)V" } : Jvm.MethodName) prog_12_method_12_code (4 : Nat) (Option.none : Option Jvm.ClassFile.FieldType)) ∈ lw_all := lw_g (lw_at lw_m3 48 rfl) rfl
theorem q599 : (Jvm.Cond.instanceMethod ({ cls := "Splitpointer$Store", name := "put", desc := "(II)I" } : Jvm.MethodName)) ∈ lw_all := lw_g (lw_at lw_m3 56 rfl) rfl
theorem q600 : (Jvm.Cond.selects "Splitpointer$Store" ({ cls := "Splitpointer$Store", name := "put", desc := "(II)I" } : Jvm.MethodName) ({ cls := "Splitpointer$Store", name := "put", desc := "(II)I" } : Jvm.MethodName)) ∈ lw_all := lw_g (lw_at lw_m3 57 rfl) rfl
theorem q601 : (Jvm.Cond.code ({ cls := "Splitpointer$Store", name := "put", desc := "(II)I" } : Jvm.MethodName) prog_12_method_15_code (5 : Nat) (Option.some Jvm.ClassFile.FieldType.int)) ∈ lw_all := lw_g (lw_at lw_m3 58 rfl) rfl
theorem q602 : (Jvm.Cond.methodLink "Splitpointer$Store" (147 : Nat) ({ cls := "Splitpointer$Store", name := "get", desc := "(I)LSplitpointer$Entry;" } : Jvm.MethodName)) ∈ lw_all := lw_g (lw_at lw_m3 59 rfl) rfl
theorem q603 : (Jvm.Cond.instanceMethod ({ cls := "Splitpointer$Store", name := "get", desc := "(I)LSplitpointer$Entry;" } : Jvm.MethodName)) ∈ lw_all := lw_g (lw_at lw_m3 60 rfl) rfl
theorem q604 : (Jvm.Cond.selects "Splitpointer$Store" ({ cls := "Splitpointer$Store", name := "get", desc := "(I)LSplitpointer$Entry;" } : Jvm.MethodName) ({ cls := "Splitpointer$Store", name := "get", desc := "(I)LSplitpointer$Entry;" } : Jvm.MethodName)) ∈ lw_all := lw_g (lw_at lw_m3 61 rfl) rfl
theorem q605 : (Jvm.Cond.code ({ cls := "Splitpointer$Store", name := "get", desc := "(I)LSplitpointer$Entry;" } : Jvm.MethodName) prog_12_method_8_code (3 : Nat) (Option.some (Jvm.ClassFile.FieldType.object "Splitpointer$Entry"))) ∈ lw_all := lw_g (lw_at lw_m3 62 rfl) rfl
theorem q606 : (Jvm.Cond.methodLink "Splitpointer$Store" (153 : Nat) ({ cls := "Splitpointer$Entry", name := "<init>", desc := "(II)V" } : Jvm.MethodName)) ∈ lw_all := lw_g (lw_at lw_m3 63 rfl) rfl
theorem q607 : (Jvm.Cond.methodLink "Splitpointer$Store" (157 : Nat) ({ cls := "Splitpointer$Store", name := "split", desc := "()V" } : Jvm.MethodName)) ∈ lw_all := lw_g (lw_at lw_m3 64 rfl) rfl
theorem q608 : (Jvm.Cond.privateMethod ({ cls := "Splitpointer$Store", name := "split", desc := "()V" } : Jvm.MethodName)) ∈ lw_tbl := lw_at lw_m3 65 rfl
theorem q609 : (Jvm.Cond.instanceMethod ({ cls := "Splitpointer$Store", name := "split", desc := "()V" } : Jvm.MethodName)) ∈ lw_all := lw_g (lw_at lw_m3 66 rfl) rfl
theorem q610 : (Jvm.Cond.code ({ cls := "Splitpointer$Store", name := "split", desc := "()V" } : Jvm.MethodName) prog_12_method_16_code (3 : Nat) (Option.none : Option Jvm.ClassFile.FieldType)) ∈ lw_all := lw_g (lw_at lw_m3 67 rfl) rfl
theorem q618 : (Jvm.Cond.instanceMethod ({ cls := "Splitpointer$Store", name := "rehash", desc := "(II)V" } : Jvm.MethodName)) ∈ lw_all := lw_g (lw_at lw_m3 75 rfl) rfl
theorem q619 : (Jvm.Cond.selects "Splitpointer$Store" ({ cls := "Splitpointer$Store", name := "rehash", desc := "(II)V" } : Jvm.MethodName) ({ cls := "Splitpointer$Store", name := "rehash", desc := "(II)V" } : Jvm.MethodName)) ∈ lw_all := lw_g (lw_at lw_m3 76 rfl) rfl
theorem q620 : (Jvm.Cond.code ({ cls := "Splitpointer$Store", name := "rehash", desc := "(II)V" } : Jvm.MethodName) prog_12_method_19_code (5 : Nat) (Option.none : Option Jvm.ClassFile.FieldType)) ∈ lw_all := lw_g (lw_at lw_m3 77 rfl) rfl
theorem q621 : (Jvm.Cond.methodLink "Splitpointer$Store" (188 : Nat) ({ cls := "java/util/ArrayList", name := "addAll", desc := "(Ljava/util/Collection;)Z" } : Jvm.MethodName)) ∈ lw_all := lw_g (lw_at lw_m3 78 rfl) rfl
theorem q622 : (Jvm.Cond.methodLink "Splitpointer$Store" (192 : Nat) ({ cls := "Splitpointer$Store", name := "put", desc := "(II)I" } : Jvm.MethodName)) ∈ lw_all := lw_g (lw_at lw_m3 79 rfl) rfl
theorem q663 : (Jvm.Cond.instanceMethod ({ cls := "Splitpointer$Store", name := "taken", desc := "()I" } : Jvm.MethodName)) ∈ lw_all := lw_g (lw_at lw_m3 120 rfl) rfl
theorem q664 : (Jvm.Cond.selects "Splitpointer$Store" ({ cls := "Splitpointer$Store", name := "taken", desc := "()I" } : Jvm.MethodName) ({ cls := "Splitpointer$Store", name := "taken", desc := "()I" } : Jvm.MethodName)) ∈ lw_all := lw_g (lw_at lw_m3 121 rfl) rfl
theorem q665 : (Jvm.Cond.code ({ cls := "Splitpointer$Store", name := "taken", desc := "()I" } : Jvm.MethodName) prog_12_method_20_code (3 : Nat) (Option.some Jvm.ClassFile.FieldType.int)) ∈ lw_all := lw_g (lw_at lw_m3 122 rfl) rfl
theorem q666 : (Jvm.Cond.methodLinkNest "Splitpointer$Store" (66 : Nat) ({ cls := "Splitpointer", name := "bit", desc := "(Z)I" } : Jvm.MethodName) "Splitpointer") ∈ lw_tbl := lw_at lw_m3 123 rfl
theorem q681 : (Jvm.Cond.instanceMethod ({ cls := "Splitpointer$Store", name := "longest", desc := "()I" } : Jvm.MethodName)) ∈ lw_all := lw_g (lw_at lw_m3 138 rfl) rfl
theorem q682 : (Jvm.Cond.selects "Splitpointer$Store" ({ cls := "Splitpointer$Store", name := "longest", desc := "()I" } : Jvm.MethodName) ({ cls := "Splitpointer$Store", name := "longest", desc := "()I" } : Jvm.MethodName)) ∈ lw_all := lw_g (lw_at lw_m3 139 rfl) rfl
theorem q683 : (Jvm.Cond.code ({ cls := "Splitpointer$Store", name := "longest", desc := "()I" } : Jvm.MethodName) prog_12_method_21_code (3 : Nat) (Option.some Jvm.ClassFile.FieldType.int)) ∈ lw_all := lw_g (lw_at lw_m3 140 rfl) rfl
theorem q684 : (Jvm.Cond.methodLink "Splitpointer$Store" (196 : Nat) ({ cls := "java/lang/Math", name := "max", desc := "(II)I" } : Jvm.MethodName)) ∈ lw_all := lw_g (lw_at lw_m3 141 rfl) rfl
theorem q702 : (Jvm.Cond.instanceMethod ({ cls := "Splitpointer$Store", name := "depth", desc := "(I)I" } : Jvm.MethodName)) ∈ lw_all := lw_g (lw_at lw_m3 159 rfl) rfl
theorem q703 : (Jvm.Cond.selects "Splitpointer$Store" ({ cls := "Splitpointer$Store", name := "depth", desc := "(I)I" } : Jvm.MethodName) ({ cls := "Splitpointer$Store", name := "depth", desc := "(I)I" } : Jvm.MethodName)) ∈ lw_all := lw_g (lw_at lw_m3 160 rfl) rfl
theorem q704 : (Jvm.Cond.code ({ cls := "Splitpointer$Store", name := "depth", desc := "(I)I" } : Jvm.MethodName) prog_12_method_5_code (2 : Nat) (Option.some Jvm.ClassFile.FieldType.int)) ∈ lw_all := lw_g (lw_at lw_m3 161 rfl) rfl
theorem q1022 : (Jvm.Cond.instanceMethod ({ cls := "Splitpointer$Store", name := "visits", desc := "(ZI)I" } : Jvm.MethodName)) ∈ lw_all := lw_g (lw_at lw_m4 239 rfl) rfl
theorem q1023 : (Jvm.Cond.selects "Splitpointer$Store" ({ cls := "Splitpointer$Store", name := "visits", desc := "(ZI)I" } : Jvm.MethodName) ({ cls := "Splitpointer$Store", name := "visits", desc := "(ZI)I" } : Jvm.MethodName)) ∈ lw_all := lw_g (lw_at lw_m5 0 rfl) rfl
theorem q1024 : (Jvm.Cond.code ({ cls := "Splitpointer$Store", name := "visits", desc := "(ZI)I" } : Jvm.MethodName) prog_12_method_22_code (7 : Nat) (Option.some Jvm.ClassFile.FieldType.int)) ∈ lw_all := lw_g (lw_at lw_m5 1 rfl) rfl
theorem q1025 : (Jvm.Cond.methodLink "Splitpointer$Store" (201 : Nat) ({ cls := "Splitpointer$Hashing", name := "digits", desc := "(Z)I" } : Jvm.MethodName)) ∈ lw_all := lw_g (lw_at lw_m5 2 rfl) rfl
theorem q1029 : (Jvm.Cond.methodLink "Splitpointer$Store" (204 : Nat) ({ cls := "Splitpointer$Store", name := "depth", desc := "(I)I" } : Jvm.MethodName)) ∈ lw_all := lw_g (lw_at lw_m5 6 rfl) rfl
theorem q1536 : (Jvm.Cond.selects "Splitpointer$Store" ({ cls := "java/lang/Object", name := "equals", desc := "(Ljava/lang/Object;)Z" } : Jvm.MethodName) ({ cls := "java/lang/Object", name := "equals", desc := "(Ljava/lang/Object;)Z" } : Jvm.MethodName)) ∈ lw_all := lw_g (lw_at lw_m7 33 rfl) rfl
theorem q2064 : (Jvm.Cond.castable "Splitpointer$Store" "java/lang/Object") ∈ lw_tbl := lw_at lw_m9 81 rfl
theorem in_X2 : ∀ w ∈ wsX20, w ∈ lw_all := lw_in wsX20 [312, 314, 316, 318, 320, 322, 324, 326, 328, 330, 332] (by decide +kernel) (by decide +kernel)
